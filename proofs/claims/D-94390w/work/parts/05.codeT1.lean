set_option maxRecDepth 100000
abbrev cX9_cond : ByteArray := prog_23_method_26_code
def yX9_cond : MethodName := ⟨RX9, "cond", "()Z"⟩
def dkwX9_cond_11 : List UInt8 := [28, 153, 0, 12, 42, 182, 0, 230, 154, 0, 5, 3, 172, 167, 255, 0, 4, 172]
abbrev dktX9_cond_11 : List UInt8 := dkwX9_cond_11 ++ []
def dkwX9_cond_10 : List UInt8 := [182, 1, 15, 153, 0, 7, 4, 167, 0, 4, 3, 61, 42, 16, 12, 182, 1, 15, 153, 0, 6, 132, 1, 1]
abbrev dktX9_cond_10 : List UInt8 := dkwX9_cond_10 ++ dktX9_cond_11
def dkwX9_cond_9 : List UInt8 := [27, 79, 42, 180, 0, 45, 4, 92, 46, 4, 96, 79, 42, 16, 11, 182, 1, 15, 154, 0, 12, 42, 16, 12]
abbrev dktX9_cond_9 : List UInt8 := dkwX9_cond_9 ++ dktX9_cond_10
def dkwX9_cond_8 : List UInt8 := [180, 0, 61, 29, 42, 180, 0, 36, 4, 46, 79, 42, 180, 0, 48, 29, 21, 4, 84, 42, 180, 0, 64, 29]
abbrev dktX9_cond_8 : List UInt8 := dkwX9_cond_8 ++ dktX9_cond_9
def dkwX9_cond_7 : List UInt8 := [180, 0, 218, 46, 79, 42, 182, 0, 230, 153, 0, 10, 42, 182, 1, 18, 154, 0, 5, 3, 172, 42]
abbrev dktX9_cond_7 : List UInt8 := dkwX9_cond_7 ++ dktX9_cond_8
def dkwX9_cond_6 : List UInt8 := [54, 5, 21, 5, 154, 0, 9, 42, 4, 182, 0, 227, 172, 42, 180, 0, 52, 29, 42, 180, 0, 19, 42]
abbrev dktX9_cond_6 : List UInt8 := dkwX9_cond_6 ++ dktX9_cond_7
def dkwX9_cond_5 : List UInt8 := [17, 1, 46, 182, 1, 0, 154, 0, 12, 42, 16, 60, 182, 1, 0, 153, 0, 7, 4, 167, 0, 4, 3]
abbrev dktX9_cond_5 : List UInt8 := dkwX9_cond_5 ++ dktX9_cond_6
def dkwX9_cond_4 : List UInt8 := [4, 46, 79, 42, 17, 1, 44, 182, 1, 0, 154, 0, 32, 42, 17, 1, 45, 182, 1, 0, 154, 0, 22, 42]
abbrev dktX9_cond_4 : List UInt8 := dkwX9_cond_4 ++ dktX9_cond_5
def dkwX9_cond_3 : List UInt8 := [154, 0, 5, 3, 172, 42, 180, 0, 55, 29, 42, 180, 0, 253, 79, 42, 180, 0, 58, 29, 42, 180, 0, 36]
abbrev dktX9_cond_3 : List UInt8 := dkwX9_cond_3 ++ dktX9_cond_4
def dkwX9_cond_2 : List UInt8 := [154, 0, 5, 3, 172, 21, 4, 154, 0, 7, 4, 167, 0, 4, 3, 54, 4, 167, 255, 226, 42, 182, 1, 18]
abbrev dktX9_cond_2 : List UInt8 := dkwX9_cond_2 ++ dktX9_cond_3
def dkwX9_cond_1 : List UInt8 := [180, 0, 45, 4, 46, 96, 62, 3, 54, 4, 42, 16, 10, 182, 1, 15, 153, 0, 27, 42, 182, 0, 230]
abbrev dktX9_cond_1 : List UInt8 := dkwX9_cond_1 ++ dktX9_cond_2
def dkwX9_cond_0 : List UInt8 := [42, 42, 180, 0, 45, 4, 46, 181, 1, 12, 3, 60, 4, 61, 28, 153, 1, 2, 17, 0, 200, 42]
abbrev dktX9_cond_0 : List UInt8 := dkwX9_cond_0 ++ dktX9_cond_1
theorem dksX9_cond_0 : cX9_cond.data.toList.drop 0 = dktX9_cond_0 := by decide +kernel
theorem dksX9_cond_1 : cX9_cond.data.toList.drop 22 = dktX9_cond_1 := dk_seg dksX9_cond_0 22 rfl rfl
theorem dksX9_cond_2 : cX9_cond.data.toList.drop 45 = dktX9_cond_2 := dk_seg dksX9_cond_1 23 rfl rfl
theorem dksX9_cond_3 : cX9_cond.data.toList.drop 69 = dktX9_cond_3 := dk_seg dksX9_cond_2 24 rfl rfl
theorem dksX9_cond_4 : cX9_cond.data.toList.drop 93 = dktX9_cond_4 := dk_seg dksX9_cond_3 24 rfl rfl
theorem dksX9_cond_5 : cX9_cond.data.toList.drop 117 = dktX9_cond_5 := dk_seg dksX9_cond_4 24 rfl rfl
theorem dksX9_cond_6 : cX9_cond.data.toList.drop 140 = dktX9_cond_6 := dk_seg dksX9_cond_5 23 rfl rfl
theorem dksX9_cond_7 : cX9_cond.data.toList.drop 163 = dktX9_cond_7 := dk_seg dksX9_cond_6 23 rfl rfl
theorem dksX9_cond_8 : cX9_cond.data.toList.drop 185 = dktX9_cond_8 := dk_seg dksX9_cond_7 22 rfl rfl
theorem dksX9_cond_9 : cX9_cond.data.toList.drop 209 = dktX9_cond_9 := dk_seg dksX9_cond_8 24 rfl rfl
theorem dksX9_cond_10 : cX9_cond.data.toList.drop 233 = dktX9_cond_10 := dk_seg dksX9_cond_9 24 rfl rfl
theorem dksX9_cond_11 : cX9_cond.data.toList.drop 257 = dktX9_cond_11 := dk_seg dksX9_cond_10 24 rfl rfl
theorem dX9_cond_0 : decode cX9_cond 0 = .ok (.aload_n 0, 1) := dk_42 (dk_at dksX9_cond_0 0 rfl rfl)
theorem dX9_cond_1 : decode cX9_cond 1 = .ok (.aload_n 0, 1) := dk_42 (dk_at dksX9_cond_0 1 rfl rfl)
theorem dX9_cond_2 : decode cX9_cond 2 = .ok (.getfield 45, 3) := dk_180 0 45 (dk_at dksX9_cond_0 2 rfl rfl)
theorem dX9_cond_5 : decode cX9_cond 5 = .ok (.iconst 1, 1) := dk_4 (dk_at dksX9_cond_0 5 rfl rfl)
theorem dX9_cond_6 : decode cX9_cond 6 = .ok (.iaload, 1) := dk_46 (dk_at dksX9_cond_0 6 rfl rfl)
theorem dX9_cond_7 : decode cX9_cond 7 = .ok (.putfield 268, 3) := dk_181 1 12 (dk_at dksX9_cond_0 7 rfl rfl)
theorem dX9_cond_10 : decode cX9_cond 10 = .ok (.iconst 0, 1) := dk_3 (dk_at dksX9_cond_0 10 rfl rfl)
theorem dX9_cond_11 : decode cX9_cond 11 = .ok (.istore_n 1, 1) := dk_60 (dk_at dksX9_cond_0 11 rfl rfl)
theorem dX9_cond_12 : decode cX9_cond 12 = .ok (.iconst 1, 1) := dk_4 (dk_at dksX9_cond_0 12 rfl rfl)
theorem dX9_cond_13 : decode cX9_cond 13 = .ok (.istore_n 2, 1) := dk_61 (dk_at dksX9_cond_0 13 rfl rfl)
theorem dX9_cond_14 : decode cX9_cond 14 = .ok (.iload_n 2, 1) := dk_28 (dk_at dksX9_cond_0 14 rfl rfl)
theorem dX9_cond_15 : decode cX9_cond 15 = .ok (.ifCond .eq 258, 3) := dk_153 1 2 (dk_at dksX9_cond_0 15 rfl rfl)
theorem dX9_cond_18 : decode cX9_cond 18 = .ok (.sipush 200, 3) := dk_17 0 200 (dk_at dksX9_cond_0 18 rfl rfl)
theorem dX9_cond_21 : decode cX9_cond 21 = .ok (.aload_n 0, 1) := dk_42 (dk_at dksX9_cond_0 21 rfl rfl)
theorem dX9_cond_22 : decode cX9_cond 22 = .ok (.getfield 45, 3) := dk_180 0 45 (dk_at dksX9_cond_1 0 rfl rfl)
theorem dX9_cond_25 : decode cX9_cond 25 = .ok (.iconst 1, 1) := dk_4 (dk_at dksX9_cond_1 3 rfl rfl)
theorem dX9_cond_26 : decode cX9_cond 26 = .ok (.iaload, 1) := dk_46 (dk_at dksX9_cond_1 4 rfl rfl)
theorem dX9_cond_27 : decode cX9_cond 27 = .ok (.iadd, 1) := dk_96 (dk_at dksX9_cond_1 5 rfl rfl)
theorem dX9_cond_28 : decode cX9_cond 28 = .ok (.istore_n 3, 1) := dk_62 (dk_at dksX9_cond_1 6 rfl rfl)
theorem dX9_cond_29 : decode cX9_cond 29 = .ok (.iconst 0, 1) := dk_3 (dk_at dksX9_cond_1 7 rfl rfl)
theorem dX9_cond_30 : decode cX9_cond 30 = .ok (.istore 4, 2) := dk_54 4 (dk_at dksX9_cond_1 8 rfl rfl)
theorem dX9_cond_32 : decode cX9_cond 32 = .ok (.aload_n 0, 1) := dk_42 (dk_at dksX9_cond_1 10 rfl rfl)
theorem dX9_cond_33 : decode cX9_cond 33 = .ok (.bipush 10, 2) := dk_16 10 (dk_at dksX9_cond_1 11 rfl rfl)
theorem dX9_cond_35 : decode cX9_cond 35 = .ok (.invokevirtual 271, 3) := dk_182 1 15 (dk_at dksX9_cond_1 13 rfl rfl)
theorem dX9_cond_38 : decode cX9_cond 38 = .ok (.ifCond .eq 27, 3) := dk_153 0 27 (dk_at dksX9_cond_1 16 rfl rfl)
theorem dX9_cond_41 : decode cX9_cond 41 = .ok (.aload_n 0, 1) := dk_42 (dk_at dksX9_cond_1 19 rfl rfl)
theorem dX9_cond_42 : decode cX9_cond 42 = .ok (.invokevirtual 230, 3) := dk_182 0 230 (dk_at dksX9_cond_1 20 rfl rfl)
theorem dX9_cond_45 : decode cX9_cond 45 = .ok (.ifCond .ne 5, 3) := dk_154 0 5 (dk_at dksX9_cond_2 0 rfl rfl)
theorem dX9_cond_48 : decode cX9_cond 48 = .ok (.iconst 0, 1) := dk_3 (dk_at dksX9_cond_2 3 rfl rfl)
theorem dX9_cond_49 : decode cX9_cond 49 = .ok (.ireturn, 1) := dk_172 (dk_at dksX9_cond_2 4 rfl rfl)
theorem dX9_cond_50 : decode cX9_cond 50 = .ok (.iload 4, 2) := dk_21 4 (dk_at dksX9_cond_2 5 rfl rfl)
theorem dX9_cond_52 : decode cX9_cond 52 = .ok (.ifCond .ne 7, 3) := dk_154 0 7 (dk_at dksX9_cond_2 7 rfl rfl)
theorem dX9_cond_55 : decode cX9_cond 55 = .ok (.iconst 1, 1) := dk_4 (dk_at dksX9_cond_2 10 rfl rfl)
theorem dX9_cond_56 : decode cX9_cond 56 = .ok (.goto 4, 3) := dk_167 0 4 (dk_at dksX9_cond_2 11 rfl rfl)
theorem dX9_cond_59 : decode cX9_cond 59 = .ok (.iconst 0, 1) := dk_3 (dk_at dksX9_cond_2 14 rfl rfl)
theorem dX9_cond_60 : decode cX9_cond 60 = .ok (.istore 4, 2) := dk_54 4 (dk_at dksX9_cond_2 15 rfl rfl)
theorem dX9_cond_62 : decode cX9_cond 62 = .ok (.goto (-30), 3) := dk_167 255 226 (dk_at dksX9_cond_2 17 rfl rfl)
theorem dX9_cond_65 : decode cX9_cond 65 = .ok (.aload_n 0, 1) := dk_42 (dk_at dksX9_cond_2 20 rfl rfl)
theorem dX9_cond_66 : decode cX9_cond 66 = .ok (.invokevirtual 274, 3) := dk_182 1 18 (dk_at dksX9_cond_2 21 rfl rfl)
theorem dX9_cond_69 : decode cX9_cond 69 = .ok (.ifCond .ne 5, 3) := dk_154 0 5 (dk_at dksX9_cond_3 0 rfl rfl)
theorem dX9_cond_72 : decode cX9_cond 72 = .ok (.iconst 0, 1) := dk_3 (dk_at dksX9_cond_3 3 rfl rfl)
theorem dX9_cond_73 : decode cX9_cond 73 = .ok (.ireturn, 1) := dk_172 (dk_at dksX9_cond_3 4 rfl rfl)
theorem dX9_cond_74 : decode cX9_cond 74 = .ok (.aload_n 0, 1) := dk_42 (dk_at dksX9_cond_3 5 rfl rfl)
theorem dX9_cond_75 : decode cX9_cond 75 = .ok (.getfield 55, 3) := dk_180 0 55 (dk_at dksX9_cond_3 6 rfl rfl)
theorem dX9_cond_78 : decode cX9_cond 78 = .ok (.iload_n 3, 1) := dk_29 (dk_at dksX9_cond_3 9 rfl rfl)
theorem dX9_cond_79 : decode cX9_cond 79 = .ok (.aload_n 0, 1) := dk_42 (dk_at dksX9_cond_3 10 rfl rfl)
theorem dX9_cond_80 : decode cX9_cond 80 = .ok (.getfield 253, 3) := dk_180 0 253 (dk_at dksX9_cond_3 11 rfl rfl)
theorem dX9_cond_83 : decode cX9_cond 83 = .ok (.iastore, 1) := dk_79 (dk_at dksX9_cond_3 14 rfl rfl)
theorem dX9_cond_84 : decode cX9_cond 84 = .ok (.aload_n 0, 1) := dk_42 (dk_at dksX9_cond_3 15 rfl rfl)
theorem dX9_cond_85 : decode cX9_cond 85 = .ok (.getfield 58, 3) := dk_180 0 58 (dk_at dksX9_cond_3 16 rfl rfl)
theorem dX9_cond_88 : decode cX9_cond 88 = .ok (.iload_n 3, 1) := dk_29 (dk_at dksX9_cond_3 19 rfl rfl)
theorem dX9_cond_89 : decode cX9_cond 89 = .ok (.aload_n 0, 1) := dk_42 (dk_at dksX9_cond_3 20 rfl rfl)
theorem dX9_cond_90 : decode cX9_cond 90 = .ok (.getfield 36, 3) := dk_180 0 36 (dk_at dksX9_cond_3 21 rfl rfl)
theorem dX9_cond_93 : decode cX9_cond 93 = .ok (.iconst 1, 1) := dk_4 (dk_at dksX9_cond_4 0 rfl rfl)
theorem dX9_cond_94 : decode cX9_cond 94 = .ok (.iaload, 1) := dk_46 (dk_at dksX9_cond_4 1 rfl rfl)
theorem dX9_cond_95 : decode cX9_cond 95 = .ok (.iastore, 1) := dk_79 (dk_at dksX9_cond_4 2 rfl rfl)
theorem dX9_cond_96 : decode cX9_cond 96 = .ok (.aload_n 0, 1) := dk_42 (dk_at dksX9_cond_4 3 rfl rfl)
theorem dX9_cond_97 : decode cX9_cond 97 = .ok (.sipush 300, 3) := dk_17 1 44 (dk_at dksX9_cond_4 4 rfl rfl)
theorem dX9_cond_100 : decode cX9_cond 100 = .ok (.invokevirtual 256, 3) := dk_182 1 0 (dk_at dksX9_cond_4 7 rfl rfl)
theorem dX9_cond_103 : decode cX9_cond 103 = .ok (.ifCond .ne 32, 3) := dk_154 0 32 (dk_at dksX9_cond_4 10 rfl rfl)
theorem dX9_cond_106 : decode cX9_cond 106 = .ok (.aload_n 0, 1) := dk_42 (dk_at dksX9_cond_4 13 rfl rfl)
theorem dX9_cond_107 : decode cX9_cond 107 = .ok (.sipush 301, 3) := dk_17 1 45 (dk_at dksX9_cond_4 14 rfl rfl)
theorem dX9_cond_110 : decode cX9_cond 110 = .ok (.invokevirtual 256, 3) := dk_182 1 0 (dk_at dksX9_cond_4 17 rfl rfl)
theorem dX9_cond_113 : decode cX9_cond 113 = .ok (.ifCond .ne 22, 3) := dk_154 0 22 (dk_at dksX9_cond_4 20 rfl rfl)
theorem dX9_cond_116 : decode cX9_cond 116 = .ok (.aload_n 0, 1) := dk_42 (dk_at dksX9_cond_4 23 rfl rfl)
theorem dX9_cond_117 : decode cX9_cond 117 = .ok (.sipush 302, 3) := dk_17 1 46 (dk_at dksX9_cond_5 0 rfl rfl)
theorem dX9_cond_120 : decode cX9_cond 120 = .ok (.invokevirtual 256, 3) := dk_182 1 0 (dk_at dksX9_cond_5 3 rfl rfl)
theorem dX9_cond_123 : decode cX9_cond 123 = .ok (.ifCond .ne 12, 3) := dk_154 0 12 (dk_at dksX9_cond_5 6 rfl rfl)
theorem dX9_cond_126 : decode cX9_cond 126 = .ok (.aload_n 0, 1) := dk_42 (dk_at dksX9_cond_5 9 rfl rfl)
theorem dX9_cond_127 : decode cX9_cond 127 = .ok (.bipush 60, 2) := dk_16 60 (dk_at dksX9_cond_5 10 rfl rfl)
theorem dX9_cond_129 : decode cX9_cond 129 = .ok (.invokevirtual 256, 3) := dk_182 1 0 (dk_at dksX9_cond_5 12 rfl rfl)
theorem dX9_cond_132 : decode cX9_cond 132 = .ok (.ifCond .eq 7, 3) := dk_153 0 7 (dk_at dksX9_cond_5 15 rfl rfl)
theorem dX9_cond_135 : decode cX9_cond 135 = .ok (.iconst 1, 1) := dk_4 (dk_at dksX9_cond_5 18 rfl rfl)
theorem dX9_cond_136 : decode cX9_cond 136 = .ok (.goto 4, 3) := dk_167 0 4 (dk_at dksX9_cond_5 19 rfl rfl)
theorem dX9_cond_139 : decode cX9_cond 139 = .ok (.iconst 0, 1) := dk_3 (dk_at dksX9_cond_5 22 rfl rfl)
theorem dX9_cond_140 : decode cX9_cond 140 = .ok (.istore 5, 2) := dk_54 5 (dk_at dksX9_cond_6 0 rfl rfl)
theorem dX9_cond_142 : decode cX9_cond 142 = .ok (.iload 5, 2) := dk_21 5 (dk_at dksX9_cond_6 2 rfl rfl)
theorem dX9_cond_144 : decode cX9_cond 144 = .ok (.ifCond .ne 9, 3) := dk_154 0 9 (dk_at dksX9_cond_6 4 rfl rfl)
theorem dX9_cond_147 : decode cX9_cond 147 = .ok (.aload_n 0, 1) := dk_42 (dk_at dksX9_cond_6 7 rfl rfl)
theorem dX9_cond_148 : decode cX9_cond 148 = .ok (.iconst 1, 1) := dk_4 (dk_at dksX9_cond_6 8 rfl rfl)
theorem dX9_cond_149 : decode cX9_cond 149 = .ok (.invokevirtual 227, 3) := dk_182 0 227 (dk_at dksX9_cond_6 9 rfl rfl)
theorem dX9_cond_152 : decode cX9_cond 152 = .ok (.ireturn, 1) := dk_172 (dk_at dksX9_cond_6 12 rfl rfl)
theorem dX9_cond_153 : decode cX9_cond 153 = .ok (.aload_n 0, 1) := dk_42 (dk_at dksX9_cond_6 13 rfl rfl)
theorem dX9_cond_154 : decode cX9_cond 154 = .ok (.getfield 52, 3) := dk_180 0 52 (dk_at dksX9_cond_6 14 rfl rfl)
theorem dX9_cond_157 : decode cX9_cond 157 = .ok (.iload_n 3, 1) := dk_29 (dk_at dksX9_cond_6 17 rfl rfl)
theorem dX9_cond_158 : decode cX9_cond 158 = .ok (.aload_n 0, 1) := dk_42 (dk_at dksX9_cond_6 18 rfl rfl)
theorem dX9_cond_159 : decode cX9_cond 159 = .ok (.getfield 19, 3) := dk_180 0 19 (dk_at dksX9_cond_6 19 rfl rfl)
theorem dX9_cond_162 : decode cX9_cond 162 = .ok (.aload_n 0, 1) := dk_42 (dk_at dksX9_cond_6 22 rfl rfl)
theorem dX9_cond_163 : decode cX9_cond 163 = .ok (.getfield 218, 3) := dk_180 0 218 (dk_at dksX9_cond_7 0 rfl rfl)
theorem dX9_cond_166 : decode cX9_cond 166 = .ok (.iaload, 1) := dk_46 (dk_at dksX9_cond_7 3 rfl rfl)
theorem dX9_cond_167 : decode cX9_cond 167 = .ok (.iastore, 1) := dk_79 (dk_at dksX9_cond_7 4 rfl rfl)
theorem dX9_cond_168 : decode cX9_cond 168 = .ok (.aload_n 0, 1) := dk_42 (dk_at dksX9_cond_7 5 rfl rfl)
theorem dX9_cond_169 : decode cX9_cond 169 = .ok (.invokevirtual 230, 3) := dk_182 0 230 (dk_at dksX9_cond_7 6 rfl rfl)
theorem dX9_cond_172 : decode cX9_cond 172 = .ok (.ifCond .eq 10, 3) := dk_153 0 10 (dk_at dksX9_cond_7 9 rfl rfl)
theorem dX9_cond_175 : decode cX9_cond 175 = .ok (.aload_n 0, 1) := dk_42 (dk_at dksX9_cond_7 12 rfl rfl)
theorem dX9_cond_176 : decode cX9_cond 176 = .ok (.invokevirtual 274, 3) := dk_182 1 18 (dk_at dksX9_cond_7 13 rfl rfl)
theorem dX9_cond_179 : decode cX9_cond 179 = .ok (.ifCond .ne 5, 3) := dk_154 0 5 (dk_at dksX9_cond_7 16 rfl rfl)
theorem dX9_cond_182 : decode cX9_cond 182 = .ok (.iconst 0, 1) := dk_3 (dk_at dksX9_cond_7 19 rfl rfl)
theorem dX9_cond_183 : decode cX9_cond 183 = .ok (.ireturn, 1) := dk_172 (dk_at dksX9_cond_7 20 rfl rfl)
theorem dX9_cond_184 : decode cX9_cond 184 = .ok (.aload_n 0, 1) := dk_42 (dk_at dksX9_cond_7 21 rfl rfl)
theorem dX9_cond_185 : decode cX9_cond 185 = .ok (.getfield 61, 3) := dk_180 0 61 (dk_at dksX9_cond_8 0 rfl rfl)
theorem dX9_cond_188 : decode cX9_cond 188 = .ok (.iload_n 3, 1) := dk_29 (dk_at dksX9_cond_8 3 rfl rfl)
theorem dX9_cond_189 : decode cX9_cond 189 = .ok (.aload_n 0, 1) := dk_42 (dk_at dksX9_cond_8 4 rfl rfl)
theorem dX9_cond_190 : decode cX9_cond 190 = .ok (.getfield 36, 3) := dk_180 0 36 (dk_at dksX9_cond_8 5 rfl rfl)
theorem dX9_cond_193 : decode cX9_cond 193 = .ok (.iconst 1, 1) := dk_4 (dk_at dksX9_cond_8 8 rfl rfl)
theorem dX9_cond_194 : decode cX9_cond 194 = .ok (.iaload, 1) := dk_46 (dk_at dksX9_cond_8 9 rfl rfl)
theorem dX9_cond_195 : decode cX9_cond 195 = .ok (.iastore, 1) := dk_79 (dk_at dksX9_cond_8 10 rfl rfl)
theorem dX9_cond_196 : decode cX9_cond 196 = .ok (.aload_n 0, 1) := dk_42 (dk_at dksX9_cond_8 11 rfl rfl)
theorem dX9_cond_197 : decode cX9_cond 197 = .ok (.getfield 48, 3) := dk_180 0 48 (dk_at dksX9_cond_8 12 rfl rfl)
theorem dX9_cond_200 : decode cX9_cond 200 = .ok (.iload_n 3, 1) := dk_29 (dk_at dksX9_cond_8 15 rfl rfl)
theorem dX9_cond_201 : decode cX9_cond 201 = .ok (.iload 4, 2) := dk_21 4 (dk_at dksX9_cond_8 16 rfl rfl)
theorem dX9_cond_203 : decode cX9_cond 203 = .ok (.bastore, 1) := dk_84 (dk_at dksX9_cond_8 18 rfl rfl)
theorem dX9_cond_204 : decode cX9_cond 204 = .ok (.aload_n 0, 1) := dk_42 (dk_at dksX9_cond_8 19 rfl rfl)
theorem dX9_cond_205 : decode cX9_cond 205 = .ok (.getfield 64, 3) := dk_180 0 64 (dk_at dksX9_cond_8 20 rfl rfl)
theorem dX9_cond_208 : decode cX9_cond 208 = .ok (.iload_n 3, 1) := dk_29 (dk_at dksX9_cond_8 23 rfl rfl)
theorem dX9_cond_209 : decode cX9_cond 209 = .ok (.iload_n 1, 1) := dk_27 (dk_at dksX9_cond_9 0 rfl rfl)
theorem dX9_cond_210 : decode cX9_cond 210 = .ok (.iastore, 1) := dk_79 (dk_at dksX9_cond_9 1 rfl rfl)
theorem dX9_cond_211 : decode cX9_cond 211 = .ok (.aload_n 0, 1) := dk_42 (dk_at dksX9_cond_9 2 rfl rfl)
theorem dX9_cond_212 : decode cX9_cond 212 = .ok (.getfield 45, 3) := dk_180 0 45 (dk_at dksX9_cond_9 3 rfl rfl)
theorem dX9_cond_215 : decode cX9_cond 215 = .ok (.iconst 1, 1) := dk_4 (dk_at dksX9_cond_9 6 rfl rfl)
theorem dX9_cond_216 : decode cX9_cond 216 = .ok (.dup2, 1) := dk_92 (dk_at dksX9_cond_9 7 rfl rfl)
theorem dX9_cond_217 : decode cX9_cond 217 = .ok (.iaload, 1) := dk_46 (dk_at dksX9_cond_9 8 rfl rfl)
theorem dX9_cond_218 : decode cX9_cond 218 = .ok (.iconst 1, 1) := dk_4 (dk_at dksX9_cond_9 9 rfl rfl)
theorem dX9_cond_219 : decode cX9_cond 219 = .ok (.iadd, 1) := dk_96 (dk_at dksX9_cond_9 10 rfl rfl)
theorem dX9_cond_220 : decode cX9_cond 220 = .ok (.iastore, 1) := dk_79 (dk_at dksX9_cond_9 11 rfl rfl)
theorem dX9_cond_221 : decode cX9_cond 221 = .ok (.aload_n 0, 1) := dk_42 (dk_at dksX9_cond_9 12 rfl rfl)
theorem dX9_cond_222 : decode cX9_cond 222 = .ok (.bipush 11, 2) := dk_16 11 (dk_at dksX9_cond_9 13 rfl rfl)
theorem dX9_cond_224 : decode cX9_cond 224 = .ok (.invokevirtual 271, 3) := dk_182 1 15 (dk_at dksX9_cond_9 15 rfl rfl)
theorem dX9_cond_227 : decode cX9_cond 227 = .ok (.ifCond .ne 12, 3) := dk_154 0 12 (dk_at dksX9_cond_9 18 rfl rfl)
theorem dX9_cond_230 : decode cX9_cond 230 = .ok (.aload_n 0, 1) := dk_42 (dk_at dksX9_cond_9 21 rfl rfl)
theorem dX9_cond_231 : decode cX9_cond 231 = .ok (.bipush 12, 2) := dk_16 12 (dk_at dksX9_cond_9 22 rfl rfl)
theorem dX9_cond_233 : decode cX9_cond 233 = .ok (.invokevirtual 271, 3) := dk_182 1 15 (dk_at dksX9_cond_10 0 rfl rfl)
theorem dX9_cond_236 : decode cX9_cond 236 = .ok (.ifCond .eq 7, 3) := dk_153 0 7 (dk_at dksX9_cond_10 3 rfl rfl)
theorem dX9_cond_239 : decode cX9_cond 239 = .ok (.iconst 1, 1) := dk_4 (dk_at dksX9_cond_10 6 rfl rfl)
theorem dX9_cond_240 : decode cX9_cond 240 = .ok (.goto 4, 3) := dk_167 0 4 (dk_at dksX9_cond_10 7 rfl rfl)
theorem dX9_cond_243 : decode cX9_cond 243 = .ok (.iconst 0, 1) := dk_3 (dk_at dksX9_cond_10 10 rfl rfl)
theorem dX9_cond_244 : decode cX9_cond 244 = .ok (.istore_n 2, 1) := dk_61 (dk_at dksX9_cond_10 11 rfl rfl)
theorem dX9_cond_245 : decode cX9_cond 245 = .ok (.aload_n 0, 1) := dk_42 (dk_at dksX9_cond_10 12 rfl rfl)
theorem dX9_cond_246 : decode cX9_cond 246 = .ok (.bipush 12, 2) := dk_16 12 (dk_at dksX9_cond_10 13 rfl rfl)
theorem dX9_cond_248 : decode cX9_cond 248 = .ok (.invokevirtual 271, 3) := dk_182 1 15 (dk_at dksX9_cond_10 15 rfl rfl)
theorem dX9_cond_251 : decode cX9_cond 251 = .ok (.ifCond .eq 6, 3) := dk_153 0 6 (dk_at dksX9_cond_10 18 rfl rfl)
theorem dX9_cond_254 : decode cX9_cond 254 = .ok (.iinc 1 1, 3) := dk_132 1 1 (dk_at dksX9_cond_10 21 rfl rfl)
theorem dX9_cond_257 : decode cX9_cond 257 = .ok (.iload_n 2, 1) := dk_28 (dk_at dksX9_cond_11 0 rfl rfl)
theorem dX9_cond_258 : decode cX9_cond 258 = .ok (.ifCond .eq 12, 3) := dk_153 0 12 (dk_at dksX9_cond_11 1 rfl rfl)
theorem dX9_cond_261 : decode cX9_cond 261 = .ok (.aload_n 0, 1) := dk_42 (dk_at dksX9_cond_11 4 rfl rfl)
theorem dX9_cond_262 : decode cX9_cond 262 = .ok (.invokevirtual 230, 3) := dk_182 0 230 (dk_at dksX9_cond_11 5 rfl rfl)
theorem dX9_cond_265 : decode cX9_cond 265 = .ok (.ifCond .ne 5, 3) := dk_154 0 5 (dk_at dksX9_cond_11 8 rfl rfl)
theorem dX9_cond_268 : decode cX9_cond 268 = .ok (.iconst 0, 1) := dk_3 (dk_at dksX9_cond_11 11 rfl rfl)
theorem dX9_cond_269 : decode cX9_cond 269 = .ok (.ireturn, 1) := dk_172 (dk_at dksX9_cond_11 12 rfl rfl)
theorem dX9_cond_270 : decode cX9_cond 270 = .ok (.goto (-256), 3) := dk_167 255 0 (dk_at dksX9_cond_11 13 rfl rfl)
theorem dX9_cond_273 : decode cX9_cond 273 = .ok (.iconst 1, 1) := dk_4 (dk_at dksX9_cond_11 16 rfl rfl)
theorem dX9_cond_274 : decode cX9_cond 274 = .ok (.ireturn, 1) := dk_172 (dk_at dksX9_cond_11 17 rfl rfl)
abbrev cX9_takesHold : ByteArray := prog_23_method_30_code
def yX9_takesHold : MethodName := ⟨RX9, "takesHold", "()V"⟩
def dkwX9_takesHold_8 : List UInt8 := [42, 182, 0, 122, 177]
abbrev dktX9_takesHold_8 : List UInt8 := dkwX9_takesHold_8 ++ []
def dkwX9_takesHold_7 : List UInt8 := [46, 79, 42, 180, 0, 64, 27, 42, 180, 0, 64, 17, 0, 200, 27, 96, 46, 79, 132, 1, 1, 167, 255, 150]
abbrev dktX9_takesHold_7 : List UInt8 := dkwX9_takesHold_7 ++ dktX9_takesHold_8
def dkwX9_takesHold_6 : List UInt8 := [180, 0, 58, 17, 0, 200, 27, 96, 46, 79, 42, 180, 0, 61, 27, 42, 180, 0, 61, 17, 0, 200, 27, 96]
abbrev dktX9_takesHold_6 : List UInt8 := dkwX9_takesHold_6 ++ dktX9_takesHold_7
def dkwX9_takesHold_5 : List UInt8 := [46, 79, 42, 180, 0, 55, 27, 42, 180, 0, 55, 17, 0, 200, 27, 96, 46, 79, 42, 180, 0, 58, 27, 42]
abbrev dktX9_takesHold_5 : List UInt8 := dkwX9_takesHold_5 ++ dktX9_takesHold_6
def dkwX9_takesHold_4 : List UInt8 := [180, 0, 48, 17, 0, 200, 27, 96, 51, 84, 42, 180, 0, 52, 27, 42, 180, 0, 52, 17, 0, 200, 27, 96]
abbrev dktX9_takesHold_4 : List UInt8 := dkwX9_takesHold_4 ++ dktX9_takesHold_5
def dkwX9_takesHold_3 : List UInt8 := [46, 79, 132, 1, 1, 167, 255, 214, 3, 60, 27, 17, 0, 200, 162, 0, 105, 42, 180, 0, 48, 27, 42]
abbrev dktX9_takesHold_3 : List UInt8 := dkwX9_takesHold_3 ++ dktX9_takesHold_4
def dkwX9_takesHold_2 : List UInt8 := [180, 0, 39, 17, 1, 244, 27, 96, 46, 79, 42, 180, 0, 42, 27, 42, 180, 0, 42, 17, 1, 244, 27, 96]
abbrev dktX9_takesHold_2 : List UInt8 := dkwX9_takesHold_2 ++ dktX9_takesHold_3
def dkwX9_takesHold_1 : List UInt8 := [79, 132, 1, 1, 167, 255, 230, 3, 60, 27, 17, 1, 244, 162, 0, 41, 42, 180, 0, 39, 27, 42]
abbrev dktX9_takesHold_1 : List UInt8 := dkwX9_takesHold_1 ++ dktX9_takesHold_2
def dkwX9_takesHold_0 : List UInt8 := [3, 60, 27, 17, 0, 210, 162, 0, 25, 42, 180, 0, 30, 27, 42, 180, 0, 30, 17, 0, 210, 27, 96, 46]
abbrev dktX9_takesHold_0 : List UInt8 := dkwX9_takesHold_0 ++ dktX9_takesHold_1
theorem dksX9_takesHold_0 : cX9_takesHold.data.toList.drop 0 = dktX9_takesHold_0 := by decide +kernel
theorem dksX9_takesHold_1 : cX9_takesHold.data.toList.drop 24 = dktX9_takesHold_1 := dk_seg dksX9_takesHold_0 24 rfl rfl
theorem dksX9_takesHold_2 : cX9_takesHold.data.toList.drop 46 = dktX9_takesHold_2 := dk_seg dksX9_takesHold_1 22 rfl rfl
theorem dksX9_takesHold_3 : cX9_takesHold.data.toList.drop 70 = dktX9_takesHold_3 := dk_seg dksX9_takesHold_2 24 rfl rfl
theorem dksX9_takesHold_4 : cX9_takesHold.data.toList.drop 93 = dktX9_takesHold_4 := dk_seg dksX9_takesHold_3 23 rfl rfl
theorem dksX9_takesHold_5 : cX9_takesHold.data.toList.drop 117 = dktX9_takesHold_5 := dk_seg dksX9_takesHold_4 24 rfl rfl
theorem dksX9_takesHold_6 : cX9_takesHold.data.toList.drop 141 = dktX9_takesHold_6 := dk_seg dksX9_takesHold_5 24 rfl rfl
theorem dksX9_takesHold_7 : cX9_takesHold.data.toList.drop 165 = dktX9_takesHold_7 := dk_seg dksX9_takesHold_6 24 rfl rfl
theorem dksX9_takesHold_8 : cX9_takesHold.data.toList.drop 189 = dktX9_takesHold_8 := dk_seg dksX9_takesHold_7 24 rfl rfl
theorem dX9_takesHold_0 : decode cX9_takesHold 0 = .ok (.iconst 0, 1) := dk_3 (dk_at dksX9_takesHold_0 0 rfl rfl)
theorem dX9_takesHold_1 : decode cX9_takesHold 1 = .ok (.istore_n 1, 1) := dk_60 (dk_at dksX9_takesHold_0 1 rfl rfl)
theorem dX9_takesHold_2 : decode cX9_takesHold 2 = .ok (.iload_n 1, 1) := dk_27 (dk_at dksX9_takesHold_0 2 rfl rfl)
theorem dX9_takesHold_3 : decode cX9_takesHold 3 = .ok (.sipush 210, 3) := dk_17 0 210 (dk_at dksX9_takesHold_0 3 rfl rfl)
theorem dX9_takesHold_6 : decode cX9_takesHold 6 = .ok (.if_icmp .ge 25, 3) := dk_162 0 25 (dk_at dksX9_takesHold_0 6 rfl rfl)
theorem dX9_takesHold_9 : decode cX9_takesHold 9 = .ok (.aload_n 0, 1) := dk_42 (dk_at dksX9_takesHold_0 9 rfl rfl)
theorem dX9_takesHold_10 : decode cX9_takesHold 10 = .ok (.getfield 30, 3) := dk_180 0 30 (dk_at dksX9_takesHold_0 10 rfl rfl)
theorem dX9_takesHold_13 : decode cX9_takesHold 13 = .ok (.iload_n 1, 1) := dk_27 (dk_at dksX9_takesHold_0 13 rfl rfl)
theorem dX9_takesHold_14 : decode cX9_takesHold 14 = .ok (.aload_n 0, 1) := dk_42 (dk_at dksX9_takesHold_0 14 rfl rfl)
theorem dX9_takesHold_15 : decode cX9_takesHold 15 = .ok (.getfield 30, 3) := dk_180 0 30 (dk_at dksX9_takesHold_0 15 rfl rfl)
theorem dX9_takesHold_18 : decode cX9_takesHold 18 = .ok (.sipush 210, 3) := dk_17 0 210 (dk_at dksX9_takesHold_0 18 rfl rfl)
theorem dX9_takesHold_21 : decode cX9_takesHold 21 = .ok (.iload_n 1, 1) := dk_27 (dk_at dksX9_takesHold_0 21 rfl rfl)
theorem dX9_takesHold_22 : decode cX9_takesHold 22 = .ok (.iadd, 1) := dk_96 (dk_at dksX9_takesHold_0 22 rfl rfl)
theorem dX9_takesHold_23 : decode cX9_takesHold 23 = .ok (.iaload, 1) := dk_46 (dk_at dksX9_takesHold_0 23 rfl rfl)
theorem dX9_takesHold_24 : decode cX9_takesHold 24 = .ok (.iastore, 1) := dk_79 (dk_at dksX9_takesHold_1 0 rfl rfl)
theorem dX9_takesHold_25 : decode cX9_takesHold 25 = .ok (.iinc 1 1, 3) := dk_132 1 1 (dk_at dksX9_takesHold_1 1 rfl rfl)
theorem dX9_takesHold_28 : decode cX9_takesHold 28 = .ok (.goto (-26), 3) := dk_167 255 230 (dk_at dksX9_takesHold_1 4 rfl rfl)
theorem dX9_takesHold_31 : decode cX9_takesHold 31 = .ok (.iconst 0, 1) := dk_3 (dk_at dksX9_takesHold_1 7 rfl rfl)
theorem dX9_takesHold_32 : decode cX9_takesHold 32 = .ok (.istore_n 1, 1) := dk_60 (dk_at dksX9_takesHold_1 8 rfl rfl)
theorem dX9_takesHold_33 : decode cX9_takesHold 33 = .ok (.iload_n 1, 1) := dk_27 (dk_at dksX9_takesHold_1 9 rfl rfl)
theorem dX9_takesHold_34 : decode cX9_takesHold 34 = .ok (.sipush 500, 3) := dk_17 1 244 (dk_at dksX9_takesHold_1 10 rfl rfl)
theorem dX9_takesHold_37 : decode cX9_takesHold 37 = .ok (.if_icmp .ge 41, 3) := dk_162 0 41 (dk_at dksX9_takesHold_1 13 rfl rfl)
theorem dX9_takesHold_40 : decode cX9_takesHold 40 = .ok (.aload_n 0, 1) := dk_42 (dk_at dksX9_takesHold_1 16 rfl rfl)
theorem dX9_takesHold_41 : decode cX9_takesHold 41 = .ok (.getfield 39, 3) := dk_180 0 39 (dk_at dksX9_takesHold_1 17 rfl rfl)
theorem dX9_takesHold_44 : decode cX9_takesHold 44 = .ok (.iload_n 1, 1) := dk_27 (dk_at dksX9_takesHold_1 20 rfl rfl)
theorem dX9_takesHold_45 : decode cX9_takesHold 45 = .ok (.aload_n 0, 1) := dk_42 (dk_at dksX9_takesHold_1 21 rfl rfl)
theorem dX9_takesHold_46 : decode cX9_takesHold 46 = .ok (.getfield 39, 3) := dk_180 0 39 (dk_at dksX9_takesHold_2 0 rfl rfl)
theorem dX9_takesHold_49 : decode cX9_takesHold 49 = .ok (.sipush 500, 3) := dk_17 1 244 (dk_at dksX9_takesHold_2 3 rfl rfl)
theorem dX9_takesHold_52 : decode cX9_takesHold 52 = .ok (.iload_n 1, 1) := dk_27 (dk_at dksX9_takesHold_2 6 rfl rfl)
theorem dX9_takesHold_53 : decode cX9_takesHold 53 = .ok (.iadd, 1) := dk_96 (dk_at dksX9_takesHold_2 7 rfl rfl)
theorem dX9_takesHold_54 : decode cX9_takesHold 54 = .ok (.iaload, 1) := dk_46 (dk_at dksX9_takesHold_2 8 rfl rfl)
theorem dX9_takesHold_55 : decode cX9_takesHold 55 = .ok (.iastore, 1) := dk_79 (dk_at dksX9_takesHold_2 9 rfl rfl)
theorem dX9_takesHold_56 : decode cX9_takesHold 56 = .ok (.aload_n 0, 1) := dk_42 (dk_at dksX9_takesHold_2 10 rfl rfl)
theorem dX9_takesHold_57 : decode cX9_takesHold 57 = .ok (.getfield 42, 3) := dk_180 0 42 (dk_at dksX9_takesHold_2 11 rfl rfl)
theorem dX9_takesHold_60 : decode cX9_takesHold 60 = .ok (.iload_n 1, 1) := dk_27 (dk_at dksX9_takesHold_2 14 rfl rfl)
theorem dX9_takesHold_61 : decode cX9_takesHold 61 = .ok (.aload_n 0, 1) := dk_42 (dk_at dksX9_takesHold_2 15 rfl rfl)
theorem dX9_takesHold_62 : decode cX9_takesHold 62 = .ok (.getfield 42, 3) := dk_180 0 42 (dk_at dksX9_takesHold_2 16 rfl rfl)
theorem dX9_takesHold_65 : decode cX9_takesHold 65 = .ok (.sipush 500, 3) := dk_17 1 244 (dk_at dksX9_takesHold_2 19 rfl rfl)
theorem dX9_takesHold_68 : decode cX9_takesHold 68 = .ok (.iload_n 1, 1) := dk_27 (dk_at dksX9_takesHold_2 22 rfl rfl)
theorem dX9_takesHold_69 : decode cX9_takesHold 69 = .ok (.iadd, 1) := dk_96 (dk_at dksX9_takesHold_2 23 rfl rfl)
theorem dX9_takesHold_70 : decode cX9_takesHold 70 = .ok (.iaload, 1) := dk_46 (dk_at dksX9_takesHold_3 0 rfl rfl)
theorem dX9_takesHold_71 : decode cX9_takesHold 71 = .ok (.iastore, 1) := dk_79 (dk_at dksX9_takesHold_3 1 rfl rfl)
theorem dX9_takesHold_72 : decode cX9_takesHold 72 = .ok (.iinc 1 1, 3) := dk_132 1 1 (dk_at dksX9_takesHold_3 2 rfl rfl)
theorem dX9_takesHold_75 : decode cX9_takesHold 75 = .ok (.goto (-42), 3) := dk_167 255 214 (dk_at dksX9_takesHold_3 5 rfl rfl)
theorem dX9_takesHold_78 : decode cX9_takesHold 78 = .ok (.iconst 0, 1) := dk_3 (dk_at dksX9_takesHold_3 8 rfl rfl)
theorem dX9_takesHold_79 : decode cX9_takesHold 79 = .ok (.istore_n 1, 1) := dk_60 (dk_at dksX9_takesHold_3 9 rfl rfl)
theorem dX9_takesHold_80 : decode cX9_takesHold 80 = .ok (.iload_n 1, 1) := dk_27 (dk_at dksX9_takesHold_3 10 rfl rfl)
theorem dX9_takesHold_81 : decode cX9_takesHold 81 = .ok (.sipush 200, 3) := dk_17 0 200 (dk_at dksX9_takesHold_3 11 rfl rfl)
theorem dX9_takesHold_84 : decode cX9_takesHold 84 = .ok (.if_icmp .ge 105, 3) := dk_162 0 105 (dk_at dksX9_takesHold_3 14 rfl rfl)
theorem dX9_takesHold_87 : decode cX9_takesHold 87 = .ok (.aload_n 0, 1) := dk_42 (dk_at dksX9_takesHold_3 17 rfl rfl)
theorem dX9_takesHold_88 : decode cX9_takesHold 88 = .ok (.getfield 48, 3) := dk_180 0 48 (dk_at dksX9_takesHold_3 18 rfl rfl)
theorem dX9_takesHold_91 : decode cX9_takesHold 91 = .ok (.iload_n 1, 1) := dk_27 (dk_at dksX9_takesHold_3 21 rfl rfl)
theorem dX9_takesHold_92 : decode cX9_takesHold 92 = .ok (.aload_n 0, 1) := dk_42 (dk_at dksX9_takesHold_3 22 rfl rfl)
theorem dX9_takesHold_93 : decode cX9_takesHold 93 = .ok (.getfield 48, 3) := dk_180 0 48 (dk_at dksX9_takesHold_4 0 rfl rfl)
theorem dX9_takesHold_96 : decode cX9_takesHold 96 = .ok (.sipush 200, 3) := dk_17 0 200 (dk_at dksX9_takesHold_4 3 rfl rfl)
theorem dX9_takesHold_99 : decode cX9_takesHold 99 = .ok (.iload_n 1, 1) := dk_27 (dk_at dksX9_takesHold_4 6 rfl rfl)
theorem dX9_takesHold_100 : decode cX9_takesHold 100 = .ok (.iadd, 1) := dk_96 (dk_at dksX9_takesHold_4 7 rfl rfl)
theorem dX9_takesHold_101 : decode cX9_takesHold 101 = .ok (.baload, 1) := dk_51 (dk_at dksX9_takesHold_4 8 rfl rfl)
theorem dX9_takesHold_102 : decode cX9_takesHold 102 = .ok (.bastore, 1) := dk_84 (dk_at dksX9_takesHold_4 9 rfl rfl)
theorem dX9_takesHold_103 : decode cX9_takesHold 103 = .ok (.aload_n 0, 1) := dk_42 (dk_at dksX9_takesHold_4 10 rfl rfl)
theorem dX9_takesHold_104 : decode cX9_takesHold 104 = .ok (.getfield 52, 3) := dk_180 0 52 (dk_at dksX9_takesHold_4 11 rfl rfl)
theorem dX9_takesHold_107 : decode cX9_takesHold 107 = .ok (.iload_n 1, 1) := dk_27 (dk_at dksX9_takesHold_4 14 rfl rfl)
theorem dX9_takesHold_108 : decode cX9_takesHold 108 = .ok (.aload_n 0, 1) := dk_42 (dk_at dksX9_takesHold_4 15 rfl rfl)
theorem dX9_takesHold_109 : decode cX9_takesHold 109 = .ok (.getfield 52, 3) := dk_180 0 52 (dk_at dksX9_takesHold_4 16 rfl rfl)
theorem dX9_takesHold_112 : decode cX9_takesHold 112 = .ok (.sipush 200, 3) := dk_17 0 200 (dk_at dksX9_takesHold_4 19 rfl rfl)
theorem dX9_takesHold_115 : decode cX9_takesHold 115 = .ok (.iload_n 1, 1) := dk_27 (dk_at dksX9_takesHold_4 22 rfl rfl)
theorem dX9_takesHold_116 : decode cX9_takesHold 116 = .ok (.iadd, 1) := dk_96 (dk_at dksX9_takesHold_4 23 rfl rfl)
theorem dX9_takesHold_117 : decode cX9_takesHold 117 = .ok (.iaload, 1) := dk_46 (dk_at dksX9_takesHold_5 0 rfl rfl)
theorem dX9_takesHold_118 : decode cX9_takesHold 118 = .ok (.iastore, 1) := dk_79 (dk_at dksX9_takesHold_5 1 rfl rfl)
theorem dX9_takesHold_119 : decode cX9_takesHold 119 = .ok (.aload_n 0, 1) := dk_42 (dk_at dksX9_takesHold_5 2 rfl rfl)
theorem dX9_takesHold_120 : decode cX9_takesHold 120 = .ok (.getfield 55, 3) := dk_180 0 55 (dk_at dksX9_takesHold_5 3 rfl rfl)
theorem dX9_takesHold_123 : decode cX9_takesHold 123 = .ok (.iload_n 1, 1) := dk_27 (dk_at dksX9_takesHold_5 6 rfl rfl)
theorem dX9_takesHold_124 : decode cX9_takesHold 124 = .ok (.aload_n 0, 1) := dk_42 (dk_at dksX9_takesHold_5 7 rfl rfl)
theorem dX9_takesHold_125 : decode cX9_takesHold 125 = .ok (.getfield 55, 3) := dk_180 0 55 (dk_at dksX9_takesHold_5 8 rfl rfl)
theorem dX9_takesHold_128 : decode cX9_takesHold 128 = .ok (.sipush 200, 3) := dk_17 0 200 (dk_at dksX9_takesHold_5 11 rfl rfl)
theorem dX9_takesHold_131 : decode cX9_takesHold 131 = .ok (.iload_n 1, 1) := dk_27 (dk_at dksX9_takesHold_5 14 rfl rfl)
theorem dX9_takesHold_132 : decode cX9_takesHold 132 = .ok (.iadd, 1) := dk_96 (dk_at dksX9_takesHold_5 15 rfl rfl)
theorem dX9_takesHold_133 : decode cX9_takesHold 133 = .ok (.iaload, 1) := dk_46 (dk_at dksX9_takesHold_5 16 rfl rfl)
theorem dX9_takesHold_134 : decode cX9_takesHold 134 = .ok (.iastore, 1) := dk_79 (dk_at dksX9_takesHold_5 17 rfl rfl)
theorem dX9_takesHold_135 : decode cX9_takesHold 135 = .ok (.aload_n 0, 1) := dk_42 (dk_at dksX9_takesHold_5 18 rfl rfl)
theorem dX9_takesHold_136 : decode cX9_takesHold 136 = .ok (.getfield 58, 3) := dk_180 0 58 (dk_at dksX9_takesHold_5 19 rfl rfl)
theorem dX9_takesHold_139 : decode cX9_takesHold 139 = .ok (.iload_n 1, 1) := dk_27 (dk_at dksX9_takesHold_5 22 rfl rfl)
theorem dX9_takesHold_140 : decode cX9_takesHold 140 = .ok (.aload_n 0, 1) := dk_42 (dk_at dksX9_takesHold_5 23 rfl rfl)
theorem dX9_takesHold_141 : decode cX9_takesHold 141 = .ok (.getfield 58, 3) := dk_180 0 58 (dk_at dksX9_takesHold_6 0 rfl rfl)
theorem dX9_takesHold_144 : decode cX9_takesHold 144 = .ok (.sipush 200, 3) := dk_17 0 200 (dk_at dksX9_takesHold_6 3 rfl rfl)
theorem dX9_takesHold_147 : decode cX9_takesHold 147 = .ok (.iload_n 1, 1) := dk_27 (dk_at dksX9_takesHold_6 6 rfl rfl)
theorem dX9_takesHold_148 : decode cX9_takesHold 148 = .ok (.iadd, 1) := dk_96 (dk_at dksX9_takesHold_6 7 rfl rfl)
theorem dX9_takesHold_149 : decode cX9_takesHold 149 = .ok (.iaload, 1) := dk_46 (dk_at dksX9_takesHold_6 8 rfl rfl)
theorem dX9_takesHold_150 : decode cX9_takesHold 150 = .ok (.iastore, 1) := dk_79 (dk_at dksX9_takesHold_6 9 rfl rfl)
theorem dX9_takesHold_151 : decode cX9_takesHold 151 = .ok (.aload_n 0, 1) := dk_42 (dk_at dksX9_takesHold_6 10 rfl rfl)
theorem dX9_takesHold_152 : decode cX9_takesHold 152 = .ok (.getfield 61, 3) := dk_180 0 61 (dk_at dksX9_takesHold_6 11 rfl rfl)
theorem dX9_takesHold_155 : decode cX9_takesHold 155 = .ok (.iload_n 1, 1) := dk_27 (dk_at dksX9_takesHold_6 14 rfl rfl)
theorem dX9_takesHold_156 : decode cX9_takesHold 156 = .ok (.aload_n 0, 1) := dk_42 (dk_at dksX9_takesHold_6 15 rfl rfl)
theorem dX9_takesHold_157 : decode cX9_takesHold 157 = .ok (.getfield 61, 3) := dk_180 0 61 (dk_at dksX9_takesHold_6 16 rfl rfl)
theorem dX9_takesHold_160 : decode cX9_takesHold 160 = .ok (.sipush 200, 3) := dk_17 0 200 (dk_at dksX9_takesHold_6 19 rfl rfl)
theorem dX9_takesHold_163 : decode cX9_takesHold 163 = .ok (.iload_n 1, 1) := dk_27 (dk_at dksX9_takesHold_6 22 rfl rfl)
theorem dX9_takesHold_164 : decode cX9_takesHold 164 = .ok (.iadd, 1) := dk_96 (dk_at dksX9_takesHold_6 23 rfl rfl)
theorem dX9_takesHold_165 : decode cX9_takesHold 165 = .ok (.iaload, 1) := dk_46 (dk_at dksX9_takesHold_7 0 rfl rfl)
theorem dX9_takesHold_166 : decode cX9_takesHold 166 = .ok (.iastore, 1) := dk_79 (dk_at dksX9_takesHold_7 1 rfl rfl)
theorem dX9_takesHold_167 : decode cX9_takesHold 167 = .ok (.aload_n 0, 1) := dk_42 (dk_at dksX9_takesHold_7 2 rfl rfl)
theorem dX9_takesHold_168 : decode cX9_takesHold 168 = .ok (.getfield 64, 3) := dk_180 0 64 (dk_at dksX9_takesHold_7 3 rfl rfl)
theorem dX9_takesHold_171 : decode cX9_takesHold 171 = .ok (.iload_n 1, 1) := dk_27 (dk_at dksX9_takesHold_7 6 rfl rfl)
theorem dX9_takesHold_172 : decode cX9_takesHold 172 = .ok (.aload_n 0, 1) := dk_42 (dk_at dksX9_takesHold_7 7 rfl rfl)
theorem dX9_takesHold_173 : decode cX9_takesHold 173 = .ok (.getfield 64, 3) := dk_180 0 64 (dk_at dksX9_takesHold_7 8 rfl rfl)
theorem dX9_takesHold_176 : decode cX9_takesHold 176 = .ok (.sipush 200, 3) := dk_17 0 200 (dk_at dksX9_takesHold_7 11 rfl rfl)
theorem dX9_takesHold_179 : decode cX9_takesHold 179 = .ok (.iload_n 1, 1) := dk_27 (dk_at dksX9_takesHold_7 14 rfl rfl)
theorem dX9_takesHold_180 : decode cX9_takesHold 180 = .ok (.iadd, 1) := dk_96 (dk_at dksX9_takesHold_7 15 rfl rfl)
theorem dX9_takesHold_181 : decode cX9_takesHold 181 = .ok (.iaload, 1) := dk_46 (dk_at dksX9_takesHold_7 16 rfl rfl)
theorem dX9_takesHold_182 : decode cX9_takesHold 182 = .ok (.iastore, 1) := dk_79 (dk_at dksX9_takesHold_7 17 rfl rfl)
theorem dX9_takesHold_183 : decode cX9_takesHold 183 = .ok (.iinc 1 1, 3) := dk_132 1 1 (dk_at dksX9_takesHold_7 18 rfl rfl)
theorem dX9_takesHold_186 : decode cX9_takesHold 186 = .ok (.goto (-106), 3) := dk_167 255 150 (dk_at dksX9_takesHold_7 21 rfl rfl)
theorem dX9_takesHold_189 : decode cX9_takesHold 189 = .ok (.aload_n 0, 1) := dk_42 (dk_at dksX9_takesHold_8 0 rfl rfl)
theorem dX9_takesHold_190 : decode cX9_takesHold 190 = .ok (.invokevirtual 122, 3) := dk_182 0 122 (dk_at dksX9_takesHold_8 1 rfl rfl)
theorem dX9_takesHold_193 : decode cX9_takesHold 193 = .ok (.return_, 1) := dk_177 (dk_at dksX9_takesHold_8 4 rfl rfl)
abbrev cX9_place : ByteArray := prog_23_method_47_code
def yX9_place : MethodName := ⟨RX9, "place", "()I"⟩
theorem dX9_place_0 : decode cX9_place 0 = .ok (.aload_n 0, 1) := by decide +kernel
theorem dX9_place_1 : decode cX9_place 1 = .ok (.getfield 26, 3) := by decide +kernel
theorem dX9_place_4 : decode cX9_place 4 = .ok (.ireturn, 1) := by decide +kernel
abbrev cX9_house : ByteArray := prog_23_method_61_code
def yX9_house : MethodName := ⟨RX9, "house", "(II)I"⟩
def dkwX9_house_4 : List UInt8 := [2, 172]
abbrev dktX9_house_4 : List UInt8 := dkwX9_house_4 ++ []
def dkwX9_house_3 : List UInt8 := [46, 172, 42, 180, 0, 33, 16, 30, 27, 96, 46, 172, 42, 27, 182, 1, 112, 172, 42, 27, 182, 1, 127, 172]
abbrev dktX9_house_3 : List UInt8 := dkwX9_house_3 ++ dktX9_house_4
def dkwX9_house_2 : List UInt8 := [42, 27, 182, 1, 115, 172, 42, 27, 182, 1, 124, 172, 42, 180, 0, 30, 16, 20, 6, 27, 104, 96, 5, 96]
abbrev dktX9_house_2 : List UInt8 := dkwX9_house_2 ++ dktX9_house_3
def dkwX9_house_1 : List UInt8 := [170, 0, 0, 0, 85, 0, 0, 0, 0, 0, 0, 0, 5, 0, 0, 0, 37, 0, 0, 0, 43, 0, 0, 0, 49, 0, 0, 0, 63, 0, 0, 0, 73, 0, 0, 0, 79]
abbrev dktX9_house_1 : List UInt8 := dkwX9_house_1 ++ dktX9_house_2
def dkwX9_house_0 : List UInt8 := [42, 27, 182, 1, 121, 154, 0, 5, 2, 172, 28]
abbrev dktX9_house_0 : List UInt8 := dkwX9_house_0 ++ dktX9_house_1
theorem dksX9_house_0 : cX9_house.data.toList.drop 0 = dktX9_house_0 := by decide +kernel
theorem dksX9_house_1 : cX9_house.data.toList.drop 11 = dktX9_house_1 := dk_seg dksX9_house_0 11 rfl rfl
theorem dksX9_house_2 : cX9_house.data.toList.drop 48 = dktX9_house_2 := dk_seg dksX9_house_1 37 rfl rfl
theorem dksX9_house_3 : cX9_house.data.toList.drop 72 = dktX9_house_3 := dk_seg dksX9_house_2 24 rfl rfl
theorem dksX9_house_4 : cX9_house.data.toList.drop 96 = dktX9_house_4 := dk_seg dksX9_house_3 24 rfl rfl
theorem dX9_house_0 : decode cX9_house 0 = .ok (.aload_n 0, 1) := dk_42 (dk_at dksX9_house_0 0 rfl rfl)
theorem dX9_house_1 : decode cX9_house 1 = .ok (.iload_n 1, 1) := dk_27 (dk_at dksX9_house_0 1 rfl rfl)
theorem dX9_house_2 : decode cX9_house 2 = .ok (.invokevirtual 377, 3) := dk_182 1 121 (dk_at dksX9_house_0 2 rfl rfl)
theorem dX9_house_5 : decode cX9_house 5 = .ok (.ifCond .ne 5, 3) := dk_154 0 5 (dk_at dksX9_house_0 5 rfl rfl)
theorem dX9_house_8 : decode cX9_house 8 = .ok (.iconst (-1), 1) := dk_2 (dk_at dksX9_house_0 8 rfl rfl)
theorem dX9_house_9 : decode cX9_house 9 = .ok (.ireturn, 1) := dk_172 (dk_at dksX9_house_0 9 rfl rfl)
theorem dX9_house_10 : decode cX9_house 10 = .ok (.iload_n 2, 1) := dk_28 (dk_at dksX9_house_0 10 rfl rfl)
theorem dX9_house_11 : decode cX9_house 11 = .ok (.tableswitch 85 0 5 #[37, 43, 49, 63, 73, 79], 37) := by decide +kernel
theorem dX9_house_48 : decode cX9_house 48 = .ok (.aload_n 0, 1) := dk_42 (dk_at dksX9_house_2 0 rfl rfl)
theorem dX9_house_49 : decode cX9_house 49 = .ok (.iload_n 1, 1) := dk_27 (dk_at dksX9_house_2 1 rfl rfl)
theorem dX9_house_50 : decode cX9_house 50 = .ok (.invokevirtual 371, 3) := dk_182 1 115 (dk_at dksX9_house_2 2 rfl rfl)
theorem dX9_house_53 : decode cX9_house 53 = .ok (.ireturn, 1) := dk_172 (dk_at dksX9_house_2 5 rfl rfl)
theorem dX9_house_54 : decode cX9_house 54 = .ok (.aload_n 0, 1) := dk_42 (dk_at dksX9_house_2 6 rfl rfl)
theorem dX9_house_55 : decode cX9_house 55 = .ok (.iload_n 1, 1) := dk_27 (dk_at dksX9_house_2 7 rfl rfl)
theorem dX9_house_56 : decode cX9_house 56 = .ok (.invokevirtual 380, 3) := dk_182 1 124 (dk_at dksX9_house_2 8 rfl rfl)
theorem dX9_house_59 : decode cX9_house 59 = .ok (.ireturn, 1) := dk_172 (dk_at dksX9_house_2 11 rfl rfl)
theorem dX9_house_60 : decode cX9_house 60 = .ok (.aload_n 0, 1) := dk_42 (dk_at dksX9_house_2 12 rfl rfl)
theorem dX9_house_61 : decode cX9_house 61 = .ok (.getfield 30, 3) := dk_180 0 30 (dk_at dksX9_house_2 13 rfl rfl)
theorem dX9_house_64 : decode cX9_house 64 = .ok (.bipush 20, 2) := dk_16 20 (dk_at dksX9_house_2 16 rfl rfl)
theorem dX9_house_66 : decode cX9_house 66 = .ok (.iconst 3, 1) := dk_6 (dk_at dksX9_house_2 18 rfl rfl)
theorem dX9_house_67 : decode cX9_house 67 = .ok (.iload_n 1, 1) := dk_27 (dk_at dksX9_house_2 19 rfl rfl)
theorem dX9_house_68 : decode cX9_house 68 = .ok (.imul, 1) := dk_104 (dk_at dksX9_house_2 20 rfl rfl)
theorem dX9_house_69 : decode cX9_house 69 = .ok (.iadd, 1) := dk_96 (dk_at dksX9_house_2 21 rfl rfl)
theorem dX9_house_70 : decode cX9_house 70 = .ok (.iconst 2, 1) := dk_5 (dk_at dksX9_house_2 22 rfl rfl)
theorem dX9_house_71 : decode cX9_house 71 = .ok (.iadd, 1) := dk_96 (dk_at dksX9_house_2 23 rfl rfl)
theorem dX9_house_72 : decode cX9_house 72 = .ok (.iaload, 1) := dk_46 (dk_at dksX9_house_3 0 rfl rfl)
theorem dX9_house_73 : decode cX9_house 73 = .ok (.ireturn, 1) := dk_172 (dk_at dksX9_house_3 1 rfl rfl)
theorem dX9_house_74 : decode cX9_house 74 = .ok (.aload_n 0, 1) := dk_42 (dk_at dksX9_house_3 2 rfl rfl)
theorem dX9_house_75 : decode cX9_house 75 = .ok (.getfield 33, 3) := dk_180 0 33 (dk_at dksX9_house_3 3 rfl rfl)
theorem dX9_house_78 : decode cX9_house 78 = .ok (.bipush 30, 2) := dk_16 30 (dk_at dksX9_house_3 6 rfl rfl)
theorem dX9_house_80 : decode cX9_house 80 = .ok (.iload_n 1, 1) := dk_27 (dk_at dksX9_house_3 8 rfl rfl)
theorem dX9_house_81 : decode cX9_house 81 = .ok (.iadd, 1) := dk_96 (dk_at dksX9_house_3 9 rfl rfl)
theorem dX9_house_82 : decode cX9_house 82 = .ok (.iaload, 1) := dk_46 (dk_at dksX9_house_3 10 rfl rfl)
theorem dX9_house_83 : decode cX9_house 83 = .ok (.ireturn, 1) := dk_172 (dk_at dksX9_house_3 11 rfl rfl)
theorem dX9_house_84 : decode cX9_house 84 = .ok (.aload_n 0, 1) := dk_42 (dk_at dksX9_house_3 12 rfl rfl)
theorem dX9_house_85 : decode cX9_house 85 = .ok (.iload_n 1, 1) := dk_27 (dk_at dksX9_house_3 13 rfl rfl)
theorem dX9_house_86 : decode cX9_house 86 = .ok (.invokevirtual 368, 3) := dk_182 1 112 (dk_at dksX9_house_3 14 rfl rfl)
theorem dX9_house_89 : decode cX9_house 89 = .ok (.ireturn, 1) := dk_172 (dk_at dksX9_house_3 17 rfl rfl)
theorem dX9_house_90 : decode cX9_house 90 = .ok (.aload_n 0, 1) := dk_42 (dk_at dksX9_house_3 18 rfl rfl)
theorem dX9_house_91 : decode cX9_house 91 = .ok (.iload_n 1, 1) := dk_27 (dk_at dksX9_house_3 19 rfl rfl)
theorem dX9_house_92 : decode cX9_house 92 = .ok (.invokevirtual 383, 3) := dk_182 1 127 (dk_at dksX9_house_3 20 rfl rfl)
theorem dX9_house_95 : decode cX9_house 95 = .ok (.ireturn, 1) := dk_172 (dk_at dksX9_house_3 23 rfl rfl)
theorem dX9_house_96 : decode cX9_house 96 = .ok (.iconst (-1), 1) := dk_2 (dk_at dksX9_house_4 0 rfl rfl)
theorem dX9_house_97 : decode cX9_house 97 = .ok (.ireturn, 1) := dk_172 (dk_at dksX9_house_4 1 rfl rfl)
abbrev cX9_isHouse : ByteArray := prog_23_method_55_code
def yX9_isHouse : MethodName := ⟨RX9, "isHouse", "(I)Z"⟩
def dkwX9_isHouse_0 : List UInt8 := [27, 155, 0, 17, 27, 42, 180, 0, 30, 3, 46, 162, 0, 7, 4, 167, 0, 4, 3, 172]
abbrev dktX9_isHouse_0 : List UInt8 := dkwX9_isHouse_0 ++ []
theorem dksX9_isHouse_0 : cX9_isHouse.data.toList.drop 0 = dktX9_isHouse_0 := by decide +kernel
theorem dX9_isHouse_0 : decode cX9_isHouse 0 = .ok (.iload_n 1, 1) := dk_27 (dk_at dksX9_isHouse_0 0 rfl rfl)
theorem dX9_isHouse_1 : decode cX9_isHouse 1 = .ok (.ifCond .lt 17, 3) := dk_155 0 17 (dk_at dksX9_isHouse_0 1 rfl rfl)
theorem dX9_isHouse_4 : decode cX9_isHouse 4 = .ok (.iload_n 1, 1) := dk_27 (dk_at dksX9_isHouse_0 4 rfl rfl)
theorem dX9_isHouse_5 : decode cX9_isHouse 5 = .ok (.aload_n 0, 1) := dk_42 (dk_at dksX9_isHouse_0 5 rfl rfl)
theorem dX9_isHouse_6 : decode cX9_isHouse 6 = .ok (.getfield 30, 3) := dk_180 0 30 (dk_at dksX9_isHouse_0 6 rfl rfl)
theorem dX9_isHouse_9 : decode cX9_isHouse 9 = .ok (.iconst 0, 1) := dk_3 (dk_at dksX9_isHouse_0 9 rfl rfl)
theorem dX9_isHouse_10 : decode cX9_isHouse 10 = .ok (.iaload, 1) := dk_46 (dk_at dksX9_isHouse_0 10 rfl rfl)
theorem dX9_isHouse_11 : decode cX9_isHouse 11 = .ok (.if_icmp .ge 7, 3) := dk_162 0 7 (dk_at dksX9_isHouse_0 11 rfl rfl)
theorem dX9_isHouse_14 : decode cX9_isHouse 14 = .ok (.iconst 1, 1) := dk_4 (dk_at dksX9_isHouse_0 14 rfl rfl)
theorem dX9_isHouse_15 : decode cX9_isHouse 15 = .ok (.goto 4, 3) := dk_167 0 4 (dk_at dksX9_isHouse_0 15 rfl rfl)
theorem dX9_isHouse_18 : decode cX9_isHouse 18 = .ok (.iconst 0, 1) := dk_3 (dk_at dksX9_isHouse_0 18 rfl rfl)
theorem dX9_isHouse_19 : decode cX9_isHouse 19 = .ok (.ireturn, 1) := dk_172 (dk_at dksX9_isHouse_0 19 rfl rfl)
abbrev cX9_xOf : ByteArray := prog_23_method_57_code
def yX9_xOf : MethodName := ⟨RX9, "xOf", "(I)I"⟩
def dkwX9_xOf_0 : List UInt8 := [42, 180, 0, 30, 16, 20, 6, 27, 104, 96, 46, 172]
abbrev dktX9_xOf_0 : List UInt8 := dkwX9_xOf_0 ++ []
theorem dksX9_xOf_0 : cX9_xOf.data.toList.drop 0 = dktX9_xOf_0 := by decide +kernel
theorem dX9_xOf_0 : decode cX9_xOf 0 = .ok (.aload_n 0, 1) := dk_42 (dk_at dksX9_xOf_0 0 rfl rfl)
theorem dX9_xOf_1 : decode cX9_xOf 1 = .ok (.getfield 30, 3) := dk_180 0 30 (dk_at dksX9_xOf_0 1 rfl rfl)
theorem dX9_xOf_4 : decode cX9_xOf 4 = .ok (.bipush 20, 2) := dk_16 20 (dk_at dksX9_xOf_0 4 rfl rfl)
theorem dX9_xOf_6 : decode cX9_xOf 6 = .ok (.iconst 3, 1) := dk_6 (dk_at dksX9_xOf_0 6 rfl rfl)
theorem dX9_xOf_7 : decode cX9_xOf 7 = .ok (.iload_n 1, 1) := dk_27 (dk_at dksX9_xOf_0 7 rfl rfl)
theorem dX9_xOf_8 : decode cX9_xOf 8 = .ok (.imul, 1) := dk_104 (dk_at dksX9_xOf_0 8 rfl rfl)
theorem dX9_xOf_9 : decode cX9_xOf 9 = .ok (.iadd, 1) := dk_96 (dk_at dksX9_xOf_0 9 rfl rfl)
theorem dX9_xOf_10 : decode cX9_xOf 10 = .ok (.iaload, 1) := dk_46 (dk_at dksX9_xOf_0 10 rfl rfl)
theorem dX9_xOf_11 : decode cX9_xOf 11 = .ok (.ireturn, 1) := dk_172 (dk_at dksX9_xOf_0 11 rfl rfl)
abbrev cX9_heightOf : ByteArray := prog_23_method_58_code
def yX9_heightOf : MethodName := ⟨RX9, "heightOf", "(I)I"⟩
def dkwX9_heightOf_0 : List UInt8 := [42, 180, 0, 33, 16, 10, 27, 96, 46, 172]
abbrev dktX9_heightOf_0 : List UInt8 := dkwX9_heightOf_0 ++ []
theorem dksX9_heightOf_0 : cX9_heightOf.data.toList.drop 0 = dktX9_heightOf_0 := by decide +kernel
theorem dX9_heightOf_0 : decode cX9_heightOf 0 = .ok (.aload_n 0, 1) := dk_42 (dk_at dksX9_heightOf_0 0 rfl rfl)
theorem dX9_heightOf_1 : decode cX9_heightOf 1 = .ok (.getfield 33, 3) := dk_180 0 33 (dk_at dksX9_heightOf_0 1 rfl rfl)
theorem dX9_heightOf_4 : decode cX9_heightOf 4 = .ok (.bipush 10, 2) := dk_16 10 (dk_at dksX9_heightOf_0 4 rfl rfl)
theorem dX9_heightOf_6 : decode cX9_heightOf 6 = .ok (.iload_n 1, 1) := dk_27 (dk_at dksX9_heightOf_0 6 rfl rfl)
theorem dX9_heightOf_7 : decode cX9_heightOf 7 = .ok (.iadd, 1) := dk_96 (dk_at dksX9_heightOf_0 7 rfl rfl)
theorem dX9_heightOf_8 : decode cX9_heightOf 8 = .ok (.iaload, 1) := dk_46 (dk_at dksX9_heightOf_0 8 rfl rfl)
theorem dX9_heightOf_9 : decode cX9_heightOf 9 = .ok (.ireturn, 1) := dk_172 (dk_at dksX9_heightOf_0 9 rfl rfl)
abbrev cX9_rankOf : ByteArray := prog_23_method_59_code
def yX9_rankOf : MethodName := ⟨RX9, "rankOf", "(I)I"⟩
def dkwX9_rankOf_1 : List UInt8 := [28, 96, 46, 172]
abbrev dktX9_rankOf_1 : List UInt8 := dkwX9_rankOf_1 ++ []
def dkwX9_rankOf_0 : List UInt8 := [42, 180, 0, 33, 16, 30, 27, 96, 46, 61, 28, 156, 0, 7, 3, 167, 0, 12, 42, 180, 0, 30, 16, 70]
abbrev dktX9_rankOf_0 : List UInt8 := dkwX9_rankOf_0 ++ dktX9_rankOf_1
theorem dksX9_rankOf_0 : cX9_rankOf.data.toList.drop 0 = dktX9_rankOf_0 := by decide +kernel
theorem dksX9_rankOf_1 : cX9_rankOf.data.toList.drop 24 = dktX9_rankOf_1 := dk_seg dksX9_rankOf_0 24 rfl rfl
theorem dX9_rankOf_0 : decode cX9_rankOf 0 = .ok (.aload_n 0, 1) := dk_42 (dk_at dksX9_rankOf_0 0 rfl rfl)
theorem dX9_rankOf_1 : decode cX9_rankOf 1 = .ok (.getfield 33, 3) := dk_180 0 33 (dk_at dksX9_rankOf_0 1 rfl rfl)
theorem dX9_rankOf_4 : decode cX9_rankOf 4 = .ok (.bipush 30, 2) := dk_16 30 (dk_at dksX9_rankOf_0 4 rfl rfl)
theorem dX9_rankOf_6 : decode cX9_rankOf 6 = .ok (.iload_n 1, 1) := dk_27 (dk_at dksX9_rankOf_0 6 rfl rfl)
theorem dX9_rankOf_7 : decode cX9_rankOf 7 = .ok (.iadd, 1) := dk_96 (dk_at dksX9_rankOf_0 7 rfl rfl)
theorem dX9_rankOf_8 : decode cX9_rankOf 8 = .ok (.iaload, 1) := dk_46 (dk_at dksX9_rankOf_0 8 rfl rfl)
theorem dX9_rankOf_9 : decode cX9_rankOf 9 = .ok (.istore_n 2, 1) := dk_61 (dk_at dksX9_rankOf_0 9 rfl rfl)
theorem dX9_rankOf_10 : decode cX9_rankOf 10 = .ok (.iload_n 2, 1) := dk_28 (dk_at dksX9_rankOf_0 10 rfl rfl)
theorem dX9_rankOf_11 : decode cX9_rankOf 11 = .ok (.ifCond .ge 7, 3) := dk_156 0 7 (dk_at dksX9_rankOf_0 11 rfl rfl)
theorem dX9_rankOf_14 : decode cX9_rankOf 14 = .ok (.iconst 0, 1) := dk_3 (dk_at dksX9_rankOf_0 14 rfl rfl)
theorem dX9_rankOf_15 : decode cX9_rankOf 15 = .ok (.goto 12, 3) := dk_167 0 12 (dk_at dksX9_rankOf_0 15 rfl rfl)
theorem dX9_rankOf_18 : decode cX9_rankOf 18 = .ok (.aload_n 0, 1) := dk_42 (dk_at dksX9_rankOf_0 18 rfl rfl)
theorem dX9_rankOf_19 : decode cX9_rankOf 19 = .ok (.getfield 30, 3) := dk_180 0 30 (dk_at dksX9_rankOf_0 19 rfl rfl)
theorem dX9_rankOf_22 : decode cX9_rankOf 22 = .ok (.bipush 70, 2) := dk_16 70 (dk_at dksX9_rankOf_0 22 rfl rfl)
theorem dX9_rankOf_24 : decode cX9_rankOf 24 = .ok (.iload_n 2, 1) := dk_28 (dk_at dksX9_rankOf_1 0 rfl rfl)
theorem dX9_rankOf_25 : decode cX9_rankOf 25 = .ok (.iadd, 1) := dk_96 (dk_at dksX9_rankOf_1 1 rfl rfl)
theorem dX9_rankOf_26 : decode cX9_rankOf 26 = .ok (.iaload, 1) := dk_46 (dk_at dksX9_rankOf_1 2 rfl rfl)
theorem dX9_rankOf_27 : decode cX9_rankOf 27 = .ok (.ireturn, 1) := dk_172 (dk_at dksX9_rankOf_1 3 rfl rfl)
abbrev cX9_dueOf : ByteArray := prog_23_method_60_code
def yX9_dueOf : MethodName := ⟨RX9, "dueOf", "(I)I"⟩
def dkwX9_dueOf_2 : List UInt8 := [27, 182, 1, 112, 182, 1, 118, 172]
abbrev dktX9_dueOf_2 : List UInt8 := dkwX9_dueOf_2 ++ []
def dkwX9_dueOf_1 : List UInt8 := [16, 20, 6, 27, 104, 96, 5, 96, 46, 79, 42, 180, 0, 82, 6, 42, 27, 182, 1, 115, 79, 42, 4, 42]
abbrev dktX9_dueOf_1 : List UInt8 := dkwX9_dueOf_1 ++ dktX9_dueOf_2
def dkwX9_dueOf_0 : List UInt8 := [42, 182, 1, 109, 42, 180, 0, 82, 4, 42, 27, 182, 1, 112, 79, 42, 180, 0, 82, 5, 42, 180, 0, 30]
abbrev dktX9_dueOf_0 : List UInt8 := dkwX9_dueOf_0 ++ dktX9_dueOf_1
theorem dksX9_dueOf_0 : cX9_dueOf.data.toList.drop 0 = dktX9_dueOf_0 := by decide +kernel
theorem dksX9_dueOf_1 : cX9_dueOf.data.toList.drop 24 = dktX9_dueOf_1 := dk_seg dksX9_dueOf_0 24 rfl rfl
theorem dksX9_dueOf_2 : cX9_dueOf.data.toList.drop 48 = dktX9_dueOf_2 := dk_seg dksX9_dueOf_1 24 rfl rfl
theorem dX9_dueOf_0 : decode cX9_dueOf 0 = .ok (.aload_n 0, 1) := dk_42 (dk_at dksX9_dueOf_0 0 rfl rfl)
theorem dX9_dueOf_1 : decode cX9_dueOf 1 = .ok (.invokevirtual 365, 3) := dk_182 1 109 (dk_at dksX9_dueOf_0 1 rfl rfl)
theorem dX9_dueOf_4 : decode cX9_dueOf 4 = .ok (.aload_n 0, 1) := dk_42 (dk_at dksX9_dueOf_0 4 rfl rfl)
theorem dX9_dueOf_5 : decode cX9_dueOf 5 = .ok (.getfield 82, 3) := dk_180 0 82 (dk_at dksX9_dueOf_0 5 rfl rfl)
theorem dX9_dueOf_8 : decode cX9_dueOf 8 = .ok (.iconst 1, 1) := dk_4 (dk_at dksX9_dueOf_0 8 rfl rfl)
theorem dX9_dueOf_9 : decode cX9_dueOf 9 = .ok (.aload_n 0, 1) := dk_42 (dk_at dksX9_dueOf_0 9 rfl rfl)
theorem dX9_dueOf_10 : decode cX9_dueOf 10 = .ok (.iload_n 1, 1) := dk_27 (dk_at dksX9_dueOf_0 10 rfl rfl)
theorem dX9_dueOf_11 : decode cX9_dueOf 11 = .ok (.invokevirtual 368, 3) := dk_182 1 112 (dk_at dksX9_dueOf_0 11 rfl rfl)
theorem dX9_dueOf_14 : decode cX9_dueOf 14 = .ok (.iastore, 1) := dk_79 (dk_at dksX9_dueOf_0 14 rfl rfl)
theorem dX9_dueOf_15 : decode cX9_dueOf 15 = .ok (.aload_n 0, 1) := dk_42 (dk_at dksX9_dueOf_0 15 rfl rfl)
theorem dX9_dueOf_16 : decode cX9_dueOf 16 = .ok (.getfield 82, 3) := dk_180 0 82 (dk_at dksX9_dueOf_0 16 rfl rfl)
theorem dX9_dueOf_19 : decode cX9_dueOf 19 = .ok (.iconst 2, 1) := dk_5 (dk_at dksX9_dueOf_0 19 rfl rfl)
theorem dX9_dueOf_20 : decode cX9_dueOf 20 = .ok (.aload_n 0, 1) := dk_42 (dk_at dksX9_dueOf_0 20 rfl rfl)
theorem dX9_dueOf_21 : decode cX9_dueOf 21 = .ok (.getfield 30, 3) := dk_180 0 30 (dk_at dksX9_dueOf_0 21 rfl rfl)
theorem dX9_dueOf_24 : decode cX9_dueOf 24 = .ok (.bipush 20, 2) := dk_16 20 (dk_at dksX9_dueOf_1 0 rfl rfl)
theorem dX9_dueOf_26 : decode cX9_dueOf 26 = .ok (.iconst 3, 1) := dk_6 (dk_at dksX9_dueOf_1 2 rfl rfl)
theorem dX9_dueOf_27 : decode cX9_dueOf 27 = .ok (.iload_n 1, 1) := dk_27 (dk_at dksX9_dueOf_1 3 rfl rfl)
theorem dX9_dueOf_28 : decode cX9_dueOf 28 = .ok (.imul, 1) := dk_104 (dk_at dksX9_dueOf_1 4 rfl rfl)
theorem dX9_dueOf_29 : decode cX9_dueOf 29 = .ok (.iadd, 1) := dk_96 (dk_at dksX9_dueOf_1 5 rfl rfl)
theorem dX9_dueOf_30 : decode cX9_dueOf 30 = .ok (.iconst 2, 1) := dk_5 (dk_at dksX9_dueOf_1 6 rfl rfl)
theorem dX9_dueOf_31 : decode cX9_dueOf 31 = .ok (.iadd, 1) := dk_96 (dk_at dksX9_dueOf_1 7 rfl rfl)
theorem dX9_dueOf_32 : decode cX9_dueOf 32 = .ok (.iaload, 1) := dk_46 (dk_at dksX9_dueOf_1 8 rfl rfl)
theorem dX9_dueOf_33 : decode cX9_dueOf 33 = .ok (.iastore, 1) := dk_79 (dk_at dksX9_dueOf_1 9 rfl rfl)
theorem dX9_dueOf_34 : decode cX9_dueOf 34 = .ok (.aload_n 0, 1) := dk_42 (dk_at dksX9_dueOf_1 10 rfl rfl)
theorem dX9_dueOf_35 : decode cX9_dueOf 35 = .ok (.getfield 82, 3) := dk_180 0 82 (dk_at dksX9_dueOf_1 11 rfl rfl)
theorem dX9_dueOf_38 : decode cX9_dueOf 38 = .ok (.iconst 3, 1) := dk_6 (dk_at dksX9_dueOf_1 14 rfl rfl)
theorem dX9_dueOf_39 : decode cX9_dueOf 39 = .ok (.aload_n 0, 1) := dk_42 (dk_at dksX9_dueOf_1 15 rfl rfl)
theorem dX9_dueOf_40 : decode cX9_dueOf 40 = .ok (.iload_n 1, 1) := dk_27 (dk_at dksX9_dueOf_1 16 rfl rfl)
theorem dX9_dueOf_41 : decode cX9_dueOf 41 = .ok (.invokevirtual 371, 3) := dk_182 1 115 (dk_at dksX9_dueOf_1 17 rfl rfl)
theorem dX9_dueOf_44 : decode cX9_dueOf 44 = .ok (.iastore, 1) := dk_79 (dk_at dksX9_dueOf_1 20 rfl rfl)
theorem dX9_dueOf_45 : decode cX9_dueOf 45 = .ok (.aload_n 0, 1) := dk_42 (dk_at dksX9_dueOf_1 21 rfl rfl)
theorem dX9_dueOf_46 : decode cX9_dueOf 46 = .ok (.iconst 1, 1) := dk_4 (dk_at dksX9_dueOf_1 22 rfl rfl)
theorem dX9_dueOf_47 : decode cX9_dueOf 47 = .ok (.aload_n 0, 1) := dk_42 (dk_at dksX9_dueOf_1 23 rfl rfl)
theorem dX9_dueOf_48 : decode cX9_dueOf 48 = .ok (.iload_n 1, 1) := dk_27 (dk_at dksX9_dueOf_2 0 rfl rfl)
theorem dX9_dueOf_49 : decode cX9_dueOf 49 = .ok (.invokevirtual 368, 3) := dk_182 1 112 (dk_at dksX9_dueOf_2 1 rfl rfl)
theorem dX9_dueOf_52 : decode cX9_dueOf 52 = .ok (.invokevirtual 374, 3) := dk_182 1 118 (dk_at dksX9_dueOf_2 4 rfl rfl)
theorem dX9_dueOf_55 : decode cX9_dueOf 55 = .ok (.ireturn, 1) := dk_172 (dk_at dksX9_dueOf_2 7 rfl rfl)
abbrev cX9_askNone : ByteArray := prog_23_method_53_code
def yX9_askNone : MethodName := ⟨RX9, "askNone", "()V"⟩
def dkwX9_askNone_0 : List UInt8 := [3, 60, 27, 16, 9, 162, 0, 16, 42, 180, 0, 82, 27, 3, 79, 132, 1, 1, 167, 255, 240, 177]
abbrev dktX9_askNone_0 : List UInt8 := dkwX9_askNone_0 ++ []
theorem dksX9_askNone_0 : cX9_askNone.data.toList.drop 0 = dktX9_askNone_0 := by decide +kernel
theorem dX9_askNone_0 : decode cX9_askNone 0 = .ok (.iconst 0, 1) := dk_3 (dk_at dksX9_askNone_0 0 rfl rfl)
theorem dX9_askNone_1 : decode cX9_askNone 1 = .ok (.istore_n 1, 1) := dk_60 (dk_at dksX9_askNone_0 1 rfl rfl)
theorem dX9_askNone_2 : decode cX9_askNone 2 = .ok (.iload_n 1, 1) := dk_27 (dk_at dksX9_askNone_0 2 rfl rfl)
theorem dX9_askNone_3 : decode cX9_askNone 3 = .ok (.bipush 9, 2) := dk_16 9 (dk_at dksX9_askNone_0 3 rfl rfl)
theorem dX9_askNone_5 : decode cX9_askNone 5 = .ok (.if_icmp .ge 16, 3) := dk_162 0 16 (dk_at dksX9_askNone_0 5 rfl rfl)
theorem dX9_askNone_8 : decode cX9_askNone 8 = .ok (.aload_n 0, 1) := dk_42 (dk_at dksX9_askNone_0 8 rfl rfl)
theorem dX9_askNone_9 : decode cX9_askNone 9 = .ok (.getfield 82, 3) := dk_180 0 82 (dk_at dksX9_askNone_0 9 rfl rfl)
theorem dX9_askNone_12 : decode cX9_askNone 12 = .ok (.iload_n 1, 1) := dk_27 (dk_at dksX9_askNone_0 12 rfl rfl)
theorem dX9_askNone_13 : decode cX9_askNone 13 = .ok (.iconst 0, 1) := dk_3 (dk_at dksX9_askNone_0 13 rfl rfl)
theorem dX9_askNone_14 : decode cX9_askNone 14 = .ok (.iastore, 1) := dk_79 (dk_at dksX9_askNone_0 14 rfl rfl)
theorem dX9_askNone_15 : decode cX9_askNone 15 = .ok (.iinc 1 1, 3) := dk_132 1 1 (dk_at dksX9_askNone_0 15 rfl rfl)
theorem dX9_askNone_18 : decode cX9_askNone 18 = .ok (.goto (-16), 3) := dk_167 255 240 (dk_at dksX9_askNone_0 18 rfl rfl)
theorem dX9_askNone_21 : decode cX9_askNone 21 = .ok (.return_, 1) := dk_177 (dk_at dksX9_askNone_0 21 rfl rfl)
abbrev cX9_says : ByteArray := prog_23_method_52_code
def yX9_says : MethodName := ⟨RX9, "says", "(II)I"⟩
def dkwX9_says_2 : List UInt8 := [16, 99, 184, 1, 105, 172]
abbrev dktX9_says_2 : List UInt8 := dkwX9_says_2 ++ []
def dkwX9_says_1 : List UInt8 := [16, 10, 5, 27, 104, 96, 46, 42, 180, 0, 30, 16, 10, 5, 27, 104, 96, 4, 96, 46, 182, 1, 98, 3]
abbrev dktX9_says_1 : List UInt8 := dkwX9_says_1 ++ dktX9_says_2
def dkwX9_says_0 : List UInt8 := [42, 180, 0, 30, 16, 10, 5, 27, 104, 96, 46, 156, 0, 7, 28, 167, 0, 31, 42, 42, 180, 0, 30]
abbrev dktX9_says_0 : List UInt8 := dkwX9_says_0 ++ dktX9_says_1
theorem dksX9_says_0 : cX9_says.data.toList.drop 0 = dktX9_says_0 := by decide +kernel
theorem dksX9_says_1 : cX9_says.data.toList.drop 23 = dktX9_says_1 := dk_seg dksX9_says_0 23 rfl rfl
theorem dksX9_says_2 : cX9_says.data.toList.drop 47 = dktX9_says_2 := dk_seg dksX9_says_1 24 rfl rfl
theorem dX9_says_0 : decode cX9_says 0 = .ok (.aload_n 0, 1) := dk_42 (dk_at dksX9_says_0 0 rfl rfl)
theorem dX9_says_1 : decode cX9_says 1 = .ok (.getfield 30, 3) := dk_180 0 30 (dk_at dksX9_says_0 1 rfl rfl)
theorem dX9_says_4 : decode cX9_says 4 = .ok (.bipush 10, 2) := dk_16 10 (dk_at dksX9_says_0 4 rfl rfl)
theorem dX9_says_6 : decode cX9_says 6 = .ok (.iconst 2, 1) := dk_5 (dk_at dksX9_says_0 6 rfl rfl)
theorem dX9_says_7 : decode cX9_says 7 = .ok (.iload_n 1, 1) := dk_27 (dk_at dksX9_says_0 7 rfl rfl)
theorem dX9_says_8 : decode cX9_says 8 = .ok (.imul, 1) := dk_104 (dk_at dksX9_says_0 8 rfl rfl)
theorem dX9_says_9 : decode cX9_says 9 = .ok (.iadd, 1) := dk_96 (dk_at dksX9_says_0 9 rfl rfl)
theorem dX9_says_10 : decode cX9_says 10 = .ok (.iaload, 1) := dk_46 (dk_at dksX9_says_0 10 rfl rfl)
theorem dX9_says_11 : decode cX9_says 11 = .ok (.ifCond .ge 7, 3) := dk_156 0 7 (dk_at dksX9_says_0 11 rfl rfl)
theorem dX9_says_14 : decode cX9_says 14 = .ok (.iload_n 2, 1) := dk_28 (dk_at dksX9_says_0 14 rfl rfl)
theorem dX9_says_15 : decode cX9_says 15 = .ok (.goto 31, 3) := dk_167 0 31 (dk_at dksX9_says_0 15 rfl rfl)
theorem dX9_says_18 : decode cX9_says 18 = .ok (.aload_n 0, 1) := dk_42 (dk_at dksX9_says_0 18 rfl rfl)
theorem dX9_says_19 : decode cX9_says 19 = .ok (.aload_n 0, 1) := dk_42 (dk_at dksX9_says_0 19 rfl rfl)
theorem dX9_says_20 : decode cX9_says 20 = .ok (.getfield 30, 3) := dk_180 0 30 (dk_at dksX9_says_0 20 rfl rfl)
theorem dX9_says_23 : decode cX9_says 23 = .ok (.bipush 10, 2) := dk_16 10 (dk_at dksX9_says_1 0 rfl rfl)
theorem dX9_says_25 : decode cX9_says 25 = .ok (.iconst 2, 1) := dk_5 (dk_at dksX9_says_1 2 rfl rfl)
theorem dX9_says_26 : decode cX9_says 26 = .ok (.iload_n 1, 1) := dk_27 (dk_at dksX9_says_1 3 rfl rfl)
theorem dX9_says_27 : decode cX9_says 27 = .ok (.imul, 1) := dk_104 (dk_at dksX9_says_1 4 rfl rfl)
theorem dX9_says_28 : decode cX9_says 28 = .ok (.iadd, 1) := dk_96 (dk_at dksX9_says_1 5 rfl rfl)
theorem dX9_says_29 : decode cX9_says 29 = .ok (.iaload, 1) := dk_46 (dk_at dksX9_says_1 6 rfl rfl)
theorem dX9_says_30 : decode cX9_says 30 = .ok (.aload_n 0, 1) := dk_42 (dk_at dksX9_says_1 7 rfl rfl)
theorem dX9_says_31 : decode cX9_says 31 = .ok (.getfield 30, 3) := dk_180 0 30 (dk_at dksX9_says_1 8 rfl rfl)
theorem dX9_says_34 : decode cX9_says 34 = .ok (.bipush 10, 2) := dk_16 10 (dk_at dksX9_says_1 11 rfl rfl)
theorem dX9_says_36 : decode cX9_says 36 = .ok (.iconst 2, 1) := dk_5 (dk_at dksX9_says_1 13 rfl rfl)
theorem dX9_says_37 : decode cX9_says 37 = .ok (.iload_n 1, 1) := dk_27 (dk_at dksX9_says_1 14 rfl rfl)
theorem dX9_says_38 : decode cX9_says 38 = .ok (.imul, 1) := dk_104 (dk_at dksX9_says_1 15 rfl rfl)
theorem dX9_says_39 : decode cX9_says 39 = .ok (.iadd, 1) := dk_96 (dk_at dksX9_says_1 16 rfl rfl)
theorem dX9_says_40 : decode cX9_says 40 = .ok (.iconst 1, 1) := dk_4 (dk_at dksX9_says_1 17 rfl rfl)
theorem dX9_says_41 : decode cX9_says 41 = .ok (.iadd, 1) := dk_96 (dk_at dksX9_says_1 18 rfl rfl)
theorem dX9_says_42 : decode cX9_says 42 = .ok (.iaload, 1) := dk_46 (dk_at dksX9_says_1 19 rfl rfl)
theorem dX9_says_43 : decode cX9_says 43 = .ok (.invokevirtual 354, 3) := dk_182 1 98 (dk_at dksX9_says_1 20 rfl rfl)
theorem dX9_says_46 : decode cX9_says 46 = .ok (.iconst 0, 1) := dk_3 (dk_at dksX9_says_1 23 rfl rfl)
theorem dX9_says_47 : decode cX9_says 47 = .ok (.bipush 99, 2) := dk_16 99 (dk_at dksX9_says_2 0 rfl rfl)
theorem dX9_says_49 : decode cX9_says 49 = .ok (.invokestatic 361, 3) := dk_184 1 105 (dk_at dksX9_says_2 2 rfl rfl)
theorem dX9_says_52 : decode cX9_says 52 = .ok (.ireturn, 1) := dk_172 (dk_at dksX9_says_2 5 rfl rfl)
abbrev cX9_sum : ByteArray := prog_23_method_48_code
def yX9_sum : MethodName := ⟨RX9, "sum", "(II)I"⟩
def dkwX9_sum_7 : List UInt8 := [132, 4, 1, 167, 255, 97, 42, 180, 0, 85, 3, 46, 172]
abbrev dktX9_sum_7 : List UInt8 := dkwX9_sum_7 ++ []
def dkwX9_sum_6 : List UInt8 := [100, 167, 0, 22, 21, 5, 7, 160, 0, 11, 21, 7, 21, 6, 104, 167, 0, 8, 21, 7, 21, 6, 108, 79]
abbrev dktX9_sum_6 : List UInt8 := dkwX9_sum_6 ++ dktX9_sum_7
def dkwX9_sum_5 : List UInt8 := [21, 5, 5, 160, 0, 11, 21, 7, 21, 6, 96, 167, 0, 36, 21, 5, 6, 160, 0, 11, 21, 7, 21, 6]
abbrev dktX9_sum_5 : List UInt8 := dkwX9_sum_5 ++ dktX9_sum_6
def dkwX9_sum_4 : List UInt8 := [8, 160, 0, 15, 21, 6, 154, 0, 10, 42, 4, 181, 1, 94, 3, 172, 42, 180, 0, 85, 29, 4, 100]
abbrev dktX9_sum_4 : List UInt8 := dkwX9_sum_4 ++ dktX9_sum_5
def dkwX9_sum_3 : List UInt8 := [180, 0, 85, 29, 4, 100, 46, 54, 6, 42, 180, 0, 85, 29, 5, 100, 46, 54, 7, 132, 3, 255, 21, 5]
abbrev dktX9_sum_3 : List UInt8 := dkwX9_sum_3 ++ dktX9_sum_4
def dkwX9_sum_2 : List UInt8 := [46, 167, 0, 15, 42, 180, 0, 82, 42, 180, 0, 42, 21, 4, 46, 46, 79, 132, 3, 1, 167, 0, 99, 42]
abbrev dktX9_sum_2 : List UInt8 := dkwX9_sum_2 ++ dktX9_sum_3
def dkwX9_sum_1 : List UInt8 := [54, 5, 21, 5, 5, 162, 0, 42, 42, 180, 0, 85, 29, 21, 5, 154, 0, 13, 42, 180, 0, 42, 21, 4]
abbrev dktX9_sum_1 : List UInt8 := dkwX9_sum_1 ++ dktX9_sum_2
def dkwX9_sum_0 : List UInt8 := [3, 62, 42, 3, 181, 1, 94, 27, 54, 4, 21, 4, 28, 162, 0, 159, 42, 180, 0, 39, 21, 4, 46]
abbrev dktX9_sum_0 : List UInt8 := dkwX9_sum_0 ++ dktX9_sum_1
theorem dksX9_sum_0 : cX9_sum.data.toList.drop 0 = dktX9_sum_0 := by decide +kernel
theorem dksX9_sum_1 : cX9_sum.data.toList.drop 23 = dktX9_sum_1 := dk_seg dksX9_sum_0 23 rfl rfl
theorem dksX9_sum_2 : cX9_sum.data.toList.drop 47 = dktX9_sum_2 := dk_seg dksX9_sum_1 24 rfl rfl
theorem dksX9_sum_3 : cX9_sum.data.toList.drop 71 = dktX9_sum_3 := dk_seg dksX9_sum_2 24 rfl rfl
theorem dksX9_sum_4 : cX9_sum.data.toList.drop 95 = dktX9_sum_4 := dk_seg dksX9_sum_3 24 rfl rfl
theorem dksX9_sum_5 : cX9_sum.data.toList.drop 118 = dktX9_sum_5 := dk_seg dksX9_sum_4 23 rfl rfl
theorem dksX9_sum_6 : cX9_sum.data.toList.drop 142 = dktX9_sum_6 := dk_seg dksX9_sum_5 24 rfl rfl
theorem dksX9_sum_7 : cX9_sum.data.toList.drop 166 = dktX9_sum_7 := dk_seg dksX9_sum_6 24 rfl rfl
theorem dX9_sum_0 : decode cX9_sum 0 = .ok (.iconst 0, 1) := dk_3 (dk_at dksX9_sum_0 0 rfl rfl)
theorem dX9_sum_1 : decode cX9_sum 1 = .ok (.istore_n 3, 1) := dk_62 (dk_at dksX9_sum_0 1 rfl rfl)
theorem dX9_sum_2 : decode cX9_sum 2 = .ok (.aload_n 0, 1) := dk_42 (dk_at dksX9_sum_0 2 rfl rfl)
theorem dX9_sum_3 : decode cX9_sum 3 = .ok (.iconst 0, 1) := dk_3 (dk_at dksX9_sum_0 3 rfl rfl)
theorem dX9_sum_4 : decode cX9_sum 4 = .ok (.putfield 350, 3) := dk_181 1 94 (dk_at dksX9_sum_0 4 rfl rfl)
theorem dX9_sum_7 : decode cX9_sum 7 = .ok (.iload_n 1, 1) := dk_27 (dk_at dksX9_sum_0 7 rfl rfl)
theorem dX9_sum_8 : decode cX9_sum 8 = .ok (.istore 4, 2) := dk_54 4 (dk_at dksX9_sum_0 8 rfl rfl)
theorem dX9_sum_10 : decode cX9_sum 10 = .ok (.iload 4, 2) := dk_21 4 (dk_at dksX9_sum_0 10 rfl rfl)
theorem dX9_sum_12 : decode cX9_sum 12 = .ok (.iload_n 2, 1) := dk_28 (dk_at dksX9_sum_0 12 rfl rfl)
theorem dX9_sum_13 : decode cX9_sum 13 = .ok (.if_icmp .ge 159, 3) := dk_162 0 159 (dk_at dksX9_sum_0 13 rfl rfl)
theorem dX9_sum_16 : decode cX9_sum 16 = .ok (.aload_n 0, 1) := dk_42 (dk_at dksX9_sum_0 16 rfl rfl)
theorem dX9_sum_17 : decode cX9_sum 17 = .ok (.getfield 39, 3) := dk_180 0 39 (dk_at dksX9_sum_0 17 rfl rfl)
theorem dX9_sum_20 : decode cX9_sum 20 = .ok (.iload 4, 2) := dk_21 4 (dk_at dksX9_sum_0 20 rfl rfl)
theorem dX9_sum_22 : decode cX9_sum 22 = .ok (.iaload, 1) := dk_46 (dk_at dksX9_sum_0 22 rfl rfl)
theorem dX9_sum_23 : decode cX9_sum 23 = .ok (.istore 5, 2) := dk_54 5 (dk_at dksX9_sum_1 0 rfl rfl)
theorem dX9_sum_25 : decode cX9_sum 25 = .ok (.iload 5, 2) := dk_21 5 (dk_at dksX9_sum_1 2 rfl rfl)
theorem dX9_sum_27 : decode cX9_sum 27 = .ok (.iconst 2, 1) := dk_5 (dk_at dksX9_sum_1 4 rfl rfl)
theorem dX9_sum_28 : decode cX9_sum 28 = .ok (.if_icmp .ge 42, 3) := dk_162 0 42 (dk_at dksX9_sum_1 5 rfl rfl)
theorem dX9_sum_31 : decode cX9_sum 31 = .ok (.aload_n 0, 1) := dk_42 (dk_at dksX9_sum_1 8 rfl rfl)
theorem dX9_sum_32 : decode cX9_sum 32 = .ok (.getfield 85, 3) := dk_180 0 85 (dk_at dksX9_sum_1 9 rfl rfl)
theorem dX9_sum_35 : decode cX9_sum 35 = .ok (.iload_n 3, 1) := dk_29 (dk_at dksX9_sum_1 12 rfl rfl)
theorem dX9_sum_36 : decode cX9_sum 36 = .ok (.iload 5, 2) := dk_21 5 (dk_at dksX9_sum_1 13 rfl rfl)
theorem dX9_sum_38 : decode cX9_sum 38 = .ok (.ifCond .ne 13, 3) := dk_154 0 13 (dk_at dksX9_sum_1 15 rfl rfl)
theorem dX9_sum_41 : decode cX9_sum 41 = .ok (.aload_n 0, 1) := dk_42 (dk_at dksX9_sum_1 18 rfl rfl)
theorem dX9_sum_42 : decode cX9_sum 42 = .ok (.getfield 42, 3) := dk_180 0 42 (dk_at dksX9_sum_1 19 rfl rfl)
theorem dX9_sum_45 : decode cX9_sum 45 = .ok (.iload 4, 2) := dk_21 4 (dk_at dksX9_sum_1 22 rfl rfl)
theorem dX9_sum_47 : decode cX9_sum 47 = .ok (.iaload, 1) := dk_46 (dk_at dksX9_sum_2 0 rfl rfl)
theorem dX9_sum_48 : decode cX9_sum 48 = .ok (.goto 15, 3) := dk_167 0 15 (dk_at dksX9_sum_2 1 rfl rfl)
theorem dX9_sum_51 : decode cX9_sum 51 = .ok (.aload_n 0, 1) := dk_42 (dk_at dksX9_sum_2 4 rfl rfl)
theorem dX9_sum_52 : decode cX9_sum 52 = .ok (.getfield 82, 3) := dk_180 0 82 (dk_at dksX9_sum_2 5 rfl rfl)
theorem dX9_sum_55 : decode cX9_sum 55 = .ok (.aload_n 0, 1) := dk_42 (dk_at dksX9_sum_2 8 rfl rfl)
theorem dX9_sum_56 : decode cX9_sum 56 = .ok (.getfield 42, 3) := dk_180 0 42 (dk_at dksX9_sum_2 9 rfl rfl)
theorem dX9_sum_59 : decode cX9_sum 59 = .ok (.iload 4, 2) := dk_21 4 (dk_at dksX9_sum_2 12 rfl rfl)
theorem dX9_sum_61 : decode cX9_sum 61 = .ok (.iaload, 1) := dk_46 (dk_at dksX9_sum_2 14 rfl rfl)
theorem dX9_sum_62 : decode cX9_sum 62 = .ok (.iaload, 1) := dk_46 (dk_at dksX9_sum_2 15 rfl rfl)
theorem dX9_sum_63 : decode cX9_sum 63 = .ok (.iastore, 1) := dk_79 (dk_at dksX9_sum_2 16 rfl rfl)
theorem dX9_sum_64 : decode cX9_sum 64 = .ok (.iinc 3 1, 3) := dk_132 3 1 (dk_at dksX9_sum_2 17 rfl rfl)
theorem dX9_sum_67 : decode cX9_sum 67 = .ok (.goto 99, 3) := dk_167 0 99 (dk_at dksX9_sum_2 20 rfl rfl)
theorem dX9_sum_70 : decode cX9_sum 70 = .ok (.aload_n 0, 1) := dk_42 (dk_at dksX9_sum_2 23 rfl rfl)
theorem dX9_sum_71 : decode cX9_sum 71 = .ok (.getfield 85, 3) := dk_180 0 85 (dk_at dksX9_sum_3 0 rfl rfl)
theorem dX9_sum_74 : decode cX9_sum 74 = .ok (.iload_n 3, 1) := dk_29 (dk_at dksX9_sum_3 3 rfl rfl)
theorem dX9_sum_75 : decode cX9_sum 75 = .ok (.iconst 1, 1) := dk_4 (dk_at dksX9_sum_3 4 rfl rfl)
theorem dX9_sum_76 : decode cX9_sum 76 = .ok (.isub, 1) := dk_100 (dk_at dksX9_sum_3 5 rfl rfl)
theorem dX9_sum_77 : decode cX9_sum 77 = .ok (.iaload, 1) := dk_46 (dk_at dksX9_sum_3 6 rfl rfl)
theorem dX9_sum_78 : decode cX9_sum 78 = .ok (.istore 6, 2) := dk_54 6 (dk_at dksX9_sum_3 7 rfl rfl)
theorem dX9_sum_80 : decode cX9_sum 80 = .ok (.aload_n 0, 1) := dk_42 (dk_at dksX9_sum_3 9 rfl rfl)
theorem dX9_sum_81 : decode cX9_sum 81 = .ok (.getfield 85, 3) := dk_180 0 85 (dk_at dksX9_sum_3 10 rfl rfl)
theorem dX9_sum_84 : decode cX9_sum 84 = .ok (.iload_n 3, 1) := dk_29 (dk_at dksX9_sum_3 13 rfl rfl)
theorem dX9_sum_85 : decode cX9_sum 85 = .ok (.iconst 2, 1) := dk_5 (dk_at dksX9_sum_3 14 rfl rfl)
theorem dX9_sum_86 : decode cX9_sum 86 = .ok (.isub, 1) := dk_100 (dk_at dksX9_sum_3 15 rfl rfl)
theorem dX9_sum_87 : decode cX9_sum 87 = .ok (.iaload, 1) := dk_46 (dk_at dksX9_sum_3 16 rfl rfl)
theorem dX9_sum_88 : decode cX9_sum 88 = .ok (.istore 7, 2) := dk_54 7 (dk_at dksX9_sum_3 17 rfl rfl)
theorem dX9_sum_90 : decode cX9_sum 90 = .ok (.iinc 3 (-1), 3) := dk_132 3 255 (dk_at dksX9_sum_3 19 rfl rfl)
theorem dX9_sum_93 : decode cX9_sum 93 = .ok (.iload 5, 2) := dk_21 5 (dk_at dksX9_sum_3 22 rfl rfl)
theorem dX9_sum_95 : decode cX9_sum 95 = .ok (.iconst 5, 1) := dk_8 (dk_at dksX9_sum_4 0 rfl rfl)
theorem dX9_sum_96 : decode cX9_sum 96 = .ok (.if_icmp .ne 15, 3) := dk_160 0 15 (dk_at dksX9_sum_4 1 rfl rfl)
theorem dX9_sum_99 : decode cX9_sum 99 = .ok (.iload 6, 2) := dk_21 6 (dk_at dksX9_sum_4 4 rfl rfl)
theorem dX9_sum_101 : decode cX9_sum 101 = .ok (.ifCond .ne 10, 3) := dk_154 0 10 (dk_at dksX9_sum_4 6 rfl rfl)
theorem dX9_sum_104 : decode cX9_sum 104 = .ok (.aload_n 0, 1) := dk_42 (dk_at dksX9_sum_4 9 rfl rfl)
theorem dX9_sum_105 : decode cX9_sum 105 = .ok (.iconst 1, 1) := dk_4 (dk_at dksX9_sum_4 10 rfl rfl)
theorem dX9_sum_106 : decode cX9_sum 106 = .ok (.putfield 350, 3) := dk_181 1 94 (dk_at dksX9_sum_4 11 rfl rfl)
theorem dX9_sum_109 : decode cX9_sum 109 = .ok (.iconst 0, 1) := dk_3 (dk_at dksX9_sum_4 14 rfl rfl)
theorem dX9_sum_110 : decode cX9_sum 110 = .ok (.ireturn, 1) := dk_172 (dk_at dksX9_sum_4 15 rfl rfl)
theorem dX9_sum_111 : decode cX9_sum 111 = .ok (.aload_n 0, 1) := dk_42 (dk_at dksX9_sum_4 16 rfl rfl)
theorem dX9_sum_112 : decode cX9_sum 112 = .ok (.getfield 85, 3) := dk_180 0 85 (dk_at dksX9_sum_4 17 rfl rfl)
theorem dX9_sum_115 : decode cX9_sum 115 = .ok (.iload_n 3, 1) := dk_29 (dk_at dksX9_sum_4 20 rfl rfl)
theorem dX9_sum_116 : decode cX9_sum 116 = .ok (.iconst 1, 1) := dk_4 (dk_at dksX9_sum_4 21 rfl rfl)
theorem dX9_sum_117 : decode cX9_sum 117 = .ok (.isub, 1) := dk_100 (dk_at dksX9_sum_4 22 rfl rfl)
theorem dX9_sum_118 : decode cX9_sum 118 = .ok (.iload 5, 2) := dk_21 5 (dk_at dksX9_sum_5 0 rfl rfl)
theorem dX9_sum_120 : decode cX9_sum 120 = .ok (.iconst 2, 1) := dk_5 (dk_at dksX9_sum_5 2 rfl rfl)
theorem dX9_sum_121 : decode cX9_sum 121 = .ok (.if_icmp .ne 11, 3) := dk_160 0 11 (dk_at dksX9_sum_5 3 rfl rfl)
theorem dX9_sum_124 : decode cX9_sum 124 = .ok (.iload 7, 2) := dk_21 7 (dk_at dksX9_sum_5 6 rfl rfl)
theorem dX9_sum_126 : decode cX9_sum 126 = .ok (.iload 6, 2) := dk_21 6 (dk_at dksX9_sum_5 8 rfl rfl)
theorem dX9_sum_128 : decode cX9_sum 128 = .ok (.iadd, 1) := dk_96 (dk_at dksX9_sum_5 10 rfl rfl)
theorem dX9_sum_129 : decode cX9_sum 129 = .ok (.goto 36, 3) := dk_167 0 36 (dk_at dksX9_sum_5 11 rfl rfl)
theorem dX9_sum_132 : decode cX9_sum 132 = .ok (.iload 5, 2) := dk_21 5 (dk_at dksX9_sum_5 14 rfl rfl)
theorem dX9_sum_134 : decode cX9_sum 134 = .ok (.iconst 3, 1) := dk_6 (dk_at dksX9_sum_5 16 rfl rfl)
theorem dX9_sum_135 : decode cX9_sum 135 = .ok (.if_icmp .ne 11, 3) := dk_160 0 11 (dk_at dksX9_sum_5 17 rfl rfl)
theorem dX9_sum_138 : decode cX9_sum 138 = .ok (.iload 7, 2) := dk_21 7 (dk_at dksX9_sum_5 20 rfl rfl)
theorem dX9_sum_140 : decode cX9_sum 140 = .ok (.iload 6, 2) := dk_21 6 (dk_at dksX9_sum_5 22 rfl rfl)
theorem dX9_sum_142 : decode cX9_sum 142 = .ok (.isub, 1) := dk_100 (dk_at dksX9_sum_6 0 rfl rfl)
theorem dX9_sum_143 : decode cX9_sum 143 = .ok (.goto 22, 3) := dk_167 0 22 (dk_at dksX9_sum_6 1 rfl rfl)
theorem dX9_sum_146 : decode cX9_sum 146 = .ok (.iload 5, 2) := dk_21 5 (dk_at dksX9_sum_6 4 rfl rfl)
theorem dX9_sum_148 : decode cX9_sum 148 = .ok (.iconst 4, 1) := dk_7 (dk_at dksX9_sum_6 6 rfl rfl)
theorem dX9_sum_149 : decode cX9_sum 149 = .ok (.if_icmp .ne 11, 3) := dk_160 0 11 (dk_at dksX9_sum_6 7 rfl rfl)
theorem dX9_sum_152 : decode cX9_sum 152 = .ok (.iload 7, 2) := dk_21 7 (dk_at dksX9_sum_6 10 rfl rfl)
theorem dX9_sum_154 : decode cX9_sum 154 = .ok (.iload 6, 2) := dk_21 6 (dk_at dksX9_sum_6 12 rfl rfl)
theorem dX9_sum_156 : decode cX9_sum 156 = .ok (.imul, 1) := dk_104 (dk_at dksX9_sum_6 14 rfl rfl)
theorem dX9_sum_157 : decode cX9_sum 157 = .ok (.goto 8, 3) := dk_167 0 8 (dk_at dksX9_sum_6 15 rfl rfl)
theorem dX9_sum_160 : decode cX9_sum 160 = .ok (.iload 7, 2) := dk_21 7 (dk_at dksX9_sum_6 18 rfl rfl)
theorem dX9_sum_162 : decode cX9_sum 162 = .ok (.iload 6, 2) := dk_21 6 (dk_at dksX9_sum_6 20 rfl rfl)
theorem dX9_sum_164 : decode cX9_sum 164 = .ok (.idiv, 1) := dk_108 (dk_at dksX9_sum_6 22 rfl rfl)
theorem dX9_sum_165 : decode cX9_sum 165 = .ok (.iastore, 1) := dk_79 (dk_at dksX9_sum_6 23 rfl rfl)
theorem dX9_sum_166 : decode cX9_sum 166 = .ok (.iinc 4 1, 3) := dk_132 4 1 (dk_at dksX9_sum_7 0 rfl rfl)
theorem dX9_sum_169 : decode cX9_sum 169 = .ok (.goto (-159), 3) := dk_167 255 97 (dk_at dksX9_sum_7 3 rfl rfl)
theorem dX9_sum_172 : decode cX9_sum 172 = .ok (.aload_n 0, 1) := dk_42 (dk_at dksX9_sum_7 6 rfl rfl)
theorem dX9_sum_173 : decode cX9_sum 173 = .ok (.getfield 85, 3) := dk_180 0 85 (dk_at dksX9_sum_7 7 rfl rfl)
theorem dX9_sum_176 : decode cX9_sum 176 = .ok (.iconst 0, 1) := dk_3 (dk_at dksX9_sum_7 10 rfl rfl)
theorem dX9_sum_177 : decode cX9_sum 177 = .ok (.iaload, 1) := dk_46 (dk_at dksX9_sum_7 11 rfl rfl)
theorem dX9_sum_178 : decode cX9_sum 178 = .ok (.ireturn, 1) := dk_172 (dk_at dksX9_sum_7 12 rfl rfl)
abbrev cX9_within : ByteArray := prog_23_method_51_code
def yX9_within : MethodName := ⟨RX9, "within", "(III)I"⟩
def dkwX9_within_0 : List UInt8 := [26, 27, 162, 0, 7, 27, 167, 0, 13, 26, 28, 164, 0, 7, 28, 167, 0, 4, 26, 172]
abbrev dktX9_within_0 : List UInt8 := dkwX9_within_0 ++ []
theorem dksX9_within_0 : cX9_within.data.toList.drop 0 = dktX9_within_0 := by decide +kernel
theorem dX9_within_0 : decode cX9_within 0 = .ok (.iload_n 0, 1) := dk_26 (dk_at dksX9_within_0 0 rfl rfl)
theorem dX9_within_1 : decode cX9_within 1 = .ok (.iload_n 1, 1) := dk_27 (dk_at dksX9_within_0 1 rfl rfl)
theorem dX9_within_2 : decode cX9_within 2 = .ok (.if_icmp .ge 7, 3) := dk_162 0 7 (dk_at dksX9_within_0 2 rfl rfl)
theorem dX9_within_5 : decode cX9_within 5 = .ok (.iload_n 1, 1) := dk_27 (dk_at dksX9_within_0 5 rfl rfl)
theorem dX9_within_6 : decode cX9_within 6 = .ok (.goto 13, 3) := dk_167 0 13 (dk_at dksX9_within_0 6 rfl rfl)
theorem dX9_within_9 : decode cX9_within 9 = .ok (.iload_n 0, 1) := dk_26 (dk_at dksX9_within_0 9 rfl rfl)
theorem dX9_within_10 : decode cX9_within 10 = .ok (.iload_n 2, 1) := dk_28 (dk_at dksX9_within_0 10 rfl rfl)
theorem dX9_within_11 : decode cX9_within 11 = .ok (.if_icmp .le 7, 3) := dk_164 0 7 (dk_at dksX9_within_0 11 rfl rfl)
theorem dX9_within_14 : decode cX9_within 14 = .ok (.iload_n 2, 1) := dk_28 (dk_at dksX9_within_0 14 rfl rfl)
theorem dX9_within_15 : decode cX9_within 15 = .ok (.goto 4, 3) := dk_167 0 4 (dk_at dksX9_within_0 15 rfl rfl)
theorem dX9_within_18 : decode cX9_within 18 = .ok (.iload_n 0, 1) := dk_26 (dk_at dksX9_within_0 18 rfl rfl)
theorem dX9_within_19 : decode cX9_within 19 = .ok (.ireturn, 1) := dk_172 (dk_at dksX9_within_0 19 rfl rfl)
abbrev cX9_give : ByteArray := prog_23_method_64_code
def yX9_give : MethodName := ⟨RX9, "give", "(II)Z"⟩
def dkwX9_give_2 : List UInt8 := [172]
abbrev dktX9_give_2 : List UInt8 := dkwX9_give_2 ++ []
def dkwX9_give_1 : List UInt8 := [156, 0, 17, 42, 180, 0, 33, 16, 30, 27, 96, 16, 254, 79, 167, 0, 9, 42, 27, 28, 182, 1, 21, 4]
abbrev dktX9_give_1 : List UInt8 := dkwX9_give_1 ++ dktX9_give_2
def dkwX9_give_0 : List UInt8 := [42, 27, 182, 1, 121, 153, 0, 16, 28, 2, 159, 0, 13, 42, 28, 182, 1, 133, 154, 0, 5, 3, 172, 28]
abbrev dktX9_give_0 : List UInt8 := dkwX9_give_0 ++ dktX9_give_1
theorem dksX9_give_0 : cX9_give.data.toList.drop 0 = dktX9_give_0 := by decide +kernel
theorem dksX9_give_1 : cX9_give.data.toList.drop 24 = dktX9_give_1 := dk_seg dksX9_give_0 24 rfl rfl
theorem dksX9_give_2 : cX9_give.data.toList.drop 48 = dktX9_give_2 := dk_seg dksX9_give_1 24 rfl rfl
theorem dX9_give_0 : decode cX9_give 0 = .ok (.aload_n 0, 1) := dk_42 (dk_at dksX9_give_0 0 rfl rfl)
theorem dX9_give_1 : decode cX9_give 1 = .ok (.iload_n 1, 1) := dk_27 (dk_at dksX9_give_0 1 rfl rfl)
theorem dX9_give_2 : decode cX9_give 2 = .ok (.invokevirtual 377, 3) := dk_182 1 121 (dk_at dksX9_give_0 2 rfl rfl)
theorem dX9_give_5 : decode cX9_give 5 = .ok (.ifCond .eq 16, 3) := dk_153 0 16 (dk_at dksX9_give_0 5 rfl rfl)
theorem dX9_give_8 : decode cX9_give 8 = .ok (.iload_n 2, 1) := dk_28 (dk_at dksX9_give_0 8 rfl rfl)
theorem dX9_give_9 : decode cX9_give 9 = .ok (.iconst (-1), 1) := dk_2 (dk_at dksX9_give_0 9 rfl rfl)
theorem dX9_give_10 : decode cX9_give 10 = .ok (.if_icmp .eq 13, 3) := dk_159 0 13 (dk_at dksX9_give_0 10 rfl rfl)
theorem dX9_give_13 : decode cX9_give 13 = .ok (.aload_n 0, 1) := dk_42 (dk_at dksX9_give_0 13 rfl rfl)
theorem dX9_give_14 : decode cX9_give 14 = .ok (.iload_n 2, 1) := dk_28 (dk_at dksX9_give_0 14 rfl rfl)
theorem dX9_give_15 : decode cX9_give 15 = .ok (.invokevirtual 389, 3) := dk_182 1 133 (dk_at dksX9_give_0 15 rfl rfl)
theorem dX9_give_18 : decode cX9_give 18 = .ok (.ifCond .ne 5, 3) := dk_154 0 5 (dk_at dksX9_give_0 18 rfl rfl)
theorem dX9_give_21 : decode cX9_give 21 = .ok (.iconst 0, 1) := dk_3 (dk_at dksX9_give_0 21 rfl rfl)
theorem dX9_give_22 : decode cX9_give 22 = .ok (.ireturn, 1) := dk_172 (dk_at dksX9_give_0 22 rfl rfl)
theorem dX9_give_23 : decode cX9_give 23 = .ok (.iload_n 2, 1) := dk_28 (dk_at dksX9_give_0 23 rfl rfl)
theorem dX9_give_24 : decode cX9_give 24 = .ok (.ifCond .ge 17, 3) := dk_156 0 17 (dk_at dksX9_give_1 0 rfl rfl)
theorem dX9_give_27 : decode cX9_give 27 = .ok (.aload_n 0, 1) := dk_42 (dk_at dksX9_give_1 3 rfl rfl)
theorem dX9_give_28 : decode cX9_give 28 = .ok (.getfield 33, 3) := dk_180 0 33 (dk_at dksX9_give_1 4 rfl rfl)
theorem dX9_give_31 : decode cX9_give 31 = .ok (.bipush 30, 2) := dk_16 30 (dk_at dksX9_give_1 7 rfl rfl)
theorem dX9_give_33 : decode cX9_give 33 = .ok (.iload_n 1, 1) := dk_27 (dk_at dksX9_give_1 9 rfl rfl)
theorem dX9_give_34 : decode cX9_give 34 = .ok (.iadd, 1) := dk_96 (dk_at dksX9_give_1 10 rfl rfl)
theorem dX9_give_35 : decode cX9_give 35 = .ok (.bipush (-2), 2) := dk_16 254 (dk_at dksX9_give_1 11 rfl rfl)
theorem dX9_give_37 : decode cX9_give 37 = .ok (.iastore, 1) := dk_79 (dk_at dksX9_give_1 13 rfl rfl)
theorem dX9_give_38 : decode cX9_give 38 = .ok (.goto 9, 3) := dk_167 0 9 (dk_at dksX9_give_1 14 rfl rfl)
theorem dX9_give_41 : decode cX9_give 41 = .ok (.aload_n 0, 1) := dk_42 (dk_at dksX9_give_1 17 rfl rfl)
theorem dX9_give_42 : decode cX9_give 42 = .ok (.iload_n 1, 1) := dk_27 (dk_at dksX9_give_1 18 rfl rfl)
theorem dX9_give_43 : decode cX9_give 43 = .ok (.iload_n 2, 1) := dk_28 (dk_at dksX9_give_1 19 rfl rfl)
theorem dX9_give_44 : decode cX9_give 44 = .ok (.invokevirtual 277, 3) := dk_182 1 21 (dk_at dksX9_give_1 20 rfl rfl)
theorem dX9_give_47 : decode cX9_give 47 = .ok (.iconst 1, 1) := dk_4 (dk_at dksX9_give_1 23 rfl rfl)
theorem dX9_give_48 : decode cX9_give 48 = .ok (.ireturn, 1) := dk_172 (dk_at dksX9_give_2 0 rfl rfl)
abbrev cX9_isOffice : ByteArray := prog_23_method_56_code
def yX9_isOffice : MethodName := ⟨RX9, "isOffice", "(I)Z"⟩
def dkwX9_isOffice_0 : List UInt8 := [27, 155, 0, 17, 27, 42, 180, 0, 30, 4, 46, 162, 0, 7, 4, 167, 0, 4, 3, 172]
abbrev dktX9_isOffice_0 : List UInt8 := dkwX9_isOffice_0 ++ []
theorem dksX9_isOffice_0 : cX9_isOffice.data.toList.drop 0 = dktX9_isOffice_0 := by decide +kernel
theorem dX9_isOffice_0 : decode cX9_isOffice 0 = .ok (.iload_n 1, 1) := dk_27 (dk_at dksX9_isOffice_0 0 rfl rfl)
theorem dX9_isOffice_1 : decode cX9_isOffice 1 = .ok (.ifCond .lt 17, 3) := dk_155 0 17 (dk_at dksX9_isOffice_0 1 rfl rfl)
theorem dX9_isOffice_4 : decode cX9_isOffice 4 = .ok (.iload_n 1, 1) := dk_27 (dk_at dksX9_isOffice_0 4 rfl rfl)
theorem dX9_isOffice_5 : decode cX9_isOffice 5 = .ok (.aload_n 0, 1) := dk_42 (dk_at dksX9_isOffice_0 5 rfl rfl)
theorem dX9_isOffice_6 : decode cX9_isOffice 6 = .ok (.getfield 30, 3) := dk_180 0 30 (dk_at dksX9_isOffice_0 6 rfl rfl)
theorem dX9_isOffice_9 : decode cX9_isOffice 9 = .ok (.iconst 1, 1) := dk_4 (dk_at dksX9_isOffice_0 9 rfl rfl)
theorem dX9_isOffice_10 : decode cX9_isOffice 10 = .ok (.iaload, 1) := dk_46 (dk_at dksX9_isOffice_0 10 rfl rfl)
theorem dX9_isOffice_11 : decode cX9_isOffice 11 = .ok (.if_icmp .ge 7, 3) := dk_162 0 7 (dk_at dksX9_isOffice_0 11 rfl rfl)
theorem dX9_isOffice_14 : decode cX9_isOffice 14 = .ok (.iconst 1, 1) := dk_4 (dk_at dksX9_isOffice_0 14 rfl rfl)
theorem dX9_isOffice_15 : decode cX9_isOffice 15 = .ok (.goto 4, 3) := dk_167 0 4 (dk_at dksX9_isOffice_0 15 rfl rfl)
theorem dX9_isOffice_18 : decode cX9_isOffice 18 = .ok (.iconst 0, 1) := dk_3 (dk_at dksX9_isOffice_0 18 rfl rfl)
theorem dX9_isOffice_19 : decode cX9_isOffice 19 = .ok (.ireturn, 1) := dk_172 (dk_at dksX9_isOffice_0 19 rfl rfl)
abbrev cX9_holder : ByteArray := prog_23_method_65_code
def yX9_holder : MethodName := ⟨RX9, "holder", "(I)I"⟩
def dkwX9_holder_0 : List UInt8 := [42, 27, 182, 1, 133, 153, 0, 11, 42, 27, 182, 1, 130, 167, 0, 4, 2, 172]
abbrev dktX9_holder_0 : List UInt8 := dkwX9_holder_0 ++ []
theorem dksX9_holder_0 : cX9_holder.data.toList.drop 0 = dktX9_holder_0 := by decide +kernel
theorem dX9_holder_0 : decode cX9_holder 0 = .ok (.aload_n 0, 1) := dk_42 (dk_at dksX9_holder_0 0 rfl rfl)
theorem dX9_holder_1 : decode cX9_holder 1 = .ok (.iload_n 1, 1) := dk_27 (dk_at dksX9_holder_0 1 rfl rfl)
theorem dX9_holder_2 : decode cX9_holder 2 = .ok (.invokevirtual 389, 3) := dk_182 1 133 (dk_at dksX9_holder_0 2 rfl rfl)
theorem dX9_holder_5 : decode cX9_holder 5 = .ok (.ifCond .eq 11, 3) := dk_153 0 11 (dk_at dksX9_holder_0 5 rfl rfl)
theorem dX9_holder_8 : decode cX9_holder 8 = .ok (.aload_n 0, 1) := dk_42 (dk_at dksX9_holder_0 8 rfl rfl)
theorem dX9_holder_9 : decode cX9_holder 9 = .ok (.iload_n 1, 1) := dk_27 (dk_at dksX9_holder_0 9 rfl rfl)
theorem dX9_holder_10 : decode cX9_holder 10 = .ok (.invokevirtual 386, 3) := dk_182 1 130 (dk_at dksX9_holder_0 10 rfl rfl)
theorem dX9_holder_13 : decode cX9_holder 13 = .ok (.goto 4, 3) := dk_167 0 4 (dk_at dksX9_holder_0 13 rfl rfl)
theorem dX9_holder_16 : decode cX9_holder 16 = .ok (.iconst (-1), 1) := dk_2 (dk_at dksX9_holder_0 16 rfl rfl)
theorem dX9_holder_17 : decode cX9_holder 17 = .ok (.ireturn, 1) := dk_172 (dk_at dksX9_holder_0 17 rfl rfl)
abbrev cX9_months : ByteArray := prog_23_method_66_code
def yX9_months : MethodName := ⟨RX9, "months", "(I)I"⟩
def dkwX9_months_1 : List UInt8 := [27, 96, 16, 12, 112, 79, 42, 180, 0, 33, 3, 46, 172]
abbrev dktX9_months_1 : List UInt8 := dkwX9_months_1 ++ []
def dkwX9_months_0 : List UInt8 := [27, 3, 17, 0, 240, 184, 1, 136, 154, 0, 5, 2, 172, 42, 180, 0, 33, 3, 42, 180, 0, 33, 3, 46]
abbrev dktX9_months_0 : List UInt8 := dkwX9_months_0 ++ dktX9_months_1
theorem dksX9_months_0 : cX9_months.data.toList.drop 0 = dktX9_months_0 := by decide +kernel
theorem dksX9_months_1 : cX9_months.data.toList.drop 24 = dktX9_months_1 := dk_seg dksX9_months_0 24 rfl rfl
theorem dX9_months_0 : decode cX9_months 0 = .ok (.iload_n 1, 1) := dk_27 (dk_at dksX9_months_0 0 rfl rfl)
theorem dX9_months_1 : decode cX9_months 1 = .ok (.iconst 0, 1) := dk_3 (dk_at dksX9_months_0 1 rfl rfl)
theorem dX9_months_2 : decode cX9_months 2 = .ok (.sipush 240, 3) := dk_17 0 240 (dk_at dksX9_months_0 2 rfl rfl)
theorem dX9_months_5 : decode cX9_months 5 = .ok (.invokestatic 392, 3) := dk_184 1 136 (dk_at dksX9_months_0 5 rfl rfl)
theorem dX9_months_8 : decode cX9_months 8 = .ok (.ifCond .ne 5, 3) := dk_154 0 5 (dk_at dksX9_months_0 8 rfl rfl)
theorem dX9_months_11 : decode cX9_months 11 = .ok (.iconst (-1), 1) := dk_2 (dk_at dksX9_months_0 11 rfl rfl)
theorem dX9_months_12 : decode cX9_months 12 = .ok (.ireturn, 1) := dk_172 (dk_at dksX9_months_0 12 rfl rfl)
theorem dX9_months_13 : decode cX9_months 13 = .ok (.aload_n 0, 1) := dk_42 (dk_at dksX9_months_0 13 rfl rfl)
theorem dX9_months_14 : decode cX9_months 14 = .ok (.getfield 33, 3) := dk_180 0 33 (dk_at dksX9_months_0 14 rfl rfl)
theorem dX9_months_17 : decode cX9_months 17 = .ok (.iconst 0, 1) := dk_3 (dk_at dksX9_months_0 17 rfl rfl)
theorem dX9_months_18 : decode cX9_months 18 = .ok (.aload_n 0, 1) := dk_42 (dk_at dksX9_months_0 18 rfl rfl)
theorem dX9_months_19 : decode cX9_months 19 = .ok (.getfield 33, 3) := dk_180 0 33 (dk_at dksX9_months_0 19 rfl rfl)
theorem dX9_months_22 : decode cX9_months 22 = .ok (.iconst 0, 1) := dk_3 (dk_at dksX9_months_0 22 rfl rfl)
theorem dX9_months_23 : decode cX9_months 23 = .ok (.iaload, 1) := dk_46 (dk_at dksX9_months_0 23 rfl rfl)
theorem dX9_months_24 : decode cX9_months 24 = .ok (.iload_n 1, 1) := dk_27 (dk_at dksX9_months_1 0 rfl rfl)
theorem dX9_months_25 : decode cX9_months 25 = .ok (.iadd, 1) := dk_96 (dk_at dksX9_months_1 1 rfl rfl)
theorem dX9_months_26 : decode cX9_months 26 = .ok (.bipush 12, 2) := dk_16 12 (dk_at dksX9_months_1 2 rfl rfl)
theorem dX9_months_28 : decode cX9_months 28 = .ok (.irem, 1) := dk_112 (dk_at dksX9_months_1 4 rfl rfl)
theorem dX9_months_29 : decode cX9_months 29 = .ok (.iastore, 1) := dk_79 (dk_at dksX9_months_1 5 rfl rfl)
theorem dX9_months_30 : decode cX9_months 30 = .ok (.aload_n 0, 1) := dk_42 (dk_at dksX9_months_1 6 rfl rfl)
theorem dX9_months_31 : decode cX9_months 31 = .ok (.getfield 33, 3) := dk_180 0 33 (dk_at dksX9_months_1 7 rfl rfl)
theorem dX9_months_34 : decode cX9_months 34 = .ok (.iconst 0, 1) := dk_3 (dk_at dksX9_months_1 10 rfl rfl)
theorem dX9_months_35 : decode cX9_months 35 = .ok (.iaload, 1) := dk_46 (dk_at dksX9_months_1 11 rfl rfl)
theorem dX9_months_36 : decode cX9_months 36 = .ok (.ireturn, 1) := dk_172 (dk_at dksX9_months_1 12 rfl rfl)
abbrev cX9_isIn : ByteArray := prog_23_method_54_code
def yX9_isIn : MethodName := ⟨RX9, "isIn", "(III)Z"⟩
def dkwX9_isIn_0 : List UInt8 := [26, 27, 161, 0, 12, 26, 28, 163, 0, 7, 4, 167, 0, 4, 3, 172]
abbrev dktX9_isIn_0 : List UInt8 := dkwX9_isIn_0 ++ []
theorem dksX9_isIn_0 : cX9_isIn.data.toList.drop 0 = dktX9_isIn_0 := by decide +kernel
theorem dX9_isIn_0 : decode cX9_isIn 0 = .ok (.iload_n 0, 1) := dk_26 (dk_at dksX9_isIn_0 0 rfl rfl)
theorem dX9_isIn_1 : decode cX9_isIn 1 = .ok (.iload_n 1, 1) := dk_27 (dk_at dksX9_isIn_0 1 rfl rfl)
theorem dX9_isIn_2 : decode cX9_isIn 2 = .ok (.if_icmp .lt 12, 3) := dk_161 0 12 (dk_at dksX9_isIn_0 2 rfl rfl)
theorem dX9_isIn_5 : decode cX9_isIn 5 = .ok (.iload_n 0, 1) := dk_26 (dk_at dksX9_isIn_0 5 rfl rfl)
theorem dX9_isIn_6 : decode cX9_isIn 6 = .ok (.iload_n 2, 1) := dk_28 (dk_at dksX9_isIn_0 6 rfl rfl)
theorem dX9_isIn_7 : decode cX9_isIn 7 = .ok (.if_icmp .gt 7, 3) := dk_163 0 7 (dk_at dksX9_isIn_0 7 rfl rfl)
theorem dX9_isIn_10 : decode cX9_isIn 10 = .ok (.iconst 1, 1) := dk_4 (dk_at dksX9_isIn_0 10 rfl rfl)
theorem dX9_isIn_11 : decode cX9_isIn 11 = .ok (.goto 4, 3) := dk_167 0 4 (dk_at dksX9_isIn_0 11 rfl rfl)
theorem dX9_isIn_14 : decode cX9_isIn 14 = .ok (.iconst 0, 1) := dk_3 (dk_at dksX9_isIn_0 14 rfl rfl)
theorem dX9_isIn_15 : decode cX9_isIn 15 = .ok (.ireturn, 1) := dk_172 (dk_at dksX9_isIn_0 15 rfl rfl)
abbrev cX9_tide : ByteArray := prog_23_method_69_code
def yX9_tide : MethodName := ⟨RX9, "tide", "(I)I"⟩
def dkwX9_tide_0 : List UInt8 := [27, 184, 1, 140, 153, 0, 11, 42, 27, 182, 1, 143, 167, 0, 4, 2, 172]
abbrev dktX9_tide_0 : List UInt8 := dkwX9_tide_0 ++ []
theorem dksX9_tide_0 : cX9_tide.data.toList.drop 0 = dktX9_tide_0 := by decide +kernel
theorem dX9_tide_0 : decode cX9_tide 0 = .ok (.iload_n 1, 1) := dk_27 (dk_at dksX9_tide_0 0 rfl rfl)
theorem dX9_tide_1 : decode cX9_tide 1 = .ok (.invokestatic 396, 3) := dk_184 1 140 (dk_at dksX9_tide_0 1 rfl rfl)
theorem dX9_tide_4 : decode cX9_tide 4 = .ok (.ifCond .eq 11, 3) := dk_153 0 11 (dk_at dksX9_tide_0 4 rfl rfl)
theorem dX9_tide_7 : decode cX9_tide 7 = .ok (.aload_n 0, 1) := dk_42 (dk_at dksX9_tide_0 7 rfl rfl)
theorem dX9_tide_8 : decode cX9_tide 8 = .ok (.iload_n 1, 1) := dk_27 (dk_at dksX9_tide_0 8 rfl rfl)
theorem dX9_tide_9 : decode cX9_tide 9 = .ok (.invokevirtual 399, 3) := dk_182 1 143 (dk_at dksX9_tide_0 9 rfl rfl)
theorem dX9_tide_12 : decode cX9_tide 12 = .ok (.goto 4, 3) := dk_167 0 4 (dk_at dksX9_tide_0 12 rfl rfl)
theorem dX9_tide_15 : decode cX9_tide 15 = .ok (.iconst (-1), 1) := dk_2 (dk_at dksX9_tide_0 15 rfl rfl)
theorem dX9_tide_16 : decode cX9_tide 16 = .ok (.ireturn, 1) := dk_172 (dk_at dksX9_tide_0 16 rfl rfl)
abbrev cX9_isHour : ByteArray := prog_23_method_68_code
def yX9_isHour : MethodName := ⟨RX9, "isHour", "(I)Z"⟩
def dkwX9_isHour_0 : List UInt8 := [26, 155, 0, 13, 26, 16, 24, 162, 0, 7, 4, 167, 0, 4, 3, 172]
abbrev dktX9_isHour_0 : List UInt8 := dkwX9_isHour_0 ++ []
theorem dksX9_isHour_0 : cX9_isHour.data.toList.drop 0 = dktX9_isHour_0 := by decide +kernel
theorem dX9_isHour_0 : decode cX9_isHour 0 = .ok (.iload_n 0, 1) := dk_26 (dk_at dksX9_isHour_0 0 rfl rfl)
theorem dX9_isHour_1 : decode cX9_isHour 1 = .ok (.ifCond .lt 13, 3) := dk_155 0 13 (dk_at dksX9_isHour_0 1 rfl rfl)
theorem dX9_isHour_4 : decode cX9_isHour 4 = .ok (.iload_n 0, 1) := dk_26 (dk_at dksX9_isHour_0 4 rfl rfl)
theorem dX9_isHour_5 : decode cX9_isHour 5 = .ok (.bipush 24, 2) := dk_16 24 (dk_at dksX9_isHour_0 5 rfl rfl)
theorem dX9_isHour_7 : decode cX9_isHour 7 = .ok (.if_icmp .ge 7, 3) := dk_162 0 7 (dk_at dksX9_isHour_0 7 rfl rfl)
theorem dX9_isHour_10 : decode cX9_isHour 10 = .ok (.iconst 1, 1) := dk_4 (dk_at dksX9_isHour_0 10 rfl rfl)
theorem dX9_isHour_11 : decode cX9_isHour 11 = .ok (.goto 4, 3) := dk_167 0 4 (dk_at dksX9_isHour_0 11 rfl rfl)
theorem dX9_isHour_14 : decode cX9_isHour 14 = .ok (.iconst 0, 1) := dk_3 (dk_at dksX9_isHour_0 14 rfl rfl)
theorem dX9_isHour_15 : decode cX9_isHour 15 = .ok (.ireturn, 1) := dk_172 (dk_at dksX9_isHour_0 15 rfl rfl)
abbrev cX9_tideOf : ByteArray := prog_23_method_67_code
def yX9_tideOf : MethodName := ⟨RX9, "tideOf", "(I)I"⟩
def dkwX9_tideOf_1 : List UInt8 := [3, 3, 182, 1, 118, 172]
abbrev dktX9_tideOf_1 : List UInt8 := dkwX9_tideOf_1 ++ []
def dkwX9_tideOf_0 : List UInt8 := [42, 182, 1, 109, 42, 180, 0, 82, 7, 27, 79, 42, 180, 0, 82, 8, 42, 180, 0, 33, 3, 46, 79, 42]
abbrev dktX9_tideOf_0 : List UInt8 := dkwX9_tideOf_0 ++ dktX9_tideOf_1
theorem dksX9_tideOf_0 : cX9_tideOf.data.toList.drop 0 = dktX9_tideOf_0 := by decide +kernel
theorem dksX9_tideOf_1 : cX9_tideOf.data.toList.drop 24 = dktX9_tideOf_1 := dk_seg dksX9_tideOf_0 24 rfl rfl
theorem dX9_tideOf_0 : decode cX9_tideOf 0 = .ok (.aload_n 0, 1) := dk_42 (dk_at dksX9_tideOf_0 0 rfl rfl)
theorem dX9_tideOf_1 : decode cX9_tideOf 1 = .ok (.invokevirtual 365, 3) := dk_182 1 109 (dk_at dksX9_tideOf_0 1 rfl rfl)
theorem dX9_tideOf_4 : decode cX9_tideOf 4 = .ok (.aload_n 0, 1) := dk_42 (dk_at dksX9_tideOf_0 4 rfl rfl)
theorem dX9_tideOf_5 : decode cX9_tideOf 5 = .ok (.getfield 82, 3) := dk_180 0 82 (dk_at dksX9_tideOf_0 5 rfl rfl)
theorem dX9_tideOf_8 : decode cX9_tideOf 8 = .ok (.iconst 4, 1) := dk_7 (dk_at dksX9_tideOf_0 8 rfl rfl)
theorem dX9_tideOf_9 : decode cX9_tideOf 9 = .ok (.iload_n 1, 1) := dk_27 (dk_at dksX9_tideOf_0 9 rfl rfl)
theorem dX9_tideOf_10 : decode cX9_tideOf 10 = .ok (.iastore, 1) := dk_79 (dk_at dksX9_tideOf_0 10 rfl rfl)
theorem dX9_tideOf_11 : decode cX9_tideOf 11 = .ok (.aload_n 0, 1) := dk_42 (dk_at dksX9_tideOf_0 11 rfl rfl)
theorem dX9_tideOf_12 : decode cX9_tideOf 12 = .ok (.getfield 82, 3) := dk_180 0 82 (dk_at dksX9_tideOf_0 12 rfl rfl)
theorem dX9_tideOf_15 : decode cX9_tideOf 15 = .ok (.iconst 5, 1) := dk_8 (dk_at dksX9_tideOf_0 15 rfl rfl)
theorem dX9_tideOf_16 : decode cX9_tideOf 16 = .ok (.aload_n 0, 1) := dk_42 (dk_at dksX9_tideOf_0 16 rfl rfl)
theorem dX9_tideOf_17 : decode cX9_tideOf 17 = .ok (.getfield 33, 3) := dk_180 0 33 (dk_at dksX9_tideOf_0 17 rfl rfl)
theorem dX9_tideOf_20 : decode cX9_tideOf 20 = .ok (.iconst 0, 1) := dk_3 (dk_at dksX9_tideOf_0 20 rfl rfl)
theorem dX9_tideOf_21 : decode cX9_tideOf 21 = .ok (.iaload, 1) := dk_46 (dk_at dksX9_tideOf_0 21 rfl rfl)
theorem dX9_tideOf_22 : decode cX9_tideOf 22 = .ok (.iastore, 1) := dk_79 (dk_at dksX9_tideOf_0 22 rfl rfl)
theorem dX9_tideOf_23 : decode cX9_tideOf 23 = .ok (.aload_n 0, 1) := dk_42 (dk_at dksX9_tideOf_0 23 rfl rfl)
theorem dX9_tideOf_24 : decode cX9_tideOf 24 = .ok (.iconst 0, 1) := dk_3 (dk_at dksX9_tideOf_1 0 rfl rfl)
theorem dX9_tideOf_25 : decode cX9_tideOf 25 = .ok (.iconst 0, 1) := dk_3 (dk_at dksX9_tideOf_1 1 rfl rfl)
theorem dX9_tideOf_26 : decode cX9_tideOf 26 = .ok (.invokevirtual 374, 3) := dk_182 1 118 (dk_at dksX9_tideOf_1 2 rfl rfl)
theorem dX9_tideOf_29 : decode cX9_tideOf 29 = .ok (.ireturn, 1) := dk_172 (dk_at dksX9_tideOf_1 5 rfl rfl)
abbrev cX9_wet : ByteArray := prog_23_method_70_code
def yX9_wet : MethodName := ⟨RX9, "wet", "(I)I"⟩
def dkwX9_wet_2 : List UInt8 := [62, 132, 4, 1, 167, 255, 225, 29, 172]
abbrev dktX9_wet_2 : List UInt8 := dkwX9_wet_2 ++ []
def dkwX9_wet_1 : List UInt8 := [180, 0, 30, 3, 46, 162, 0, 26, 42, 21, 4, 182, 1, 124, 28, 162, 0, 10, 29, 4, 21, 4, 120, 128]
abbrev dktX9_wet_1 : List UInt8 := dkwX9_wet_1 ++ dktX9_wet_2
def dkwX9_wet_0 : List UInt8 := [27, 184, 1, 140, 154, 0, 5, 2, 172, 42, 27, 182, 1, 143, 61, 3, 62, 3, 54, 4, 21, 4, 42]
abbrev dktX9_wet_0 : List UInt8 := dkwX9_wet_0 ++ dktX9_wet_1
theorem dksX9_wet_0 : cX9_wet.data.toList.drop 0 = dktX9_wet_0 := by decide +kernel
theorem dksX9_wet_1 : cX9_wet.data.toList.drop 23 = dktX9_wet_1 := dk_seg dksX9_wet_0 23 rfl rfl
theorem dksX9_wet_2 : cX9_wet.data.toList.drop 47 = dktX9_wet_2 := dk_seg dksX9_wet_1 24 rfl rfl
theorem dX9_wet_0 : decode cX9_wet 0 = .ok (.iload_n 1, 1) := dk_27 (dk_at dksX9_wet_0 0 rfl rfl)
theorem dX9_wet_1 : decode cX9_wet 1 = .ok (.invokestatic 396, 3) := dk_184 1 140 (dk_at dksX9_wet_0 1 rfl rfl)
theorem dX9_wet_4 : decode cX9_wet 4 = .ok (.ifCond .ne 5, 3) := dk_154 0 5 (dk_at dksX9_wet_0 4 rfl rfl)
theorem dX9_wet_7 : decode cX9_wet 7 = .ok (.iconst (-1), 1) := dk_2 (dk_at dksX9_wet_0 7 rfl rfl)
theorem dX9_wet_8 : decode cX9_wet 8 = .ok (.ireturn, 1) := dk_172 (dk_at dksX9_wet_0 8 rfl rfl)
theorem dX9_wet_9 : decode cX9_wet 9 = .ok (.aload_n 0, 1) := dk_42 (dk_at dksX9_wet_0 9 rfl rfl)
theorem dX9_wet_10 : decode cX9_wet 10 = .ok (.iload_n 1, 1) := dk_27 (dk_at dksX9_wet_0 10 rfl rfl)
theorem dX9_wet_11 : decode cX9_wet 11 = .ok (.invokevirtual 399, 3) := dk_182 1 143 (dk_at dksX9_wet_0 11 rfl rfl)
theorem dX9_wet_14 : decode cX9_wet 14 = .ok (.istore_n 2, 1) := dk_61 (dk_at dksX9_wet_0 14 rfl rfl)
theorem dX9_wet_15 : decode cX9_wet 15 = .ok (.iconst 0, 1) := dk_3 (dk_at dksX9_wet_0 15 rfl rfl)
theorem dX9_wet_16 : decode cX9_wet 16 = .ok (.istore_n 3, 1) := dk_62 (dk_at dksX9_wet_0 16 rfl rfl)
theorem dX9_wet_17 : decode cX9_wet 17 = .ok (.iconst 0, 1) := dk_3 (dk_at dksX9_wet_0 17 rfl rfl)
theorem dX9_wet_18 : decode cX9_wet 18 = .ok (.istore 4, 2) := dk_54 4 (dk_at dksX9_wet_0 18 rfl rfl)
theorem dX9_wet_20 : decode cX9_wet 20 = .ok (.iload 4, 2) := dk_21 4 (dk_at dksX9_wet_0 20 rfl rfl)
theorem dX9_wet_22 : decode cX9_wet 22 = .ok (.aload_n 0, 1) := dk_42 (dk_at dksX9_wet_0 22 rfl rfl)
theorem dX9_wet_23 : decode cX9_wet 23 = .ok (.getfield 30, 3) := dk_180 0 30 (dk_at dksX9_wet_1 0 rfl rfl)
theorem dX9_wet_26 : decode cX9_wet 26 = .ok (.iconst 0, 1) := dk_3 (dk_at dksX9_wet_1 3 rfl rfl)
theorem dX9_wet_27 : decode cX9_wet 27 = .ok (.iaload, 1) := dk_46 (dk_at dksX9_wet_1 4 rfl rfl)
theorem dX9_wet_28 : decode cX9_wet 28 = .ok (.if_icmp .ge 26, 3) := dk_162 0 26 (dk_at dksX9_wet_1 5 rfl rfl)
theorem dX9_wet_31 : decode cX9_wet 31 = .ok (.aload_n 0, 1) := dk_42 (dk_at dksX9_wet_1 8 rfl rfl)
theorem dX9_wet_32 : decode cX9_wet 32 = .ok (.iload 4, 2) := dk_21 4 (dk_at dksX9_wet_1 9 rfl rfl)
theorem dX9_wet_34 : decode cX9_wet 34 = .ok (.invokevirtual 380, 3) := dk_182 1 124 (dk_at dksX9_wet_1 11 rfl rfl)
theorem dX9_wet_37 : decode cX9_wet 37 = .ok (.iload_n 2, 1) := dk_28 (dk_at dksX9_wet_1 14 rfl rfl)
theorem dX9_wet_38 : decode cX9_wet 38 = .ok (.if_icmp .ge 10, 3) := dk_162 0 10 (dk_at dksX9_wet_1 15 rfl rfl)
theorem dX9_wet_41 : decode cX9_wet 41 = .ok (.iload_n 3, 1) := dk_29 (dk_at dksX9_wet_1 18 rfl rfl)
theorem dX9_wet_42 : decode cX9_wet 42 = .ok (.iconst 1, 1) := dk_4 (dk_at dksX9_wet_1 19 rfl rfl)
theorem dX9_wet_43 : decode cX9_wet 43 = .ok (.iload 4, 2) := dk_21 4 (dk_at dksX9_wet_1 20 rfl rfl)
theorem dX9_wet_45 : decode cX9_wet 45 = .ok (.ishl, 1) := dk_120 (dk_at dksX9_wet_1 22 rfl rfl)
theorem dX9_wet_46 : decode cX9_wet 46 = .ok (.ior, 1) := dk_128 (dk_at dksX9_wet_1 23 rfl rfl)
theorem dX9_wet_47 : decode cX9_wet 47 = .ok (.istore_n 3, 1) := dk_62 (dk_at dksX9_wet_2 0 rfl rfl)
theorem dX9_wet_48 : decode cX9_wet 48 = .ok (.iinc 4 1, 3) := dk_132 4 1 (dk_at dksX9_wet_2 1 rfl rfl)
theorem dX9_wet_51 : decode cX9_wet 51 = .ok (.goto (-31), 3) := dk_167 255 225 (dk_at dksX9_wet_2 4 rfl rfl)
theorem dX9_wet_54 : decode cX9_wet 54 = .ok (.iload_n 3, 1) := dk_29 (dk_at dksX9_wet_2 7 rfl rfl)
theorem dX9_wet_55 : decode cX9_wet 55 = .ok (.ireturn, 1) := dk_172 (dk_at dksX9_wet_2 8 rfl rfl)
abbrev cX9_reached : ByteArray := prog_23_method_74_code
def yX9_reached : MethodName := ⟨RX9, "reached", "(I)I"⟩
def dkwX9_reached_0 : List UInt8 := [27, 184, 1, 140, 153, 0, 13, 42, 27, 2, 2, 182, 1, 149, 167, 0, 4, 2, 172]
abbrev dktX9_reached_0 : List UInt8 := dkwX9_reached_0 ++ []
theorem dksX9_reached_0 : cX9_reached.data.toList.drop 0 = dktX9_reached_0 := by decide +kernel
theorem dX9_reached_0 : decode cX9_reached 0 = .ok (.iload_n 1, 1) := dk_27 (dk_at dksX9_reached_0 0 rfl rfl)
theorem dX9_reached_1 : decode cX9_reached 1 = .ok (.invokestatic 396, 3) := dk_184 1 140 (dk_at dksX9_reached_0 1 rfl rfl)
theorem dX9_reached_4 : decode cX9_reached 4 = .ok (.ifCond .eq 13, 3) := dk_153 0 13 (dk_at dksX9_reached_0 4 rfl rfl)
theorem dX9_reached_7 : decode cX9_reached 7 = .ok (.aload_n 0, 1) := dk_42 (dk_at dksX9_reached_0 7 rfl rfl)
theorem dX9_reached_8 : decode cX9_reached 8 = .ok (.iload_n 1, 1) := dk_27 (dk_at dksX9_reached_0 8 rfl rfl)
theorem dX9_reached_9 : decode cX9_reached 9 = .ok (.iconst (-1), 1) := dk_2 (dk_at dksX9_reached_0 9 rfl rfl)
theorem dX9_reached_10 : decode cX9_reached 10 = .ok (.iconst (-1), 1) := dk_2 (dk_at dksX9_reached_0 10 rfl rfl)
theorem dX9_reached_11 : decode cX9_reached 11 = .ok (.invokevirtual 405, 3) := dk_182 1 149 (dk_at dksX9_reached_0 11 rfl rfl)
theorem dX9_reached_14 : decode cX9_reached 14 = .ok (.goto 4, 3) := dk_167 0 4 (dk_at dksX9_reached_0 14 rfl rfl)
theorem dX9_reached_17 : decode cX9_reached 17 = .ok (.iconst (-1), 1) := dk_2 (dk_at dksX9_reached_0 17 rfl rfl)
theorem dX9_reached_18 : decode cX9_reached 18 = .ok (.ireturn, 1) := dk_172 (dk_at dksX9_reached_0 18 rfl rfl)
abbrev cX9_reachedAt : ByteArray := prog_23_method_72_code
def yX9_reachedAt : MethodName := ⟨RX9, "reachedAt", "(III)I"⟩
def dkwX9_reachedAt_11 : List UInt8 := [167, 0, 4, 3, 54, 7, 167, 255, 98, 21, 6, 172]
abbrev dktX9_reachedAt_11 : List UInt8 := dkwX9_reachedAt_11 ++ []
def dkwX9_reachedAt_10 : List UInt8 := [21, 10, 21, 5, 126, 128, 54, 6, 132, 9, 1, 167, 255, 127, 21, 6, 21, 8, 159, 0, 7, 4]
abbrev dktX9_reachedAt_10 : List UInt8 := dkwX9_reachedAt_10 ++ dktX9_reachedAt_11
def dkwX9_reachedAt_9 : List UInt8 := [153, 0, 13, 21, 6, 21, 12, 21, 5, 126, 128, 54, 6, 21, 6, 21, 12, 126, 153, 0, 13, 21, 6]
abbrev dktX9_reachedAt_9 : List UInt8 := dkwX9_reachedAt_9 ++ dktX9_reachedAt_10
def dkwX9_reachedAt_8 : List UInt8 := [21, 10, 21, 5, 126, 128, 54, 6, 167, 0, 45, 4, 21, 11, 120, 54, 12, 21, 6, 21, 10, 126]
abbrev dktX9_reachedAt_8 : List UInt8 := dkwX9_reachedAt_8 ++ dktX9_reachedAt_9
def dkwX9_reachedAt_7 : List UInt8 := [16, 120, 6, 21, 9, 104, 96, 4, 96, 46, 54, 11, 21, 11, 156, 0, 21, 21, 4, 154, 0, 58, 21, 6]
abbrev dktX9_reachedAt_7 : List UInt8 := dkwX9_reachedAt_7 ++ dktX9_reachedAt_8
def dkwX9_reachedAt_6 : List UInt8 := [167, 0, 100, 4, 42, 180, 0, 30, 16, 120, 6, 21, 9, 104, 96, 46, 120, 54, 10, 42, 180, 0, 30]
abbrev dktX9_reachedAt_6 : List UInt8 := dkwX9_reachedAt_6 ++ dktX9_reachedAt_7
def dkwX9_reachedAt_5 : List UInt8 := [180, 0, 30, 6, 46, 162, 0, 124, 21, 9, 28, 159, 0, 112, 42, 21, 9, 182, 1, 146, 154, 0, 6]
abbrev dktX9_reachedAt_5 : List UInt8 := dkwX9_reachedAt_5 ++ dktX9_reachedAt_6
def dkwX9_reachedAt_4 : List UInt8 := [132, 7, 1, 167, 255, 221, 4, 54, 7, 21, 7, 153, 0, 159, 21, 6, 54, 8, 3, 54, 9, 21, 9, 42]
abbrev dktX9_reachedAt_4 : List UInt8 := dkwX9_reachedAt_4 ++ dktX9_reachedAt_5
def dkwX9_reachedAt_3 : List UInt8 := [162, 0, 30, 21, 6, 4, 42, 180, 0, 30, 17, 0, 160, 21, 7, 96, 46, 120, 21, 5, 126, 128, 54, 6]
abbrev dktX9_reachedAt_3 : List UInt8 := dkwX9_reachedAt_3 ++ dktX9_reachedAt_4
def dkwX9_reachedAt_2 : List UInt8 := [54, 5, 132, 6, 1, 167, 255, 216, 3, 54, 6, 3, 54, 7, 21, 7, 42, 180, 0, 30, 7, 46]
abbrev dktX9_reachedAt_2 : List UInt8 := dkwX9_reachedAt_2 ++ dktX9_reachedAt_3
def dkwX9_reachedAt_1 : List UInt8 := [42, 21, 6, 182, 1, 124, 21, 4, 161, 0, 18, 21, 6, 29, 159, 0, 12, 21, 5, 4, 21, 6, 120, 128]
abbrev dktX9_reachedAt_1 : List UInt8 := dkwX9_reachedAt_1 ++ dktX9_reachedAt_2
def dkwX9_reachedAt_0 : List UInt8 := [42, 27, 182, 1, 143, 54, 4, 3, 54, 5, 3, 54, 6, 21, 6, 42, 180, 0, 30, 3, 46, 162, 0, 35]
abbrev dktX9_reachedAt_0 : List UInt8 := dkwX9_reachedAt_0 ++ dktX9_reachedAt_1
theorem dksX9_reachedAt_0 : cX9_reachedAt.data.toList.drop 0 = dktX9_reachedAt_0 := by decide +kernel
theorem dksX9_reachedAt_1 : cX9_reachedAt.data.toList.drop 24 = dktX9_reachedAt_1 := dk_seg dksX9_reachedAt_0 24 rfl rfl
theorem dksX9_reachedAt_2 : cX9_reachedAt.data.toList.drop 48 = dktX9_reachedAt_2 := dk_seg dksX9_reachedAt_1 24 rfl rfl
theorem dksX9_reachedAt_3 : cX9_reachedAt.data.toList.drop 70 = dktX9_reachedAt_3 := dk_seg dksX9_reachedAt_2 22 rfl rfl
theorem dksX9_reachedAt_4 : cX9_reachedAt.data.toList.drop 94 = dktX9_reachedAt_4 := dk_seg dksX9_reachedAt_3 24 rfl rfl
theorem dksX9_reachedAt_5 : cX9_reachedAt.data.toList.drop 118 = dktX9_reachedAt_5 := dk_seg dksX9_reachedAt_4 24 rfl rfl
theorem dksX9_reachedAt_6 : cX9_reachedAt.data.toList.drop 141 = dktX9_reachedAt_6 := dk_seg dksX9_reachedAt_5 23 rfl rfl
theorem dksX9_reachedAt_7 : cX9_reachedAt.data.toList.drop 164 = dktX9_reachedAt_7 := dk_seg dksX9_reachedAt_6 23 rfl rfl
theorem dksX9_reachedAt_8 : cX9_reachedAt.data.toList.drop 188 = dktX9_reachedAt_8 := dk_seg dksX9_reachedAt_7 24 rfl rfl
theorem dksX9_reachedAt_9 : cX9_reachedAt.data.toList.drop 210 = dktX9_reachedAt_9 := dk_seg dksX9_reachedAt_8 22 rfl rfl
theorem dksX9_reachedAt_10 : cX9_reachedAt.data.toList.drop 233 = dktX9_reachedAt_10 := dk_seg dksX9_reachedAt_9 23 rfl rfl
theorem dksX9_reachedAt_11 : cX9_reachedAt.data.toList.drop 255 = dktX9_reachedAt_11 := dk_seg dksX9_reachedAt_10 22 rfl rfl
theorem dX9_reachedAt_0 : decode cX9_reachedAt 0 = .ok (.aload_n 0, 1) := dk_42 (dk_at dksX9_reachedAt_0 0 rfl rfl)
theorem dX9_reachedAt_1 : decode cX9_reachedAt 1 = .ok (.iload_n 1, 1) := dk_27 (dk_at dksX9_reachedAt_0 1 rfl rfl)
theorem dX9_reachedAt_2 : decode cX9_reachedAt 2 = .ok (.invokevirtual 399, 3) := dk_182 1 143 (dk_at dksX9_reachedAt_0 2 rfl rfl)
theorem dX9_reachedAt_5 : decode cX9_reachedAt 5 = .ok (.istore 4, 2) := dk_54 4 (dk_at dksX9_reachedAt_0 5 rfl rfl)
theorem dX9_reachedAt_7 : decode cX9_reachedAt 7 = .ok (.iconst 0, 1) := dk_3 (dk_at dksX9_reachedAt_0 7 rfl rfl)
theorem dX9_reachedAt_8 : decode cX9_reachedAt 8 = .ok (.istore 5, 2) := dk_54 5 (dk_at dksX9_reachedAt_0 8 rfl rfl)
theorem dX9_reachedAt_10 : decode cX9_reachedAt 10 = .ok (.iconst 0, 1) := dk_3 (dk_at dksX9_reachedAt_0 10 rfl rfl)
theorem dX9_reachedAt_11 : decode cX9_reachedAt 11 = .ok (.istore 6, 2) := dk_54 6 (dk_at dksX9_reachedAt_0 11 rfl rfl)
theorem dX9_reachedAt_13 : decode cX9_reachedAt 13 = .ok (.iload 6, 2) := dk_21 6 (dk_at dksX9_reachedAt_0 13 rfl rfl)
theorem dX9_reachedAt_15 : decode cX9_reachedAt 15 = .ok (.aload_n 0, 1) := dk_42 (dk_at dksX9_reachedAt_0 15 rfl rfl)
theorem dX9_reachedAt_16 : decode cX9_reachedAt 16 = .ok (.getfield 30, 3) := dk_180 0 30 (dk_at dksX9_reachedAt_0 16 rfl rfl)
theorem dX9_reachedAt_19 : decode cX9_reachedAt 19 = .ok (.iconst 0, 1) := dk_3 (dk_at dksX9_reachedAt_0 19 rfl rfl)
theorem dX9_reachedAt_20 : decode cX9_reachedAt 20 = .ok (.iaload, 1) := dk_46 (dk_at dksX9_reachedAt_0 20 rfl rfl)
theorem dX9_reachedAt_21 : decode cX9_reachedAt 21 = .ok (.if_icmp .ge 35, 3) := dk_162 0 35 (dk_at dksX9_reachedAt_0 21 rfl rfl)
theorem dX9_reachedAt_24 : decode cX9_reachedAt 24 = .ok (.aload_n 0, 1) := dk_42 (dk_at dksX9_reachedAt_1 0 rfl rfl)
theorem dX9_reachedAt_25 : decode cX9_reachedAt 25 = .ok (.iload 6, 2) := dk_21 6 (dk_at dksX9_reachedAt_1 1 rfl rfl)
theorem dX9_reachedAt_27 : decode cX9_reachedAt 27 = .ok (.invokevirtual 380, 3) := dk_182 1 124 (dk_at dksX9_reachedAt_1 3 rfl rfl)
theorem dX9_reachedAt_30 : decode cX9_reachedAt 30 = .ok (.iload 4, 2) := dk_21 4 (dk_at dksX9_reachedAt_1 6 rfl rfl)
theorem dX9_reachedAt_32 : decode cX9_reachedAt 32 = .ok (.if_icmp .lt 18, 3) := dk_161 0 18 (dk_at dksX9_reachedAt_1 8 rfl rfl)
theorem dX9_reachedAt_35 : decode cX9_reachedAt 35 = .ok (.iload 6, 2) := dk_21 6 (dk_at dksX9_reachedAt_1 11 rfl rfl)
theorem dX9_reachedAt_37 : decode cX9_reachedAt 37 = .ok (.iload_n 3, 1) := dk_29 (dk_at dksX9_reachedAt_1 13 rfl rfl)
theorem dX9_reachedAt_38 : decode cX9_reachedAt 38 = .ok (.if_icmp .eq 12, 3) := dk_159 0 12 (dk_at dksX9_reachedAt_1 14 rfl rfl)
theorem dX9_reachedAt_41 : decode cX9_reachedAt 41 = .ok (.iload 5, 2) := dk_21 5 (dk_at dksX9_reachedAt_1 17 rfl rfl)
theorem dX9_reachedAt_43 : decode cX9_reachedAt 43 = .ok (.iconst 1, 1) := dk_4 (dk_at dksX9_reachedAt_1 19 rfl rfl)
theorem dX9_reachedAt_44 : decode cX9_reachedAt 44 = .ok (.iload 6, 2) := dk_21 6 (dk_at dksX9_reachedAt_1 20 rfl rfl)
theorem dX9_reachedAt_46 : decode cX9_reachedAt 46 = .ok (.ishl, 1) := dk_120 (dk_at dksX9_reachedAt_1 22 rfl rfl)
theorem dX9_reachedAt_47 : decode cX9_reachedAt 47 = .ok (.ior, 1) := dk_128 (dk_at dksX9_reachedAt_1 23 rfl rfl)
theorem dX9_reachedAt_48 : decode cX9_reachedAt 48 = .ok (.istore 5, 2) := dk_54 5 (dk_at dksX9_reachedAt_2 0 rfl rfl)
theorem dX9_reachedAt_50 : decode cX9_reachedAt 50 = .ok (.iinc 6 1, 3) := dk_132 6 1 (dk_at dksX9_reachedAt_2 2 rfl rfl)
theorem dX9_reachedAt_53 : decode cX9_reachedAt 53 = .ok (.goto (-40), 3) := dk_167 255 216 (dk_at dksX9_reachedAt_2 5 rfl rfl)
theorem dX9_reachedAt_56 : decode cX9_reachedAt 56 = .ok (.iconst 0, 1) := dk_3 (dk_at dksX9_reachedAt_2 8 rfl rfl)
theorem dX9_reachedAt_57 : decode cX9_reachedAt 57 = .ok (.istore 6, 2) := dk_54 6 (dk_at dksX9_reachedAt_2 9 rfl rfl)
theorem dX9_reachedAt_59 : decode cX9_reachedAt 59 = .ok (.iconst 0, 1) := dk_3 (dk_at dksX9_reachedAt_2 11 rfl rfl)
theorem dX9_reachedAt_60 : decode cX9_reachedAt 60 = .ok (.istore 7, 2) := dk_54 7 (dk_at dksX9_reachedAt_2 12 rfl rfl)
theorem dX9_reachedAt_62 : decode cX9_reachedAt 62 = .ok (.iload 7, 2) := dk_21 7 (dk_at dksX9_reachedAt_2 14 rfl rfl)
theorem dX9_reachedAt_64 : decode cX9_reachedAt 64 = .ok (.aload_n 0, 1) := dk_42 (dk_at dksX9_reachedAt_2 16 rfl rfl)
theorem dX9_reachedAt_65 : decode cX9_reachedAt 65 = .ok (.getfield 30, 3) := dk_180 0 30 (dk_at dksX9_reachedAt_2 17 rfl rfl)
theorem dX9_reachedAt_68 : decode cX9_reachedAt 68 = .ok (.iconst 4, 1) := dk_7 (dk_at dksX9_reachedAt_2 20 rfl rfl)
theorem dX9_reachedAt_69 : decode cX9_reachedAt 69 = .ok (.iaload, 1) := dk_46 (dk_at dksX9_reachedAt_2 21 rfl rfl)
theorem dX9_reachedAt_70 : decode cX9_reachedAt 70 = .ok (.if_icmp .ge 30, 3) := dk_162 0 30 (dk_at dksX9_reachedAt_3 0 rfl rfl)
theorem dX9_reachedAt_73 : decode cX9_reachedAt 73 = .ok (.iload 6, 2) := dk_21 6 (dk_at dksX9_reachedAt_3 3 rfl rfl)
theorem dX9_reachedAt_75 : decode cX9_reachedAt 75 = .ok (.iconst 1, 1) := dk_4 (dk_at dksX9_reachedAt_3 5 rfl rfl)
theorem dX9_reachedAt_76 : decode cX9_reachedAt 76 = .ok (.aload_n 0, 1) := dk_42 (dk_at dksX9_reachedAt_3 6 rfl rfl)
theorem dX9_reachedAt_77 : decode cX9_reachedAt 77 = .ok (.getfield 30, 3) := dk_180 0 30 (dk_at dksX9_reachedAt_3 7 rfl rfl)
theorem dX9_reachedAt_80 : decode cX9_reachedAt 80 = .ok (.sipush 160, 3) := dk_17 0 160 (dk_at dksX9_reachedAt_3 10 rfl rfl)
theorem dX9_reachedAt_83 : decode cX9_reachedAt 83 = .ok (.iload 7, 2) := dk_21 7 (dk_at dksX9_reachedAt_3 13 rfl rfl)
theorem dX9_reachedAt_85 : decode cX9_reachedAt 85 = .ok (.iadd, 1) := dk_96 (dk_at dksX9_reachedAt_3 15 rfl rfl)
theorem dX9_reachedAt_86 : decode cX9_reachedAt 86 = .ok (.iaload, 1) := dk_46 (dk_at dksX9_reachedAt_3 16 rfl rfl)
theorem dX9_reachedAt_87 : decode cX9_reachedAt 87 = .ok (.ishl, 1) := dk_120 (dk_at dksX9_reachedAt_3 17 rfl rfl)
theorem dX9_reachedAt_88 : decode cX9_reachedAt 88 = .ok (.iload 5, 2) := dk_21 5 (dk_at dksX9_reachedAt_3 18 rfl rfl)
theorem dX9_reachedAt_90 : decode cX9_reachedAt 90 = .ok (.iand, 1) := dk_126 (dk_at dksX9_reachedAt_3 20 rfl rfl)
theorem dX9_reachedAt_91 : decode cX9_reachedAt 91 = .ok (.ior, 1) := dk_128 (dk_at dksX9_reachedAt_3 21 rfl rfl)
theorem dX9_reachedAt_92 : decode cX9_reachedAt 92 = .ok (.istore 6, 2) := dk_54 6 (dk_at dksX9_reachedAt_3 22 rfl rfl)
theorem dX9_reachedAt_94 : decode cX9_reachedAt 94 = .ok (.iinc 7 1, 3) := dk_132 7 1 (dk_at dksX9_reachedAt_4 0 rfl rfl)
theorem dX9_reachedAt_97 : decode cX9_reachedAt 97 = .ok (.goto (-35), 3) := dk_167 255 221 (dk_at dksX9_reachedAt_4 3 rfl rfl)
theorem dX9_reachedAt_100 : decode cX9_reachedAt 100 = .ok (.iconst 1, 1) := dk_4 (dk_at dksX9_reachedAt_4 6 rfl rfl)
theorem dX9_reachedAt_101 : decode cX9_reachedAt 101 = .ok (.istore 7, 2) := dk_54 7 (dk_at dksX9_reachedAt_4 7 rfl rfl)
theorem dX9_reachedAt_103 : decode cX9_reachedAt 103 = .ok (.iload 7, 2) := dk_21 7 (dk_at dksX9_reachedAt_4 9 rfl rfl)
theorem dX9_reachedAt_105 : decode cX9_reachedAt 105 = .ok (.ifCond .eq 159, 3) := dk_153 0 159 (dk_at dksX9_reachedAt_4 11 rfl rfl)
theorem dX9_reachedAt_108 : decode cX9_reachedAt 108 = .ok (.iload 6, 2) := dk_21 6 (dk_at dksX9_reachedAt_4 14 rfl rfl)
theorem dX9_reachedAt_110 : decode cX9_reachedAt 110 = .ok (.istore 8, 2) := dk_54 8 (dk_at dksX9_reachedAt_4 16 rfl rfl)
theorem dX9_reachedAt_112 : decode cX9_reachedAt 112 = .ok (.iconst 0, 1) := dk_3 (dk_at dksX9_reachedAt_4 18 rfl rfl)
theorem dX9_reachedAt_113 : decode cX9_reachedAt 113 = .ok (.istore 9, 2) := dk_54 9 (dk_at dksX9_reachedAt_4 19 rfl rfl)
theorem dX9_reachedAt_115 : decode cX9_reachedAt 115 = .ok (.iload 9, 2) := dk_21 9 (dk_at dksX9_reachedAt_4 21 rfl rfl)
theorem dX9_reachedAt_117 : decode cX9_reachedAt 117 = .ok (.aload_n 0, 1) := dk_42 (dk_at dksX9_reachedAt_4 23 rfl rfl)
theorem dX9_reachedAt_118 : decode cX9_reachedAt 118 = .ok (.getfield 30, 3) := dk_180 0 30 (dk_at dksX9_reachedAt_5 0 rfl rfl)
theorem dX9_reachedAt_121 : decode cX9_reachedAt 121 = .ok (.iconst 3, 1) := dk_6 (dk_at dksX9_reachedAt_5 3 rfl rfl)
theorem dX9_reachedAt_122 : decode cX9_reachedAt 122 = .ok (.iaload, 1) := dk_46 (dk_at dksX9_reachedAt_5 4 rfl rfl)
theorem dX9_reachedAt_123 : decode cX9_reachedAt 123 = .ok (.if_icmp .ge 124, 3) := dk_162 0 124 (dk_at dksX9_reachedAt_5 5 rfl rfl)
theorem dX9_reachedAt_126 : decode cX9_reachedAt 126 = .ok (.iload 9, 2) := dk_21 9 (dk_at dksX9_reachedAt_5 8 rfl rfl)
theorem dX9_reachedAt_128 : decode cX9_reachedAt 128 = .ok (.iload_n 2, 1) := dk_28 (dk_at dksX9_reachedAt_5 10 rfl rfl)
theorem dX9_reachedAt_129 : decode cX9_reachedAt 129 = .ok (.if_icmp .eq 112, 3) := dk_159 0 112 (dk_at dksX9_reachedAt_5 11 rfl rfl)
theorem dX9_reachedAt_132 : decode cX9_reachedAt 132 = .ok (.aload_n 0, 1) := dk_42 (dk_at dksX9_reachedAt_5 14 rfl rfl)
theorem dX9_reachedAt_133 : decode cX9_reachedAt 133 = .ok (.iload 9, 2) := dk_21 9 (dk_at dksX9_reachedAt_5 15 rfl rfl)
theorem dX9_reachedAt_135 : decode cX9_reachedAt 135 = .ok (.invokevirtual 402, 3) := dk_182 1 146 (dk_at dksX9_reachedAt_5 17 rfl rfl)
theorem dX9_reachedAt_138 : decode cX9_reachedAt 138 = .ok (.ifCond .ne 6, 3) := dk_154 0 6 (dk_at dksX9_reachedAt_5 20 rfl rfl)
theorem dX9_reachedAt_141 : decode cX9_reachedAt 141 = .ok (.goto 100, 3) := dk_167 0 100 (dk_at dksX9_reachedAt_6 0 rfl rfl)
theorem dX9_reachedAt_144 : decode cX9_reachedAt 144 = .ok (.iconst 1, 1) := dk_4 (dk_at dksX9_reachedAt_6 3 rfl rfl)
theorem dX9_reachedAt_145 : decode cX9_reachedAt 145 = .ok (.aload_n 0, 1) := dk_42 (dk_at dksX9_reachedAt_6 4 rfl rfl)
theorem dX9_reachedAt_146 : decode cX9_reachedAt 146 = .ok (.getfield 30, 3) := dk_180 0 30 (dk_at dksX9_reachedAt_6 5 rfl rfl)
theorem dX9_reachedAt_149 : decode cX9_reachedAt 149 = .ok (.bipush 120, 2) := dk_16 120 (dk_at dksX9_reachedAt_6 8 rfl rfl)
theorem dX9_reachedAt_151 : decode cX9_reachedAt 151 = .ok (.iconst 3, 1) := dk_6 (dk_at dksX9_reachedAt_6 10 rfl rfl)
theorem dX9_reachedAt_152 : decode cX9_reachedAt 152 = .ok (.iload 9, 2) := dk_21 9 (dk_at dksX9_reachedAt_6 11 rfl rfl)
theorem dX9_reachedAt_154 : decode cX9_reachedAt 154 = .ok (.imul, 1) := dk_104 (dk_at dksX9_reachedAt_6 13 rfl rfl)
theorem dX9_reachedAt_155 : decode cX9_reachedAt 155 = .ok (.iadd, 1) := dk_96 (dk_at dksX9_reachedAt_6 14 rfl rfl)
theorem dX9_reachedAt_156 : decode cX9_reachedAt 156 = .ok (.iaload, 1) := dk_46 (dk_at dksX9_reachedAt_6 15 rfl rfl)
theorem dX9_reachedAt_157 : decode cX9_reachedAt 157 = .ok (.ishl, 1) := dk_120 (dk_at dksX9_reachedAt_6 16 rfl rfl)
theorem dX9_reachedAt_158 : decode cX9_reachedAt 158 = .ok (.istore 10, 2) := dk_54 10 (dk_at dksX9_reachedAt_6 17 rfl rfl)
theorem dX9_reachedAt_160 : decode cX9_reachedAt 160 = .ok (.aload_n 0, 1) := dk_42 (dk_at dksX9_reachedAt_6 19 rfl rfl)
theorem dX9_reachedAt_161 : decode cX9_reachedAt 161 = .ok (.getfield 30, 3) := dk_180 0 30 (dk_at dksX9_reachedAt_6 20 rfl rfl)
theorem dX9_reachedAt_164 : decode cX9_reachedAt 164 = .ok (.bipush 120, 2) := dk_16 120 (dk_at dksX9_reachedAt_7 0 rfl rfl)
theorem dX9_reachedAt_166 : decode cX9_reachedAt 166 = .ok (.iconst 3, 1) := dk_6 (dk_at dksX9_reachedAt_7 2 rfl rfl)
theorem dX9_reachedAt_167 : decode cX9_reachedAt 167 = .ok (.iload 9, 2) := dk_21 9 (dk_at dksX9_reachedAt_7 3 rfl rfl)
theorem dX9_reachedAt_169 : decode cX9_reachedAt 169 = .ok (.imul, 1) := dk_104 (dk_at dksX9_reachedAt_7 5 rfl rfl)
theorem dX9_reachedAt_170 : decode cX9_reachedAt 170 = .ok (.iadd, 1) := dk_96 (dk_at dksX9_reachedAt_7 6 rfl rfl)
theorem dX9_reachedAt_171 : decode cX9_reachedAt 171 = .ok (.iconst 1, 1) := dk_4 (dk_at dksX9_reachedAt_7 7 rfl rfl)
theorem dX9_reachedAt_172 : decode cX9_reachedAt 172 = .ok (.iadd, 1) := dk_96 (dk_at dksX9_reachedAt_7 8 rfl rfl)
theorem dX9_reachedAt_173 : decode cX9_reachedAt 173 = .ok (.iaload, 1) := dk_46 (dk_at dksX9_reachedAt_7 9 rfl rfl)
theorem dX9_reachedAt_174 : decode cX9_reachedAt 174 = .ok (.istore 11, 2) := dk_54 11 (dk_at dksX9_reachedAt_7 10 rfl rfl)
theorem dX9_reachedAt_176 : decode cX9_reachedAt 176 = .ok (.iload 11, 2) := dk_21 11 (dk_at dksX9_reachedAt_7 12 rfl rfl)
theorem dX9_reachedAt_178 : decode cX9_reachedAt 178 = .ok (.ifCond .ge 21, 3) := dk_156 0 21 (dk_at dksX9_reachedAt_7 14 rfl rfl)
theorem dX9_reachedAt_181 : decode cX9_reachedAt 181 = .ok (.iload 4, 2) := dk_21 4 (dk_at dksX9_reachedAt_7 17 rfl rfl)
theorem dX9_reachedAt_183 : decode cX9_reachedAt 183 = .ok (.ifCond .ne 58, 3) := dk_154 0 58 (dk_at dksX9_reachedAt_7 19 rfl rfl)
theorem dX9_reachedAt_186 : decode cX9_reachedAt 186 = .ok (.iload 6, 2) := dk_21 6 (dk_at dksX9_reachedAt_7 22 rfl rfl)
theorem dX9_reachedAt_188 : decode cX9_reachedAt 188 = .ok (.iload 10, 2) := dk_21 10 (dk_at dksX9_reachedAt_8 0 rfl rfl)
theorem dX9_reachedAt_190 : decode cX9_reachedAt 190 = .ok (.iload 5, 2) := dk_21 5 (dk_at dksX9_reachedAt_8 2 rfl rfl)
theorem dX9_reachedAt_192 : decode cX9_reachedAt 192 = .ok (.iand, 1) := dk_126 (dk_at dksX9_reachedAt_8 4 rfl rfl)
theorem dX9_reachedAt_193 : decode cX9_reachedAt 193 = .ok (.ior, 1) := dk_128 (dk_at dksX9_reachedAt_8 5 rfl rfl)
theorem dX9_reachedAt_194 : decode cX9_reachedAt 194 = .ok (.istore 6, 2) := dk_54 6 (dk_at dksX9_reachedAt_8 6 rfl rfl)
theorem dX9_reachedAt_196 : decode cX9_reachedAt 196 = .ok (.goto 45, 3) := dk_167 0 45 (dk_at dksX9_reachedAt_8 8 rfl rfl)
theorem dX9_reachedAt_199 : decode cX9_reachedAt 199 = .ok (.iconst 1, 1) := dk_4 (dk_at dksX9_reachedAt_8 11 rfl rfl)
theorem dX9_reachedAt_200 : decode cX9_reachedAt 200 = .ok (.iload 11, 2) := dk_21 11 (dk_at dksX9_reachedAt_8 12 rfl rfl)
theorem dX9_reachedAt_202 : decode cX9_reachedAt 202 = .ok (.ishl, 1) := dk_120 (dk_at dksX9_reachedAt_8 14 rfl rfl)
theorem dX9_reachedAt_203 : decode cX9_reachedAt 203 = .ok (.istore 12, 2) := dk_54 12 (dk_at dksX9_reachedAt_8 15 rfl rfl)
theorem dX9_reachedAt_205 : decode cX9_reachedAt 205 = .ok (.iload 6, 2) := dk_21 6 (dk_at dksX9_reachedAt_8 17 rfl rfl)
theorem dX9_reachedAt_207 : decode cX9_reachedAt 207 = .ok (.iload 10, 2) := dk_21 10 (dk_at dksX9_reachedAt_8 19 rfl rfl)
theorem dX9_reachedAt_209 : decode cX9_reachedAt 209 = .ok (.iand, 1) := dk_126 (dk_at dksX9_reachedAt_8 21 rfl rfl)
theorem dX9_reachedAt_210 : decode cX9_reachedAt 210 = .ok (.ifCond .eq 13, 3) := dk_153 0 13 (dk_at dksX9_reachedAt_9 0 rfl rfl)
theorem dX9_reachedAt_213 : decode cX9_reachedAt 213 = .ok (.iload 6, 2) := dk_21 6 (dk_at dksX9_reachedAt_9 3 rfl rfl)
theorem dX9_reachedAt_215 : decode cX9_reachedAt 215 = .ok (.iload 12, 2) := dk_21 12 (dk_at dksX9_reachedAt_9 5 rfl rfl)
theorem dX9_reachedAt_217 : decode cX9_reachedAt 217 = .ok (.iload 5, 2) := dk_21 5 (dk_at dksX9_reachedAt_9 7 rfl rfl)
theorem dX9_reachedAt_219 : decode cX9_reachedAt 219 = .ok (.iand, 1) := dk_126 (dk_at dksX9_reachedAt_9 9 rfl rfl)
theorem dX9_reachedAt_220 : decode cX9_reachedAt 220 = .ok (.ior, 1) := dk_128 (dk_at dksX9_reachedAt_9 10 rfl rfl)
theorem dX9_reachedAt_221 : decode cX9_reachedAt 221 = .ok (.istore 6, 2) := dk_54 6 (dk_at dksX9_reachedAt_9 11 rfl rfl)
theorem dX9_reachedAt_223 : decode cX9_reachedAt 223 = .ok (.iload 6, 2) := dk_21 6 (dk_at dksX9_reachedAt_9 13 rfl rfl)
theorem dX9_reachedAt_225 : decode cX9_reachedAt 225 = .ok (.iload 12, 2) := dk_21 12 (dk_at dksX9_reachedAt_9 15 rfl rfl)
theorem dX9_reachedAt_227 : decode cX9_reachedAt 227 = .ok (.iand, 1) := dk_126 (dk_at dksX9_reachedAt_9 17 rfl rfl)
theorem dX9_reachedAt_228 : decode cX9_reachedAt 228 = .ok (.ifCond .eq 13, 3) := dk_153 0 13 (dk_at dksX9_reachedAt_9 18 rfl rfl)
theorem dX9_reachedAt_231 : decode cX9_reachedAt 231 = .ok (.iload 6, 2) := dk_21 6 (dk_at dksX9_reachedAt_9 21 rfl rfl)
theorem dX9_reachedAt_233 : decode cX9_reachedAt 233 = .ok (.iload 10, 2) := dk_21 10 (dk_at dksX9_reachedAt_10 0 rfl rfl)
theorem dX9_reachedAt_235 : decode cX9_reachedAt 235 = .ok (.iload 5, 2) := dk_21 5 (dk_at dksX9_reachedAt_10 2 rfl rfl)
theorem dX9_reachedAt_237 : decode cX9_reachedAt 237 = .ok (.iand, 1) := dk_126 (dk_at dksX9_reachedAt_10 4 rfl rfl)
theorem dX9_reachedAt_238 : decode cX9_reachedAt 238 = .ok (.ior, 1) := dk_128 (dk_at dksX9_reachedAt_10 5 rfl rfl)
theorem dX9_reachedAt_239 : decode cX9_reachedAt 239 = .ok (.istore 6, 2) := dk_54 6 (dk_at dksX9_reachedAt_10 6 rfl rfl)
theorem dX9_reachedAt_241 : decode cX9_reachedAt 241 = .ok (.iinc 9 1, 3) := dk_132 9 1 (dk_at dksX9_reachedAt_10 8 rfl rfl)
theorem dX9_reachedAt_244 : decode cX9_reachedAt 244 = .ok (.goto (-129), 3) := dk_167 255 127 (dk_at dksX9_reachedAt_10 11 rfl rfl)
theorem dX9_reachedAt_247 : decode cX9_reachedAt 247 = .ok (.iload 6, 2) := dk_21 6 (dk_at dksX9_reachedAt_10 14 rfl rfl)
theorem dX9_reachedAt_249 : decode cX9_reachedAt 249 = .ok (.iload 8, 2) := dk_21 8 (dk_at dksX9_reachedAt_10 16 rfl rfl)
theorem dX9_reachedAt_251 : decode cX9_reachedAt 251 = .ok (.if_icmp .eq 7, 3) := dk_159 0 7 (dk_at dksX9_reachedAt_10 18 rfl rfl)
theorem dX9_reachedAt_254 : decode cX9_reachedAt 254 = .ok (.iconst 1, 1) := dk_4 (dk_at dksX9_reachedAt_10 21 rfl rfl)
theorem dX9_reachedAt_255 : decode cX9_reachedAt 255 = .ok (.goto 4, 3) := dk_167 0 4 (dk_at dksX9_reachedAt_11 0 rfl rfl)
theorem dX9_reachedAt_258 : decode cX9_reachedAt 258 = .ok (.iconst 0, 1) := dk_3 (dk_at dksX9_reachedAt_11 3 rfl rfl)
theorem dX9_reachedAt_259 : decode cX9_reachedAt 259 = .ok (.istore 7, 2) := dk_54 7 (dk_at dksX9_reachedAt_11 4 rfl rfl)
theorem dX9_reachedAt_261 : decode cX9_reachedAt 261 = .ok (.goto (-158), 3) := dk_167 255 98 (dk_at dksX9_reachedAt_11 6 rfl rfl)
theorem dX9_reachedAt_264 : decode cX9_reachedAt 264 = .ok (.iload 6, 2) := dk_21 6 (dk_at dksX9_reachedAt_11 9 rfl rfl)
theorem dX9_reachedAt_266 : decode cX9_reachedAt 266 = .ok (.ireturn, 1) := dk_172 (dk_at dksX9_reachedAt_11 11 rfl rfl)
abbrev cX9_isMeeting : ByteArray := prog_23_method_71_code
def yX9_isMeeting : MethodName := ⟨RX9, "isMeeting", "(I)Z"⟩
def dkwX9_isMeeting_3 : List UInt8 := [5, 96, 46, 163, 0, 7, 4, 167, 0, 4, 3, 172]
abbrev dktX9_isMeeting_3 : List UInt8 := dkwX9_isMeeting_3 ++ []
def dkwX9_isMeeting_2 : List UInt8 := [164, 0, 10, 28, 21, 4, 100, 167, 0, 7, 21, 4, 28, 100, 42, 180, 0, 30, 16, 120, 6, 27, 104, 96]
abbrev dktX9_isMeeting_2 : List UInt8 := dkwX9_isMeeting_2 ++ dktX9_isMeeting_3
def dkwX9_isMeeting_1 : List UInt8 := [104, 96, 4, 96, 46, 62, 29, 156, 0, 7, 3, 167, 0, 8, 42, 29, 182, 1, 124, 54, 4, 28, 21, 4]
abbrev dktX9_isMeeting_1 : List UInt8 := dkwX9_isMeeting_1 ++ dktX9_isMeeting_2
def dkwX9_isMeeting_0 : List UInt8 := [42, 42, 180, 0, 30, 16, 120, 6, 27, 104, 96, 46, 182, 1, 124, 61, 42, 180, 0, 30, 16, 120, 6, 27]
abbrev dktX9_isMeeting_0 : List UInt8 := dkwX9_isMeeting_0 ++ dktX9_isMeeting_1
theorem dksX9_isMeeting_0 : cX9_isMeeting.data.toList.drop 0 = dktX9_isMeeting_0 := by decide +kernel
theorem dksX9_isMeeting_1 : cX9_isMeeting.data.toList.drop 24 = dktX9_isMeeting_1 := dk_seg dksX9_isMeeting_0 24 rfl rfl
theorem dksX9_isMeeting_2 : cX9_isMeeting.data.toList.drop 48 = dktX9_isMeeting_2 := dk_seg dksX9_isMeeting_1 24 rfl rfl
theorem dksX9_isMeeting_3 : cX9_isMeeting.data.toList.drop 72 = dktX9_isMeeting_3 := dk_seg dksX9_isMeeting_2 24 rfl rfl
theorem dX9_isMeeting_0 : decode cX9_isMeeting 0 = .ok (.aload_n 0, 1) := dk_42 (dk_at dksX9_isMeeting_0 0 rfl rfl)
theorem dX9_isMeeting_1 : decode cX9_isMeeting 1 = .ok (.aload_n 0, 1) := dk_42 (dk_at dksX9_isMeeting_0 1 rfl rfl)
theorem dX9_isMeeting_2 : decode cX9_isMeeting 2 = .ok (.getfield 30, 3) := dk_180 0 30 (dk_at dksX9_isMeeting_0 2 rfl rfl)
theorem dX9_isMeeting_5 : decode cX9_isMeeting 5 = .ok (.bipush 120, 2) := dk_16 120 (dk_at dksX9_isMeeting_0 5 rfl rfl)
theorem dX9_isMeeting_7 : decode cX9_isMeeting 7 = .ok (.iconst 3, 1) := dk_6 (dk_at dksX9_isMeeting_0 7 rfl rfl)
theorem dX9_isMeeting_8 : decode cX9_isMeeting 8 = .ok (.iload_n 1, 1) := dk_27 (dk_at dksX9_isMeeting_0 8 rfl rfl)
theorem dX9_isMeeting_9 : decode cX9_isMeeting 9 = .ok (.imul, 1) := dk_104 (dk_at dksX9_isMeeting_0 9 rfl rfl)
theorem dX9_isMeeting_10 : decode cX9_isMeeting 10 = .ok (.iadd, 1) := dk_96 (dk_at dksX9_isMeeting_0 10 rfl rfl)
theorem dX9_isMeeting_11 : decode cX9_isMeeting 11 = .ok (.iaload, 1) := dk_46 (dk_at dksX9_isMeeting_0 11 rfl rfl)
theorem dX9_isMeeting_12 : decode cX9_isMeeting 12 = .ok (.invokevirtual 380, 3) := dk_182 1 124 (dk_at dksX9_isMeeting_0 12 rfl rfl)
theorem dX9_isMeeting_15 : decode cX9_isMeeting 15 = .ok (.istore_n 2, 1) := dk_61 (dk_at dksX9_isMeeting_0 15 rfl rfl)
theorem dX9_isMeeting_16 : decode cX9_isMeeting 16 = .ok (.aload_n 0, 1) := dk_42 (dk_at dksX9_isMeeting_0 16 rfl rfl)
theorem dX9_isMeeting_17 : decode cX9_isMeeting 17 = .ok (.getfield 30, 3) := dk_180 0 30 (dk_at dksX9_isMeeting_0 17 rfl rfl)
theorem dX9_isMeeting_20 : decode cX9_isMeeting 20 = .ok (.bipush 120, 2) := dk_16 120 (dk_at dksX9_isMeeting_0 20 rfl rfl)
theorem dX9_isMeeting_22 : decode cX9_isMeeting 22 = .ok (.iconst 3, 1) := dk_6 (dk_at dksX9_isMeeting_0 22 rfl rfl)
theorem dX9_isMeeting_23 : decode cX9_isMeeting 23 = .ok (.iload_n 1, 1) := dk_27 (dk_at dksX9_isMeeting_0 23 rfl rfl)
theorem dX9_isMeeting_24 : decode cX9_isMeeting 24 = .ok (.imul, 1) := dk_104 (dk_at dksX9_isMeeting_1 0 rfl rfl)
theorem dX9_isMeeting_25 : decode cX9_isMeeting 25 = .ok (.iadd, 1) := dk_96 (dk_at dksX9_isMeeting_1 1 rfl rfl)
theorem dX9_isMeeting_26 : decode cX9_isMeeting 26 = .ok (.iconst 1, 1) := dk_4 (dk_at dksX9_isMeeting_1 2 rfl rfl)
theorem dX9_isMeeting_27 : decode cX9_isMeeting 27 = .ok (.iadd, 1) := dk_96 (dk_at dksX9_isMeeting_1 3 rfl rfl)
theorem dX9_isMeeting_28 : decode cX9_isMeeting 28 = .ok (.iaload, 1) := dk_46 (dk_at dksX9_isMeeting_1 4 rfl rfl)
theorem dX9_isMeeting_29 : decode cX9_isMeeting 29 = .ok (.istore_n 3, 1) := dk_62 (dk_at dksX9_isMeeting_1 5 rfl rfl)
theorem dX9_isMeeting_30 : decode cX9_isMeeting 30 = .ok (.iload_n 3, 1) := dk_29 (dk_at dksX9_isMeeting_1 6 rfl rfl)
theorem dX9_isMeeting_31 : decode cX9_isMeeting 31 = .ok (.ifCond .ge 7, 3) := dk_156 0 7 (dk_at dksX9_isMeeting_1 7 rfl rfl)
theorem dX9_isMeeting_34 : decode cX9_isMeeting 34 = .ok (.iconst 0, 1) := dk_3 (dk_at dksX9_isMeeting_1 10 rfl rfl)
theorem dX9_isMeeting_35 : decode cX9_isMeeting 35 = .ok (.goto 8, 3) := dk_167 0 8 (dk_at dksX9_isMeeting_1 11 rfl rfl)
theorem dX9_isMeeting_38 : decode cX9_isMeeting 38 = .ok (.aload_n 0, 1) := dk_42 (dk_at dksX9_isMeeting_1 14 rfl rfl)
theorem dX9_isMeeting_39 : decode cX9_isMeeting 39 = .ok (.iload_n 3, 1) := dk_29 (dk_at dksX9_isMeeting_1 15 rfl rfl)
theorem dX9_isMeeting_40 : decode cX9_isMeeting 40 = .ok (.invokevirtual 380, 3) := dk_182 1 124 (dk_at dksX9_isMeeting_1 16 rfl rfl)
theorem dX9_isMeeting_43 : decode cX9_isMeeting 43 = .ok (.istore 4, 2) := dk_54 4 (dk_at dksX9_isMeeting_1 19 rfl rfl)
theorem dX9_isMeeting_45 : decode cX9_isMeeting 45 = .ok (.iload_n 2, 1) := dk_28 (dk_at dksX9_isMeeting_1 21 rfl rfl)
theorem dX9_isMeeting_46 : decode cX9_isMeeting 46 = .ok (.iload 4, 2) := dk_21 4 (dk_at dksX9_isMeeting_1 22 rfl rfl)
theorem dX9_isMeeting_48 : decode cX9_isMeeting 48 = .ok (.if_icmp .le 10, 3) := dk_164 0 10 (dk_at dksX9_isMeeting_2 0 rfl rfl)
theorem dX9_isMeeting_51 : decode cX9_isMeeting 51 = .ok (.iload_n 2, 1) := dk_28 (dk_at dksX9_isMeeting_2 3 rfl rfl)
theorem dX9_isMeeting_52 : decode cX9_isMeeting 52 = .ok (.iload 4, 2) := dk_21 4 (dk_at dksX9_isMeeting_2 4 rfl rfl)
theorem dX9_isMeeting_54 : decode cX9_isMeeting 54 = .ok (.isub, 1) := dk_100 (dk_at dksX9_isMeeting_2 6 rfl rfl)
theorem dX9_isMeeting_55 : decode cX9_isMeeting 55 = .ok (.goto 7, 3) := dk_167 0 7 (dk_at dksX9_isMeeting_2 7 rfl rfl)
theorem dX9_isMeeting_58 : decode cX9_isMeeting 58 = .ok (.iload 4, 2) := dk_21 4 (dk_at dksX9_isMeeting_2 10 rfl rfl)
theorem dX9_isMeeting_60 : decode cX9_isMeeting 60 = .ok (.iload_n 2, 1) := dk_28 (dk_at dksX9_isMeeting_2 12 rfl rfl)
theorem dX9_isMeeting_61 : decode cX9_isMeeting 61 = .ok (.isub, 1) := dk_100 (dk_at dksX9_isMeeting_2 13 rfl rfl)
theorem dX9_isMeeting_62 : decode cX9_isMeeting 62 = .ok (.aload_n 0, 1) := dk_42 (dk_at dksX9_isMeeting_2 14 rfl rfl)
theorem dX9_isMeeting_63 : decode cX9_isMeeting 63 = .ok (.getfield 30, 3) := dk_180 0 30 (dk_at dksX9_isMeeting_2 15 rfl rfl)
theorem dX9_isMeeting_66 : decode cX9_isMeeting 66 = .ok (.bipush 120, 2) := dk_16 120 (dk_at dksX9_isMeeting_2 18 rfl rfl)
theorem dX9_isMeeting_68 : decode cX9_isMeeting 68 = .ok (.iconst 3, 1) := dk_6 (dk_at dksX9_isMeeting_2 20 rfl rfl)
theorem dX9_isMeeting_69 : decode cX9_isMeeting 69 = .ok (.iload_n 1, 1) := dk_27 (dk_at dksX9_isMeeting_2 21 rfl rfl)
theorem dX9_isMeeting_70 : decode cX9_isMeeting 70 = .ok (.imul, 1) := dk_104 (dk_at dksX9_isMeeting_2 22 rfl rfl)
theorem dX9_isMeeting_71 : decode cX9_isMeeting 71 = .ok (.iadd, 1) := dk_96 (dk_at dksX9_isMeeting_2 23 rfl rfl)
theorem dX9_isMeeting_72 : decode cX9_isMeeting 72 = .ok (.iconst 2, 1) := dk_5 (dk_at dksX9_isMeeting_3 0 rfl rfl)
theorem dX9_isMeeting_73 : decode cX9_isMeeting 73 = .ok (.iadd, 1) := dk_96 (dk_at dksX9_isMeeting_3 1 rfl rfl)
theorem dX9_isMeeting_74 : decode cX9_isMeeting 74 = .ok (.iaload, 1) := dk_46 (dk_at dksX9_isMeeting_3 2 rfl rfl)
theorem dX9_isMeeting_75 : decode cX9_isMeeting 75 = .ok (.if_icmp .gt 7, 3) := dk_163 0 7 (dk_at dksX9_isMeeting_3 3 rfl rfl)
theorem dX9_isMeeting_78 : decode cX9_isMeeting 78 = .ok (.iconst 1, 1) := dk_4 (dk_at dksX9_isMeeting_3 6 rfl rfl)
theorem dX9_isMeeting_79 : decode cX9_isMeeting 79 = .ok (.goto 4, 3) := dk_167 0 4 (dk_at dksX9_isMeeting_3 7 rfl rfl)
theorem dX9_isMeeting_82 : decode cX9_isMeeting 82 = .ok (.iconst 0, 1) := dk_3 (dk_at dksX9_isMeeting_3 10 rfl rfl)
theorem dX9_isMeeting_83 : decode cX9_isMeeting 83 = .ok (.ireturn, 1) := dk_172 (dk_at dksX9_isMeeting_3 11 rfl rfl)
abbrev cX9_hours : ByteArray := prog_23_method_75_code
def yX9_hours : MethodName := ⟨RX9, "hours", "(I)I"⟩
def dkwX9_hours_1 : List UInt8 := [2, 182, 1, 149, 27, 122, 4, 126, 96, 61, 132, 3, 1, 167, 255, 233, 28, 172]
abbrev dktX9_hours_1 : List UInt8 := dkwX9_hours_1 ++ []
def dkwX9_hours_0 : List UInt8 := [42, 27, 182, 1, 121, 154, 0, 5, 2, 172, 3, 61, 3, 62, 29, 16, 24, 162, 0, 23, 28, 42, 29, 2]
abbrev dktX9_hours_0 : List UInt8 := dkwX9_hours_0 ++ dktX9_hours_1
theorem dksX9_hours_0 : cX9_hours.data.toList.drop 0 = dktX9_hours_0 := by decide +kernel
theorem dksX9_hours_1 : cX9_hours.data.toList.drop 24 = dktX9_hours_1 := dk_seg dksX9_hours_0 24 rfl rfl
theorem dX9_hours_0 : decode cX9_hours 0 = .ok (.aload_n 0, 1) := dk_42 (dk_at dksX9_hours_0 0 rfl rfl)
theorem dX9_hours_1 : decode cX9_hours 1 = .ok (.iload_n 1, 1) := dk_27 (dk_at dksX9_hours_0 1 rfl rfl)
theorem dX9_hours_2 : decode cX9_hours 2 = .ok (.invokevirtual 377, 3) := dk_182 1 121 (dk_at dksX9_hours_0 2 rfl rfl)
theorem dX9_hours_5 : decode cX9_hours 5 = .ok (.ifCond .ne 5, 3) := dk_154 0 5 (dk_at dksX9_hours_0 5 rfl rfl)
theorem dX9_hours_8 : decode cX9_hours 8 = .ok (.iconst (-1), 1) := dk_2 (dk_at dksX9_hours_0 8 rfl rfl)
theorem dX9_hours_9 : decode cX9_hours 9 = .ok (.ireturn, 1) := dk_172 (dk_at dksX9_hours_0 9 rfl rfl)
theorem dX9_hours_10 : decode cX9_hours 10 = .ok (.iconst 0, 1) := dk_3 (dk_at dksX9_hours_0 10 rfl rfl)
theorem dX9_hours_11 : decode cX9_hours 11 = .ok (.istore_n 2, 1) := dk_61 (dk_at dksX9_hours_0 11 rfl rfl)
theorem dX9_hours_12 : decode cX9_hours 12 = .ok (.iconst 0, 1) := dk_3 (dk_at dksX9_hours_0 12 rfl rfl)
theorem dX9_hours_13 : decode cX9_hours 13 = .ok (.istore_n 3, 1) := dk_62 (dk_at dksX9_hours_0 13 rfl rfl)
theorem dX9_hours_14 : decode cX9_hours 14 = .ok (.iload_n 3, 1) := dk_29 (dk_at dksX9_hours_0 14 rfl rfl)
theorem dX9_hours_15 : decode cX9_hours 15 = .ok (.bipush 24, 2) := dk_16 24 (dk_at dksX9_hours_0 15 rfl rfl)
theorem dX9_hours_17 : decode cX9_hours 17 = .ok (.if_icmp .ge 23, 3) := dk_162 0 23 (dk_at dksX9_hours_0 17 rfl rfl)
theorem dX9_hours_20 : decode cX9_hours 20 = .ok (.iload_n 2, 1) := dk_28 (dk_at dksX9_hours_0 20 rfl rfl)
theorem dX9_hours_21 : decode cX9_hours 21 = .ok (.aload_n 0, 1) := dk_42 (dk_at dksX9_hours_0 21 rfl rfl)
theorem dX9_hours_22 : decode cX9_hours 22 = .ok (.iload_n 3, 1) := dk_29 (dk_at dksX9_hours_0 22 rfl rfl)
theorem dX9_hours_23 : decode cX9_hours 23 = .ok (.iconst (-1), 1) := dk_2 (dk_at dksX9_hours_0 23 rfl rfl)
theorem dX9_hours_24 : decode cX9_hours 24 = .ok (.iconst (-1), 1) := dk_2 (dk_at dksX9_hours_1 0 rfl rfl)
theorem dX9_hours_25 : decode cX9_hours 25 = .ok (.invokevirtual 405, 3) := dk_182 1 149 (dk_at dksX9_hours_1 1 rfl rfl)
theorem dX9_hours_28 : decode cX9_hours 28 = .ok (.iload_n 1, 1) := dk_27 (dk_at dksX9_hours_1 4 rfl rfl)
theorem dX9_hours_29 : decode cX9_hours 29 = .ok (.ishr, 1) := dk_122 (dk_at dksX9_hours_1 5 rfl rfl)
theorem dX9_hours_30 : decode cX9_hours 30 = .ok (.iconst 1, 1) := dk_4 (dk_at dksX9_hours_1 6 rfl rfl)
theorem dX9_hours_31 : decode cX9_hours 31 = .ok (.iand, 1) := dk_126 (dk_at dksX9_hours_1 7 rfl rfl)
theorem dX9_hours_32 : decode cX9_hours 32 = .ok (.iadd, 1) := dk_96 (dk_at dksX9_hours_1 8 rfl rfl)
theorem dX9_hours_33 : decode cX9_hours 33 = .ok (.istore_n 2, 1) := dk_61 (dk_at dksX9_hours_1 9 rfl rfl)
theorem dX9_hours_34 : decode cX9_hours 34 = .ok (.iinc 3 1, 3) := dk_132 3 1 (dk_at dksX9_hours_1 10 rfl rfl)
theorem dX9_hours_37 : decode cX9_hours 37 = .ok (.goto (-23), 3) := dk_167 255 233 (dk_at dksX9_hours_1 13 rfl rfl)
theorem dX9_hours_40 : decode cX9_hours 40 = .ok (.iload_n 2, 1) := dk_28 (dk_at dksX9_hours_1 16 rfl rfl)
theorem dX9_hours_41 : decode cX9_hours 41 = .ok (.ireturn, 1) := dk_172 (dk_at dksX9_hours_1 17 rfl rfl)
abbrev cX9_meets : ByteArray := prog_23_method_76_code
def yX9_meets : MethodName := ⟨RX9, "meets", "(I)I"⟩
def dkwX9_meets_1 : List UInt8 := [153, 0, 7, 4, 167, 0, 4, 3, 172]
abbrev dktX9_meets_1 : List UInt8 := dkwX9_meets_1 ++ []
def dkwX9_meets_0 : List UInt8 := [27, 155, 0, 13, 27, 42, 180, 0, 30, 6, 46, 161, 0, 7, 2, 167, 0, 16, 42, 27, 182, 1, 146]
abbrev dktX9_meets_0 : List UInt8 := dkwX9_meets_0 ++ dktX9_meets_1
theorem dksX9_meets_0 : cX9_meets.data.toList.drop 0 = dktX9_meets_0 := by decide +kernel
theorem dksX9_meets_1 : cX9_meets.data.toList.drop 23 = dktX9_meets_1 := dk_seg dksX9_meets_0 23 rfl rfl
theorem dX9_meets_0 : decode cX9_meets 0 = .ok (.iload_n 1, 1) := dk_27 (dk_at dksX9_meets_0 0 rfl rfl)
theorem dX9_meets_1 : decode cX9_meets 1 = .ok (.ifCond .lt 13, 3) := dk_155 0 13 (dk_at dksX9_meets_0 1 rfl rfl)
theorem dX9_meets_4 : decode cX9_meets 4 = .ok (.iload_n 1, 1) := dk_27 (dk_at dksX9_meets_0 4 rfl rfl)
theorem dX9_meets_5 : decode cX9_meets 5 = .ok (.aload_n 0, 1) := dk_42 (dk_at dksX9_meets_0 5 rfl rfl)
theorem dX9_meets_6 : decode cX9_meets 6 = .ok (.getfield 30, 3) := dk_180 0 30 (dk_at dksX9_meets_0 6 rfl rfl)
theorem dX9_meets_9 : decode cX9_meets 9 = .ok (.iconst 3, 1) := dk_6 (dk_at dksX9_meets_0 9 rfl rfl)
theorem dX9_meets_10 : decode cX9_meets 10 = .ok (.iaload, 1) := dk_46 (dk_at dksX9_meets_0 10 rfl rfl)
theorem dX9_meets_11 : decode cX9_meets 11 = .ok (.if_icmp .lt 7, 3) := dk_161 0 7 (dk_at dksX9_meets_0 11 rfl rfl)
theorem dX9_meets_14 : decode cX9_meets 14 = .ok (.iconst (-1), 1) := dk_2 (dk_at dksX9_meets_0 14 rfl rfl)
theorem dX9_meets_15 : decode cX9_meets 15 = .ok (.goto 16, 3) := dk_167 0 16 (dk_at dksX9_meets_0 15 rfl rfl)
theorem dX9_meets_18 : decode cX9_meets 18 = .ok (.aload_n 0, 1) := dk_42 (dk_at dksX9_meets_0 18 rfl rfl)
theorem dX9_meets_19 : decode cX9_meets 19 = .ok (.iload_n 1, 1) := dk_27 (dk_at dksX9_meets_0 19 rfl rfl)
theorem dX9_meets_20 : decode cX9_meets 20 = .ok (.invokevirtual 402, 3) := dk_182 1 146 (dk_at dksX9_meets_0 20 rfl rfl)
theorem dX9_meets_23 : decode cX9_meets 23 = .ok (.ifCond .eq 7, 3) := dk_153 0 7 (dk_at dksX9_meets_1 0 rfl rfl)
theorem dX9_meets_26 : decode cX9_meets 26 = .ok (.iconst 1, 1) := dk_4 (dk_at dksX9_meets_1 3 rfl rfl)
theorem dX9_meets_27 : decode cX9_meets 27 = .ok (.goto 4, 3) := dk_167 0 4 (dk_at dksX9_meets_1 4 rfl rfl)
theorem dX9_meets_30 : decode cX9_meets 30 = .ok (.iconst 0, 1) := dk_3 (dk_at dksX9_meets_1 7 rfl rfl)
theorem dX9_meets_31 : decode cX9_meets 31 = .ok (.ireturn, 1) := dk_172 (dk_at dksX9_meets_1 8 rfl rfl)
abbrev cX9_cut : ByteArray := prog_23_method_79_code
def yX9_cut : MethodName := ⟨RX9, "cut", "(IZI)I"⟩
def dkwX9_cut_1 : List UInt8 := [42, 27, 28, 29, 182, 1, 159, 172]
abbrev dktX9_cut_1 : List UInt8 := dkwX9_cut_1 ++ []
def dkwX9_cut_0 : List UInt8 := [27, 155, 0, 19, 27, 42, 28, 182, 1, 155, 162, 0, 10, 29, 184, 1, 140, 154, 0, 7, 2, 167, 0, 10]
abbrev dktX9_cut_0 : List UInt8 := dkwX9_cut_0 ++ dktX9_cut_1
theorem dksX9_cut_0 : cX9_cut.data.toList.drop 0 = dktX9_cut_0 := by decide +kernel
theorem dksX9_cut_1 : cX9_cut.data.toList.drop 24 = dktX9_cut_1 := dk_seg dksX9_cut_0 24 rfl rfl
theorem dX9_cut_0 : decode cX9_cut 0 = .ok (.iload_n 1, 1) := dk_27 (dk_at dksX9_cut_0 0 rfl rfl)
theorem dX9_cut_1 : decode cX9_cut 1 = .ok (.ifCond .lt 19, 3) := dk_155 0 19 (dk_at dksX9_cut_0 1 rfl rfl)
theorem dX9_cut_4 : decode cX9_cut 4 = .ok (.iload_n 1, 1) := dk_27 (dk_at dksX9_cut_0 4 rfl rfl)
theorem dX9_cut_5 : decode cX9_cut 5 = .ok (.aload_n 0, 1) := dk_42 (dk_at dksX9_cut_0 5 rfl rfl)
theorem dX9_cut_6 : decode cX9_cut 6 = .ok (.iload_n 2, 1) := dk_28 (dk_at dksX9_cut_0 6 rfl rfl)
theorem dX9_cut_7 : decode cX9_cut 7 = .ok (.invokevirtual 411, 3) := dk_182 1 155 (dk_at dksX9_cut_0 7 rfl rfl)
theorem dX9_cut_10 : decode cX9_cut 10 = .ok (.if_icmp .ge 10, 3) := dk_162 0 10 (dk_at dksX9_cut_0 10 rfl rfl)
theorem dX9_cut_13 : decode cX9_cut 13 = .ok (.iload_n 3, 1) := dk_29 (dk_at dksX9_cut_0 13 rfl rfl)
theorem dX9_cut_14 : decode cX9_cut 14 = .ok (.invokestatic 396, 3) := dk_184 1 140 (dk_at dksX9_cut_0 14 rfl rfl)
theorem dX9_cut_17 : decode cX9_cut 17 = .ok (.ifCond .ne 7, 3) := dk_154 0 7 (dk_at dksX9_cut_0 17 rfl rfl)
theorem dX9_cut_20 : decode cX9_cut 20 = .ok (.iconst (-1), 1) := dk_2 (dk_at dksX9_cut_0 20 rfl rfl)
theorem dX9_cut_21 : decode cX9_cut 21 = .ok (.goto 10, 3) := dk_167 0 10 (dk_at dksX9_cut_0 21 rfl rfl)
theorem dX9_cut_24 : decode cX9_cut 24 = .ok (.aload_n 0, 1) := dk_42 (dk_at dksX9_cut_1 0 rfl rfl)
theorem dX9_cut_25 : decode cX9_cut 25 = .ok (.iload_n 1, 1) := dk_27 (dk_at dksX9_cut_1 1 rfl rfl)
theorem dX9_cut_26 : decode cX9_cut 26 = .ok (.iload_n 2, 1) := dk_28 (dk_at dksX9_cut_1 2 rfl rfl)
theorem dX9_cut_27 : decode cX9_cut 27 = .ok (.iload_n 3, 1) := dk_29 (dk_at dksX9_cut_1 3 rfl rfl)
theorem dX9_cut_28 : decode cX9_cut 28 = .ok (.invokevirtual 415, 3) := dk_182 1 159 (dk_at dksX9_cut_1 4 rfl rfl)
theorem dX9_cut_31 : decode cX9_cut 31 = .ok (.ireturn, 1) := dk_172 (dk_at dksX9_cut_1 7 rfl rfl)
abbrev cX9_manyOf : ByteArray := prog_23_method_78_code
def yX9_manyOf : MethodName := ⟨RX9, "manyOf", "(Z)I"⟩
def dkwX9_manyOf_0 : List UInt8 := [27, 153, 0, 12, 42, 180, 0, 30, 6, 46, 167, 0, 9, 42, 180, 0, 30, 3, 46, 172]
abbrev dktX9_manyOf_0 : List UInt8 := dkwX9_manyOf_0 ++ []
theorem dksX9_manyOf_0 : cX9_manyOf.data.toList.drop 0 = dktX9_manyOf_0 := by decide +kernel
theorem dX9_manyOf_0 : decode cX9_manyOf 0 = .ok (.iload_n 1, 1) := dk_27 (dk_at dksX9_manyOf_0 0 rfl rfl)
theorem dX9_manyOf_1 : decode cX9_manyOf 1 = .ok (.ifCond .eq 12, 3) := dk_153 0 12 (dk_at dksX9_manyOf_0 1 rfl rfl)
theorem dX9_manyOf_4 : decode cX9_manyOf 4 = .ok (.aload_n 0, 1) := dk_42 (dk_at dksX9_manyOf_0 4 rfl rfl)
theorem dX9_manyOf_5 : decode cX9_manyOf 5 = .ok (.getfield 30, 3) := dk_180 0 30 (dk_at dksX9_manyOf_0 5 rfl rfl)
theorem dX9_manyOf_8 : decode cX9_manyOf 8 = .ok (.iconst 3, 1) := dk_6 (dk_at dksX9_manyOf_0 8 rfl rfl)
theorem dX9_manyOf_9 : decode cX9_manyOf 9 = .ok (.iaload, 1) := dk_46 (dk_at dksX9_manyOf_0 9 rfl rfl)
theorem dX9_manyOf_10 : decode cX9_manyOf 10 = .ok (.goto 9, 3) := dk_167 0 9 (dk_at dksX9_manyOf_0 10 rfl rfl)
theorem dX9_manyOf_13 : decode cX9_manyOf 13 = .ok (.aload_n 0, 1) := dk_42 (dk_at dksX9_manyOf_0 13 rfl rfl)
theorem dX9_manyOf_14 : decode cX9_manyOf 14 = .ok (.getfield 30, 3) := dk_180 0 30 (dk_at dksX9_manyOf_0 14 rfl rfl)
theorem dX9_manyOf_17 : decode cX9_manyOf 17 = .ok (.iconst 0, 1) := dk_3 (dk_at dksX9_manyOf_0 17 rfl rfl)
theorem dX9_manyOf_18 : decode cX9_manyOf 18 = .ok (.iaload, 1) := dk_46 (dk_at dksX9_manyOf_0 18 rfl rfl)
theorem dX9_manyOf_19 : decode cX9_manyOf 19 = .ok (.ireturn, 1) := dk_172 (dk_at dksX9_manyOf_0 19 rfl rfl)
abbrev cX9_cutOf : ByteArray := prog_23_method_77_code
def yX9_cutOf : MethodName := ⟨RX9, "cutOf", "(IZI)I"⟩
def dkwX9_cutOf_2 : List UInt8 := [167, 0, 8, 4, 27, 120, 2, 130, 126, 184, 1, 152, 172]
abbrev dktX9_cutOf_2 : List UInt8 := dkwX9_cutOf_2 ++ []
def dkwX9_cutOf_1 : List UInt8 := [2, 167, 0, 4, 27, 182, 1, 149, 54, 5, 21, 4, 21, 5, 2, 130, 126, 28, 153, 0, 7, 2]
abbrev dktX9_cutOf_1 : List UInt8 := dkwX9_cutOf_1 ++ dktX9_cutOf_2
def dkwX9_cutOf_0 : List UInt8 := [42, 29, 2, 2, 182, 1, 149, 54, 4, 42, 29, 28, 153, 0, 7, 27, 167, 0, 4, 2, 28, 153, 0, 7]
abbrev dktX9_cutOf_0 : List UInt8 := dkwX9_cutOf_0 ++ dktX9_cutOf_1
theorem dksX9_cutOf_0 : cX9_cutOf.data.toList.drop 0 = dktX9_cutOf_0 := by decide +kernel
theorem dksX9_cutOf_1 : cX9_cutOf.data.toList.drop 24 = dktX9_cutOf_1 := dk_seg dksX9_cutOf_0 24 rfl rfl
theorem dksX9_cutOf_2 : cX9_cutOf.data.toList.drop 46 = dktX9_cutOf_2 := dk_seg dksX9_cutOf_1 22 rfl rfl
theorem dX9_cutOf_0 : decode cX9_cutOf 0 = .ok (.aload_n 0, 1) := dk_42 (dk_at dksX9_cutOf_0 0 rfl rfl)
theorem dX9_cutOf_1 : decode cX9_cutOf 1 = .ok (.iload_n 3, 1) := dk_29 (dk_at dksX9_cutOf_0 1 rfl rfl)
theorem dX9_cutOf_2 : decode cX9_cutOf 2 = .ok (.iconst (-1), 1) := dk_2 (dk_at dksX9_cutOf_0 2 rfl rfl)
theorem dX9_cutOf_3 : decode cX9_cutOf 3 = .ok (.iconst (-1), 1) := dk_2 (dk_at dksX9_cutOf_0 3 rfl rfl)
theorem dX9_cutOf_4 : decode cX9_cutOf 4 = .ok (.invokevirtual 405, 3) := dk_182 1 149 (dk_at dksX9_cutOf_0 4 rfl rfl)
theorem dX9_cutOf_7 : decode cX9_cutOf 7 = .ok (.istore 4, 2) := dk_54 4 (dk_at dksX9_cutOf_0 7 rfl rfl)
theorem dX9_cutOf_9 : decode cX9_cutOf 9 = .ok (.aload_n 0, 1) := dk_42 (dk_at dksX9_cutOf_0 9 rfl rfl)
theorem dX9_cutOf_10 : decode cX9_cutOf 10 = .ok (.iload_n 3, 1) := dk_29 (dk_at dksX9_cutOf_0 10 rfl rfl)
theorem dX9_cutOf_11 : decode cX9_cutOf 11 = .ok (.iload_n 2, 1) := dk_28 (dk_at dksX9_cutOf_0 11 rfl rfl)
theorem dX9_cutOf_12 : decode cX9_cutOf 12 = .ok (.ifCond .eq 7, 3) := dk_153 0 7 (dk_at dksX9_cutOf_0 12 rfl rfl)
theorem dX9_cutOf_15 : decode cX9_cutOf 15 = .ok (.iload_n 1, 1) := dk_27 (dk_at dksX9_cutOf_0 15 rfl rfl)
theorem dX9_cutOf_16 : decode cX9_cutOf 16 = .ok (.goto 4, 3) := dk_167 0 4 (dk_at dksX9_cutOf_0 16 rfl rfl)
theorem dX9_cutOf_19 : decode cX9_cutOf 19 = .ok (.iconst (-1), 1) := dk_2 (dk_at dksX9_cutOf_0 19 rfl rfl)
theorem dX9_cutOf_20 : decode cX9_cutOf 20 = .ok (.iload_n 2, 1) := dk_28 (dk_at dksX9_cutOf_0 20 rfl rfl)
theorem dX9_cutOf_21 : decode cX9_cutOf 21 = .ok (.ifCond .eq 7, 3) := dk_153 0 7 (dk_at dksX9_cutOf_0 21 rfl rfl)
theorem dX9_cutOf_24 : decode cX9_cutOf 24 = .ok (.iconst (-1), 1) := dk_2 (dk_at dksX9_cutOf_1 0 rfl rfl)
theorem dX9_cutOf_25 : decode cX9_cutOf 25 = .ok (.goto 4, 3) := dk_167 0 4 (dk_at dksX9_cutOf_1 1 rfl rfl)
theorem dX9_cutOf_28 : decode cX9_cutOf 28 = .ok (.iload_n 1, 1) := dk_27 (dk_at dksX9_cutOf_1 4 rfl rfl)
theorem dX9_cutOf_29 : decode cX9_cutOf 29 = .ok (.invokevirtual 405, 3) := dk_182 1 149 (dk_at dksX9_cutOf_1 5 rfl rfl)
theorem dX9_cutOf_32 : decode cX9_cutOf 32 = .ok (.istore 5, 2) := dk_54 5 (dk_at dksX9_cutOf_1 8 rfl rfl)
theorem dX9_cutOf_34 : decode cX9_cutOf 34 = .ok (.iload 4, 2) := dk_21 4 (dk_at dksX9_cutOf_1 10 rfl rfl)
theorem dX9_cutOf_36 : decode cX9_cutOf 36 = .ok (.iload 5, 2) := dk_21 5 (dk_at dksX9_cutOf_1 12 rfl rfl)
theorem dX9_cutOf_38 : decode cX9_cutOf 38 = .ok (.iconst (-1), 1) := dk_2 (dk_at dksX9_cutOf_1 14 rfl rfl)
theorem dX9_cutOf_39 : decode cX9_cutOf 39 = .ok (.ixor, 1) := dk_130 (dk_at dksX9_cutOf_1 15 rfl rfl)
theorem dX9_cutOf_40 : decode cX9_cutOf 40 = .ok (.iand, 1) := dk_126 (dk_at dksX9_cutOf_1 16 rfl rfl)
theorem dX9_cutOf_41 : decode cX9_cutOf 41 = .ok (.iload_n 2, 1) := dk_28 (dk_at dksX9_cutOf_1 17 rfl rfl)
theorem dX9_cutOf_42 : decode cX9_cutOf 42 = .ok (.ifCond .eq 7, 3) := dk_153 0 7 (dk_at dksX9_cutOf_1 18 rfl rfl)
theorem dX9_cutOf_45 : decode cX9_cutOf 45 = .ok (.iconst (-1), 1) := dk_2 (dk_at dksX9_cutOf_1 21 rfl rfl)
theorem dX9_cutOf_46 : decode cX9_cutOf 46 = .ok (.goto 8, 3) := dk_167 0 8 (dk_at dksX9_cutOf_2 0 rfl rfl)
theorem dX9_cutOf_49 : decode cX9_cutOf 49 = .ok (.iconst 1, 1) := dk_4 (dk_at dksX9_cutOf_2 3 rfl rfl)
theorem dX9_cutOf_50 : decode cX9_cutOf 50 = .ok (.iload_n 1, 1) := dk_27 (dk_at dksX9_cutOf_2 4 rfl rfl)
theorem dX9_cutOf_51 : decode cX9_cutOf 51 = .ok (.ishl, 1) := dk_120 (dk_at dksX9_cutOf_2 5 rfl rfl)
theorem dX9_cutOf_52 : decode cX9_cutOf 52 = .ok (.iconst (-1), 1) := dk_2 (dk_at dksX9_cutOf_2 6 rfl rfl)
theorem dX9_cutOf_53 : decode cX9_cutOf 53 = .ok (.ixor, 1) := dk_130 (dk_at dksX9_cutOf_2 7 rfl rfl)
theorem dX9_cutOf_54 : decode cX9_cutOf 54 = .ok (.iand, 1) := dk_126 (dk_at dksX9_cutOf_2 8 rfl rfl)
theorem dX9_cutOf_55 : decode cX9_cutOf 55 = .ok (.invokestatic 408, 3) := dk_184 1 152 (dk_at dksX9_cutOf_2 9 rfl rfl)
theorem dX9_cutOf_58 : decode cX9_cutOf 58 = .ok (.ireturn, 1) := dk_172 (dk_at dksX9_cutOf_2 12 rfl rfl)
abbrev cX9_bitsOf : ByteArray := prog_23_method_73_code
def yX9_bitsOf : MethodName := ⟨RX9, "bitsOf", "(I)I"⟩
def dkwX9_bitsOf_1 : List UInt8 := [27, 172]
abbrev dktX9_bitsOf_1 : List UInt8 := dkwX9_bitsOf_1 ++ []
def dkwX9_bitsOf_0 : List UInt8 := [3, 60, 3, 61, 28, 16, 16, 162, 0, 17, 27, 26, 28, 122, 4, 126, 96, 60, 132, 2, 1, 167, 255, 239]
abbrev dktX9_bitsOf_0 : List UInt8 := dkwX9_bitsOf_0 ++ dktX9_bitsOf_1
theorem dksX9_bitsOf_0 : cX9_bitsOf.data.toList.drop 0 = dktX9_bitsOf_0 := by decide +kernel
theorem dksX9_bitsOf_1 : cX9_bitsOf.data.toList.drop 24 = dktX9_bitsOf_1 := dk_seg dksX9_bitsOf_0 24 rfl rfl
theorem dX9_bitsOf_0 : decode cX9_bitsOf 0 = .ok (.iconst 0, 1) := dk_3 (dk_at dksX9_bitsOf_0 0 rfl rfl)
theorem dX9_bitsOf_1 : decode cX9_bitsOf 1 = .ok (.istore_n 1, 1) := dk_60 (dk_at dksX9_bitsOf_0 1 rfl rfl)
theorem dX9_bitsOf_2 : decode cX9_bitsOf 2 = .ok (.iconst 0, 1) := dk_3 (dk_at dksX9_bitsOf_0 2 rfl rfl)
theorem dX9_bitsOf_3 : decode cX9_bitsOf 3 = .ok (.istore_n 2, 1) := dk_61 (dk_at dksX9_bitsOf_0 3 rfl rfl)
theorem dX9_bitsOf_4 : decode cX9_bitsOf 4 = .ok (.iload_n 2, 1) := dk_28 (dk_at dksX9_bitsOf_0 4 rfl rfl)
theorem dX9_bitsOf_5 : decode cX9_bitsOf 5 = .ok (.bipush 16, 2) := dk_16 16 (dk_at dksX9_bitsOf_0 5 rfl rfl)
theorem dX9_bitsOf_7 : decode cX9_bitsOf 7 = .ok (.if_icmp .ge 17, 3) := dk_162 0 17 (dk_at dksX9_bitsOf_0 7 rfl rfl)
theorem dX9_bitsOf_10 : decode cX9_bitsOf 10 = .ok (.iload_n 1, 1) := dk_27 (dk_at dksX9_bitsOf_0 10 rfl rfl)
theorem dX9_bitsOf_11 : decode cX9_bitsOf 11 = .ok (.iload_n 0, 1) := dk_26 (dk_at dksX9_bitsOf_0 11 rfl rfl)
theorem dX9_bitsOf_12 : decode cX9_bitsOf 12 = .ok (.iload_n 2, 1) := dk_28 (dk_at dksX9_bitsOf_0 12 rfl rfl)
theorem dX9_bitsOf_13 : decode cX9_bitsOf 13 = .ok (.ishr, 1) := dk_122 (dk_at dksX9_bitsOf_0 13 rfl rfl)
theorem dX9_bitsOf_14 : decode cX9_bitsOf 14 = .ok (.iconst 1, 1) := dk_4 (dk_at dksX9_bitsOf_0 14 rfl rfl)
theorem dX9_bitsOf_15 : decode cX9_bitsOf 15 = .ok (.iand, 1) := dk_126 (dk_at dksX9_bitsOf_0 15 rfl rfl)
theorem dX9_bitsOf_16 : decode cX9_bitsOf 16 = .ok (.iadd, 1) := dk_96 (dk_at dksX9_bitsOf_0 16 rfl rfl)
theorem dX9_bitsOf_17 : decode cX9_bitsOf 17 = .ok (.istore_n 1, 1) := dk_60 (dk_at dksX9_bitsOf_0 17 rfl rfl)
theorem dX9_bitsOf_18 : decode cX9_bitsOf 18 = .ok (.iinc 2 1, 3) := dk_132 2 1 (dk_at dksX9_bitsOf_0 18 rfl rfl)
theorem dX9_bitsOf_21 : decode cX9_bitsOf 21 = .ok (.goto (-17), 3) := dk_167 255 239 (dk_at dksX9_bitsOf_0 21 rfl rfl)
theorem dX9_bitsOf_24 : decode cX9_bitsOf 24 = .ok (.iload_n 1, 1) := dk_27 (dk_at dksX9_bitsOf_1 0 rfl rfl)
theorem dX9_bitsOf_25 : decode cX9_bitsOf 25 = .ok (.ireturn, 1) := dk_172 (dk_at dksX9_bitsOf_1 1 rfl rfl)
abbrev cX9_worst : ByteArray := prog_23_method_80_code
def yX9_worst : MethodName := ⟨RX9, "worst", "(ZI)I"⟩
def dkwX9_worst_2 : List UInt8 := [163, 0, 6, 167, 0, 10, 21, 5, 62, 21, 6, 54, 4, 132, 5, 1, 167, 255, 212, 29, 172]
abbrev dktX9_worst_2 : List UInt8 := dkwX9_worst_2 ++ []
def dkwX9_worst_1 : List UInt8 := [182, 1, 155, 162, 0, 40, 42, 21, 5, 27, 28, 182, 1, 159, 54, 6, 29, 155, 0, 13, 21, 6, 21, 4]
abbrev dktX9_worst_1 : List UInt8 := dkwX9_worst_1 ++ dktX9_worst_2
def dkwX9_worst_0 : List UInt8 := [28, 184, 1, 140, 154, 0, 5, 2, 172, 16, 254, 62, 3, 54, 4, 3, 54, 5, 21, 5, 42, 27]
abbrev dktX9_worst_0 : List UInt8 := dkwX9_worst_0 ++ dktX9_worst_1
theorem dksX9_worst_0 : cX9_worst.data.toList.drop 0 = dktX9_worst_0 := by decide +kernel
theorem dksX9_worst_1 : cX9_worst.data.toList.drop 22 = dktX9_worst_1 := dk_seg dksX9_worst_0 22 rfl rfl
theorem dksX9_worst_2 : cX9_worst.data.toList.drop 46 = dktX9_worst_2 := dk_seg dksX9_worst_1 24 rfl rfl
theorem dX9_worst_0 : decode cX9_worst 0 = .ok (.iload_n 2, 1) := dk_28 (dk_at dksX9_worst_0 0 rfl rfl)
theorem dX9_worst_1 : decode cX9_worst 1 = .ok (.invokestatic 396, 3) := dk_184 1 140 (dk_at dksX9_worst_0 1 rfl rfl)
theorem dX9_worst_4 : decode cX9_worst 4 = .ok (.ifCond .ne 5, 3) := dk_154 0 5 (dk_at dksX9_worst_0 4 rfl rfl)
theorem dX9_worst_7 : decode cX9_worst 7 = .ok (.iconst (-1), 1) := dk_2 (dk_at dksX9_worst_0 7 rfl rfl)
theorem dX9_worst_8 : decode cX9_worst 8 = .ok (.ireturn, 1) := dk_172 (dk_at dksX9_worst_0 8 rfl rfl)
theorem dX9_worst_9 : decode cX9_worst 9 = .ok (.bipush (-2), 2) := dk_16 254 (dk_at dksX9_worst_0 9 rfl rfl)
theorem dX9_worst_11 : decode cX9_worst 11 = .ok (.istore_n 3, 1) := dk_62 (dk_at dksX9_worst_0 11 rfl rfl)
theorem dX9_worst_12 : decode cX9_worst 12 = .ok (.iconst 0, 1) := dk_3 (dk_at dksX9_worst_0 12 rfl rfl)
theorem dX9_worst_13 : decode cX9_worst 13 = .ok (.istore 4, 2) := dk_54 4 (dk_at dksX9_worst_0 13 rfl rfl)
theorem dX9_worst_15 : decode cX9_worst 15 = .ok (.iconst 0, 1) := dk_3 (dk_at dksX9_worst_0 15 rfl rfl)
theorem dX9_worst_16 : decode cX9_worst 16 = .ok (.istore 5, 2) := dk_54 5 (dk_at dksX9_worst_0 16 rfl rfl)
theorem dX9_worst_18 : decode cX9_worst 18 = .ok (.iload 5, 2) := dk_21 5 (dk_at dksX9_worst_0 18 rfl rfl)
theorem dX9_worst_20 : decode cX9_worst 20 = .ok (.aload_n 0, 1) := dk_42 (dk_at dksX9_worst_0 20 rfl rfl)
theorem dX9_worst_21 : decode cX9_worst 21 = .ok (.iload_n 1, 1) := dk_27 (dk_at dksX9_worst_0 21 rfl rfl)
theorem dX9_worst_22 : decode cX9_worst 22 = .ok (.invokevirtual 411, 3) := dk_182 1 155 (dk_at dksX9_worst_1 0 rfl rfl)
theorem dX9_worst_25 : decode cX9_worst 25 = .ok (.if_icmp .ge 40, 3) := dk_162 0 40 (dk_at dksX9_worst_1 3 rfl rfl)
theorem dX9_worst_28 : decode cX9_worst 28 = .ok (.aload_n 0, 1) := dk_42 (dk_at dksX9_worst_1 6 rfl rfl)
theorem dX9_worst_29 : decode cX9_worst 29 = .ok (.iload 5, 2) := dk_21 5 (dk_at dksX9_worst_1 7 rfl rfl)
theorem dX9_worst_31 : decode cX9_worst 31 = .ok (.iload_n 1, 1) := dk_27 (dk_at dksX9_worst_1 9 rfl rfl)
theorem dX9_worst_32 : decode cX9_worst 32 = .ok (.iload_n 2, 1) := dk_28 (dk_at dksX9_worst_1 10 rfl rfl)
theorem dX9_worst_33 : decode cX9_worst 33 = .ok (.invokevirtual 415, 3) := dk_182 1 159 (dk_at dksX9_worst_1 11 rfl rfl)
theorem dX9_worst_36 : decode cX9_worst 36 = .ok (.istore 6, 2) := dk_54 6 (dk_at dksX9_worst_1 14 rfl rfl)
theorem dX9_worst_38 : decode cX9_worst 38 = .ok (.iload_n 3, 1) := dk_29 (dk_at dksX9_worst_1 16 rfl rfl)
theorem dX9_worst_39 : decode cX9_worst 39 = .ok (.ifCond .lt 13, 3) := dk_155 0 13 (dk_at dksX9_worst_1 17 rfl rfl)
theorem dX9_worst_42 : decode cX9_worst 42 = .ok (.iload 6, 2) := dk_21 6 (dk_at dksX9_worst_1 20 rfl rfl)
theorem dX9_worst_44 : decode cX9_worst 44 = .ok (.iload 4, 2) := dk_21 4 (dk_at dksX9_worst_1 22 rfl rfl)
theorem dX9_worst_46 : decode cX9_worst 46 = .ok (.if_icmp .gt 6, 3) := dk_163 0 6 (dk_at dksX9_worst_2 0 rfl rfl)
theorem dX9_worst_49 : decode cX9_worst 49 = .ok (.goto 10, 3) := dk_167 0 10 (dk_at dksX9_worst_2 3 rfl rfl)
theorem dX9_worst_52 : decode cX9_worst 52 = .ok (.iload 5, 2) := dk_21 5 (dk_at dksX9_worst_2 6 rfl rfl)
theorem dX9_worst_54 : decode cX9_worst 54 = .ok (.istore_n 3, 1) := dk_62 (dk_at dksX9_worst_2 8 rfl rfl)
theorem dX9_worst_55 : decode cX9_worst 55 = .ok (.iload 6, 2) := dk_21 6 (dk_at dksX9_worst_2 9 rfl rfl)
theorem dX9_worst_57 : decode cX9_worst 57 = .ok (.istore 4, 2) := dk_54 4 (dk_at dksX9_worst_2 11 rfl rfl)
theorem dX9_worst_59 : decode cX9_worst 59 = .ok (.iinc 5 1, 3) := dk_132 5 1 (dk_at dksX9_worst_2 13 rfl rfl)
theorem dX9_worst_62 : decode cX9_worst 62 = .ok (.goto (-44), 3) := dk_167 255 212 (dk_at dksX9_worst_2 16 rfl rfl)
theorem dX9_worst_65 : decode cX9_worst 65 = .ok (.iload_n 3, 1) := dk_29 (dk_at dksX9_worst_2 19 rfl rfl)
theorem dX9_worst_66 : decode cX9_worst 66 = .ok (.ireturn, 1) := dk_172 (dk_at dksX9_worst_2 20 rfl rfl)
abbrev cX9_law : ByteArray := prog_23_method_87_code
def yX9_law : MethodName := ⟨RX9, "law", "(I)I"⟩
def dkwX9_law_4 : List UInt8 := [28, 172]
abbrev dktX9_law_4 : List UInt8 := dkwX9_law_4 ++ []
def dkwX9_law_3 : List UInt8 := [28, 4, 29, 120, 128, 61, 132, 3, 1, 167, 255, 229, 27, 5, 160, 0, 10, 28, 184, 1, 152, 167, 0, 4]
abbrev dktX9_law_3 : List UInt8 := dkwX9_law_3 ++ dktX9_law_4
def dkwX9_law_2 : List UInt8 := [2, 172, 3, 61, 3, 62, 29, 42, 180, 0, 30, 3, 46, 162, 0, 23, 42, 29, 182, 1, 182, 153, 0, 9]
abbrev dktX9_law_2 : List UInt8 := dkwX9_law_2 ++ dktX9_law_3
def dkwX9_law_1 : List UInt8 := [182, 1, 179, 184, 1, 152, 167, 0, 7, 42, 182, 1, 179, 172, 27, 5, 159, 0, 10, 27, 7, 159, 0, 5]
abbrev dktX9_law_1 : List UInt8 := dkwX9_law_1 ++ dktX9_law_2
def dkwX9_law_0 : List UInt8 := [27, 4, 160, 0, 8, 42, 182, 1, 175, 172, 27, 153, 0, 8, 27, 6, 160, 0, 22, 27, 154, 0, 13, 42]
abbrev dktX9_law_0 : List UInt8 := dkwX9_law_0 ++ dktX9_law_1
theorem dksX9_law_0 : cX9_law.data.toList.drop 0 = dktX9_law_0 := by decide +kernel
theorem dksX9_law_1 : cX9_law.data.toList.drop 24 = dktX9_law_1 := dk_seg dksX9_law_0 24 rfl rfl
theorem dksX9_law_2 : cX9_law.data.toList.drop 48 = dktX9_law_2 := dk_seg dksX9_law_1 24 rfl rfl
theorem dksX9_law_3 : cX9_law.data.toList.drop 72 = dktX9_law_3 := dk_seg dksX9_law_2 24 rfl rfl
theorem dksX9_law_4 : cX9_law.data.toList.drop 96 = dktX9_law_4 := dk_seg dksX9_law_3 24 rfl rfl
theorem dX9_law_0 : decode cX9_law 0 = .ok (.iload_n 1, 1) := dk_27 (dk_at dksX9_law_0 0 rfl rfl)
theorem dX9_law_1 : decode cX9_law 1 = .ok (.iconst 1, 1) := dk_4 (dk_at dksX9_law_0 1 rfl rfl)
theorem dX9_law_2 : decode cX9_law 2 = .ok (.if_icmp .ne 8, 3) := dk_160 0 8 (dk_at dksX9_law_0 2 rfl rfl)
theorem dX9_law_5 : decode cX9_law 5 = .ok (.aload_n 0, 1) := dk_42 (dk_at dksX9_law_0 5 rfl rfl)
theorem dX9_law_6 : decode cX9_law 6 = .ok (.invokevirtual 431, 3) := dk_182 1 175 (dk_at dksX9_law_0 6 rfl rfl)
theorem dX9_law_9 : decode cX9_law 9 = .ok (.ireturn, 1) := dk_172 (dk_at dksX9_law_0 9 rfl rfl)
theorem dX9_law_10 : decode cX9_law 10 = .ok (.iload_n 1, 1) := dk_27 (dk_at dksX9_law_0 10 rfl rfl)
theorem dX9_law_11 : decode cX9_law 11 = .ok (.ifCond .eq 8, 3) := dk_153 0 8 (dk_at dksX9_law_0 11 rfl rfl)
theorem dX9_law_14 : decode cX9_law 14 = .ok (.iload_n 1, 1) := dk_27 (dk_at dksX9_law_0 14 rfl rfl)
theorem dX9_law_15 : decode cX9_law 15 = .ok (.iconst 3, 1) := dk_6 (dk_at dksX9_law_0 15 rfl rfl)
theorem dX9_law_16 : decode cX9_law 16 = .ok (.if_icmp .ne 22, 3) := dk_160 0 22 (dk_at dksX9_law_0 16 rfl rfl)
theorem dX9_law_19 : decode cX9_law 19 = .ok (.iload_n 1, 1) := dk_27 (dk_at dksX9_law_0 19 rfl rfl)
theorem dX9_law_20 : decode cX9_law 20 = .ok (.ifCond .ne 13, 3) := dk_154 0 13 (dk_at dksX9_law_0 20 rfl rfl)
theorem dX9_law_23 : decode cX9_law 23 = .ok (.aload_n 0, 1) := dk_42 (dk_at dksX9_law_0 23 rfl rfl)
theorem dX9_law_24 : decode cX9_law 24 = .ok (.invokevirtual 435, 3) := dk_182 1 179 (dk_at dksX9_law_1 0 rfl rfl)
theorem dX9_law_27 : decode cX9_law 27 = .ok (.invokestatic 408, 3) := dk_184 1 152 (dk_at dksX9_law_1 3 rfl rfl)
theorem dX9_law_30 : decode cX9_law 30 = .ok (.goto 7, 3) := dk_167 0 7 (dk_at dksX9_law_1 6 rfl rfl)
theorem dX9_law_33 : decode cX9_law 33 = .ok (.aload_n 0, 1) := dk_42 (dk_at dksX9_law_1 9 rfl rfl)
theorem dX9_law_34 : decode cX9_law 34 = .ok (.invokevirtual 435, 3) := dk_182 1 179 (dk_at dksX9_law_1 10 rfl rfl)
theorem dX9_law_37 : decode cX9_law 37 = .ok (.ireturn, 1) := dk_172 (dk_at dksX9_law_1 13 rfl rfl)
theorem dX9_law_38 : decode cX9_law 38 = .ok (.iload_n 1, 1) := dk_27 (dk_at dksX9_law_1 14 rfl rfl)
theorem dX9_law_39 : decode cX9_law 39 = .ok (.iconst 2, 1) := dk_5 (dk_at dksX9_law_1 15 rfl rfl)
theorem dX9_law_40 : decode cX9_law 40 = .ok (.if_icmp .eq 10, 3) := dk_159 0 10 (dk_at dksX9_law_1 16 rfl rfl)
theorem dX9_law_43 : decode cX9_law 43 = .ok (.iload_n 1, 1) := dk_27 (dk_at dksX9_law_1 19 rfl rfl)
theorem dX9_law_44 : decode cX9_law 44 = .ok (.iconst 4, 1) := dk_7 (dk_at dksX9_law_1 20 rfl rfl)
theorem dX9_law_45 : decode cX9_law 45 = .ok (.if_icmp .eq 5, 3) := dk_159 0 5 (dk_at dksX9_law_1 21 rfl rfl)
theorem dX9_law_48 : decode cX9_law 48 = .ok (.iconst (-1), 1) := dk_2 (dk_at dksX9_law_2 0 rfl rfl)
theorem dX9_law_49 : decode cX9_law 49 = .ok (.ireturn, 1) := dk_172 (dk_at dksX9_law_2 1 rfl rfl)
theorem dX9_law_50 : decode cX9_law 50 = .ok (.iconst 0, 1) := dk_3 (dk_at dksX9_law_2 2 rfl rfl)
theorem dX9_law_51 : decode cX9_law 51 = .ok (.istore_n 2, 1) := dk_61 (dk_at dksX9_law_2 3 rfl rfl)
theorem dX9_law_52 : decode cX9_law 52 = .ok (.iconst 0, 1) := dk_3 (dk_at dksX9_law_2 4 rfl rfl)
theorem dX9_law_53 : decode cX9_law 53 = .ok (.istore_n 3, 1) := dk_62 (dk_at dksX9_law_2 5 rfl rfl)
theorem dX9_law_54 : decode cX9_law 54 = .ok (.iload_n 3, 1) := dk_29 (dk_at dksX9_law_2 6 rfl rfl)
theorem dX9_law_55 : decode cX9_law 55 = .ok (.aload_n 0, 1) := dk_42 (dk_at dksX9_law_2 7 rfl rfl)
theorem dX9_law_56 : decode cX9_law 56 = .ok (.getfield 30, 3) := dk_180 0 30 (dk_at dksX9_law_2 8 rfl rfl)
theorem dX9_law_59 : decode cX9_law 59 = .ok (.iconst 0, 1) := dk_3 (dk_at dksX9_law_2 11 rfl rfl)
theorem dX9_law_60 : decode cX9_law 60 = .ok (.iaload, 1) := dk_46 (dk_at dksX9_law_2 12 rfl rfl)
theorem dX9_law_61 : decode cX9_law 61 = .ok (.if_icmp .ge 23, 3) := dk_162 0 23 (dk_at dksX9_law_2 13 rfl rfl)
theorem dX9_law_64 : decode cX9_law 64 = .ok (.aload_n 0, 1) := dk_42 (dk_at dksX9_law_2 16 rfl rfl)
theorem dX9_law_65 : decode cX9_law 65 = .ok (.iload_n 3, 1) := dk_29 (dk_at dksX9_law_2 17 rfl rfl)
theorem dX9_law_66 : decode cX9_law 66 = .ok (.invokevirtual 438, 3) := dk_182 1 182 (dk_at dksX9_law_2 18 rfl rfl)
theorem dX9_law_69 : decode cX9_law 69 = .ok (.ifCond .eq 9, 3) := dk_153 0 9 (dk_at dksX9_law_2 21 rfl rfl)
theorem dX9_law_72 : decode cX9_law 72 = .ok (.iload_n 2, 1) := dk_28 (dk_at dksX9_law_3 0 rfl rfl)
theorem dX9_law_73 : decode cX9_law 73 = .ok (.iconst 1, 1) := dk_4 (dk_at dksX9_law_3 1 rfl rfl)
theorem dX9_law_74 : decode cX9_law 74 = .ok (.iload_n 3, 1) := dk_29 (dk_at dksX9_law_3 2 rfl rfl)
theorem dX9_law_75 : decode cX9_law 75 = .ok (.ishl, 1) := dk_120 (dk_at dksX9_law_3 3 rfl rfl)
theorem dX9_law_76 : decode cX9_law 76 = .ok (.ior, 1) := dk_128 (dk_at dksX9_law_3 4 rfl rfl)
theorem dX9_law_77 : decode cX9_law 77 = .ok (.istore_n 2, 1) := dk_61 (dk_at dksX9_law_3 5 rfl rfl)
theorem dX9_law_78 : decode cX9_law 78 = .ok (.iinc 3 1, 3) := dk_132 3 1 (dk_at dksX9_law_3 6 rfl rfl)
theorem dX9_law_81 : decode cX9_law 81 = .ok (.goto (-27), 3) := dk_167 255 229 (dk_at dksX9_law_3 9 rfl rfl)
theorem dX9_law_84 : decode cX9_law 84 = .ok (.iload_n 1, 1) := dk_27 (dk_at dksX9_law_3 12 rfl rfl)
theorem dX9_law_85 : decode cX9_law 85 = .ok (.iconst 2, 1) := dk_5 (dk_at dksX9_law_3 13 rfl rfl)
theorem dX9_law_86 : decode cX9_law 86 = .ok (.if_icmp .ne 10, 3) := dk_160 0 10 (dk_at dksX9_law_3 14 rfl rfl)
theorem dX9_law_89 : decode cX9_law 89 = .ok (.iload_n 2, 1) := dk_28 (dk_at dksX9_law_3 17 rfl rfl)
theorem dX9_law_90 : decode cX9_law 90 = .ok (.invokestatic 408, 3) := dk_184 1 152 (dk_at dksX9_law_3 18 rfl rfl)
theorem dX9_law_93 : decode cX9_law 93 = .ok (.goto 4, 3) := dk_167 0 4 (dk_at dksX9_law_3 21 rfl rfl)
theorem dX9_law_96 : decode cX9_law 96 = .ok (.iload_n 2, 1) := dk_28 (dk_at dksX9_law_4 0 rfl rfl)
theorem dX9_law_97 : decode cX9_law 97 = .ok (.ireturn, 1) := dk_172 (dk_at dksX9_law_4 1 rfl rfl)
abbrev cX9_turned : ByteArray := prog_23_method_86_code
def yX9_turned : MethodName := ⟨RX9, "turned", "()I"⟩
def dkwX9_turned_3 : List UInt8 := [167, 255, 191, 27, 172]
abbrev dktX9_turned_3 : List UInt8 := dkwX9_turned_3 ++ []
def dkwX9_turned_2 : List UInt8 := [182, 1, 124, 163, 0, 7, 4, 167, 0, 4, 3, 96, 60, 132, 3, 1, 167, 255, 209, 132, 2, 1]
abbrev dktX9_turned_2 : List UInt8 := dkwX9_turned_2 ++ dktX9_turned_3
def dkwX9_turned_1 : List UInt8 := [162, 0, 43, 27, 42, 28, 182, 1, 112, 42, 29, 182, 1, 112, 164, 0, 20, 42, 28, 182, 1, 124, 42, 29]
abbrev dktX9_turned_1 : List UInt8 := dkwX9_turned_1 ++ dktX9_turned_2
def dkwX9_turned_0 : List UInt8 := [3, 60, 3, 61, 28, 42, 180, 0, 30, 3, 46, 162, 0, 61, 3, 62, 29, 42, 180, 0, 30, 3, 46]
abbrev dktX9_turned_0 : List UInt8 := dkwX9_turned_0 ++ dktX9_turned_1
theorem dksX9_turned_0 : cX9_turned.data.toList.drop 0 = dktX9_turned_0 := by decide +kernel
theorem dksX9_turned_1 : cX9_turned.data.toList.drop 23 = dktX9_turned_1 := dk_seg dksX9_turned_0 23 rfl rfl
theorem dksX9_turned_2 : cX9_turned.data.toList.drop 47 = dktX9_turned_2 := dk_seg dksX9_turned_1 24 rfl rfl
theorem dksX9_turned_3 : cX9_turned.data.toList.drop 69 = dktX9_turned_3 := dk_seg dksX9_turned_2 22 rfl rfl
theorem dX9_turned_0 : decode cX9_turned 0 = .ok (.iconst 0, 1) := dk_3 (dk_at dksX9_turned_0 0 rfl rfl)
theorem dX9_turned_1 : decode cX9_turned 1 = .ok (.istore_n 1, 1) := dk_60 (dk_at dksX9_turned_0 1 rfl rfl)
theorem dX9_turned_2 : decode cX9_turned 2 = .ok (.iconst 0, 1) := dk_3 (dk_at dksX9_turned_0 2 rfl rfl)
theorem dX9_turned_3 : decode cX9_turned 3 = .ok (.istore_n 2, 1) := dk_61 (dk_at dksX9_turned_0 3 rfl rfl)
theorem dX9_turned_4 : decode cX9_turned 4 = .ok (.iload_n 2, 1) := dk_28 (dk_at dksX9_turned_0 4 rfl rfl)
theorem dX9_turned_5 : decode cX9_turned 5 = .ok (.aload_n 0, 1) := dk_42 (dk_at dksX9_turned_0 5 rfl rfl)
theorem dX9_turned_6 : decode cX9_turned 6 = .ok (.getfield 30, 3) := dk_180 0 30 (dk_at dksX9_turned_0 6 rfl rfl)
theorem dX9_turned_9 : decode cX9_turned 9 = .ok (.iconst 0, 1) := dk_3 (dk_at dksX9_turned_0 9 rfl rfl)
theorem dX9_turned_10 : decode cX9_turned 10 = .ok (.iaload, 1) := dk_46 (dk_at dksX9_turned_0 10 rfl rfl)
theorem dX9_turned_11 : decode cX9_turned 11 = .ok (.if_icmp .ge 61, 3) := dk_162 0 61 (dk_at dksX9_turned_0 11 rfl rfl)
theorem dX9_turned_14 : decode cX9_turned 14 = .ok (.iconst 0, 1) := dk_3 (dk_at dksX9_turned_0 14 rfl rfl)
theorem dX9_turned_15 : decode cX9_turned 15 = .ok (.istore_n 3, 1) := dk_62 (dk_at dksX9_turned_0 15 rfl rfl)
theorem dX9_turned_16 : decode cX9_turned 16 = .ok (.iload_n 3, 1) := dk_29 (dk_at dksX9_turned_0 16 rfl rfl)
theorem dX9_turned_17 : decode cX9_turned 17 = .ok (.aload_n 0, 1) := dk_42 (dk_at dksX9_turned_0 17 rfl rfl)
theorem dX9_turned_18 : decode cX9_turned 18 = .ok (.getfield 30, 3) := dk_180 0 30 (dk_at dksX9_turned_0 18 rfl rfl)
theorem dX9_turned_21 : decode cX9_turned 21 = .ok (.iconst 0, 1) := dk_3 (dk_at dksX9_turned_0 21 rfl rfl)
theorem dX9_turned_22 : decode cX9_turned 22 = .ok (.iaload, 1) := dk_46 (dk_at dksX9_turned_0 22 rfl rfl)
theorem dX9_turned_23 : decode cX9_turned 23 = .ok (.if_icmp .ge 43, 3) := dk_162 0 43 (dk_at dksX9_turned_1 0 rfl rfl)
theorem dX9_turned_26 : decode cX9_turned 26 = .ok (.iload_n 1, 1) := dk_27 (dk_at dksX9_turned_1 3 rfl rfl)
theorem dX9_turned_27 : decode cX9_turned 27 = .ok (.aload_n 0, 1) := dk_42 (dk_at dksX9_turned_1 4 rfl rfl)
theorem dX9_turned_28 : decode cX9_turned 28 = .ok (.iload_n 2, 1) := dk_28 (dk_at dksX9_turned_1 5 rfl rfl)
theorem dX9_turned_29 : decode cX9_turned 29 = .ok (.invokevirtual 368, 3) := dk_182 1 112 (dk_at dksX9_turned_1 6 rfl rfl)
theorem dX9_turned_32 : decode cX9_turned 32 = .ok (.aload_n 0, 1) := dk_42 (dk_at dksX9_turned_1 9 rfl rfl)
theorem dX9_turned_33 : decode cX9_turned 33 = .ok (.iload_n 3, 1) := dk_29 (dk_at dksX9_turned_1 10 rfl rfl)
theorem dX9_turned_34 : decode cX9_turned 34 = .ok (.invokevirtual 368, 3) := dk_182 1 112 (dk_at dksX9_turned_1 11 rfl rfl)
theorem dX9_turned_37 : decode cX9_turned 37 = .ok (.if_icmp .le 20, 3) := dk_164 0 20 (dk_at dksX9_turned_1 14 rfl rfl)
theorem dX9_turned_40 : decode cX9_turned 40 = .ok (.aload_n 0, 1) := dk_42 (dk_at dksX9_turned_1 17 rfl rfl)
theorem dX9_turned_41 : decode cX9_turned 41 = .ok (.iload_n 2, 1) := dk_28 (dk_at dksX9_turned_1 18 rfl rfl)
theorem dX9_turned_42 : decode cX9_turned 42 = .ok (.invokevirtual 380, 3) := dk_182 1 124 (dk_at dksX9_turned_1 19 rfl rfl)
theorem dX9_turned_45 : decode cX9_turned 45 = .ok (.aload_n 0, 1) := dk_42 (dk_at dksX9_turned_1 22 rfl rfl)
theorem dX9_turned_46 : decode cX9_turned 46 = .ok (.iload_n 3, 1) := dk_29 (dk_at dksX9_turned_1 23 rfl rfl)
theorem dX9_turned_47 : decode cX9_turned 47 = .ok (.invokevirtual 380, 3) := dk_182 1 124 (dk_at dksX9_turned_2 0 rfl rfl)
theorem dX9_turned_50 : decode cX9_turned 50 = .ok (.if_icmp .gt 7, 3) := dk_163 0 7 (dk_at dksX9_turned_2 3 rfl rfl)
theorem dX9_turned_53 : decode cX9_turned 53 = .ok (.iconst 1, 1) := dk_4 (dk_at dksX9_turned_2 6 rfl rfl)
theorem dX9_turned_54 : decode cX9_turned 54 = .ok (.goto 4, 3) := dk_167 0 4 (dk_at dksX9_turned_2 7 rfl rfl)
theorem dX9_turned_57 : decode cX9_turned 57 = .ok (.iconst 0, 1) := dk_3 (dk_at dksX9_turned_2 10 rfl rfl)
theorem dX9_turned_58 : decode cX9_turned 58 = .ok (.iadd, 1) := dk_96 (dk_at dksX9_turned_2 11 rfl rfl)
theorem dX9_turned_59 : decode cX9_turned 59 = .ok (.istore_n 1, 1) := dk_60 (dk_at dksX9_turned_2 12 rfl rfl)
theorem dX9_turned_60 : decode cX9_turned 60 = .ok (.iinc 3 1, 3) := dk_132 3 1 (dk_at dksX9_turned_2 13 rfl rfl)
theorem dX9_turned_63 : decode cX9_turned 63 = .ok (.goto (-47), 3) := dk_167 255 209 (dk_at dksX9_turned_2 16 rfl rfl)
theorem dX9_turned_66 : decode cX9_turned 66 = .ok (.iinc 2 1, 3) := dk_132 2 1 (dk_at dksX9_turned_2 19 rfl rfl)
theorem dX9_turned_69 : decode cX9_turned 69 = .ok (.goto (-65), 3) := dk_167 255 191 (dk_at dksX9_turned_3 0 rfl rfl)
theorem dX9_turned_72 : decode cX9_turned 72 = .ok (.iload_n 1, 1) := dk_27 (dk_at dksX9_turned_3 3 rfl rfl)
theorem dX9_turned_73 : decode cX9_turned 73 = .ok (.ireturn, 1) := dk_172 (dk_at dksX9_turned_3 4 rfl rfl)
abbrev cX9_untrue : ByteArray := prog_23_method_85_code
def yX9_untrue : MethodName := ⟨RX9, "untrue", "()I"⟩
def dkwX9_untrue_1 : List UInt8 := [159, 0, 9, 27, 4, 28, 120, 128, 60, 132, 2, 1, 167, 255, 224, 27, 172]
abbrev dktX9_untrue_1 : List UInt8 := dkwX9_untrue_1 ++ []
def dkwX9_untrue_0 : List UInt8 := [3, 60, 3, 61, 28, 42, 180, 0, 30, 3, 46, 162, 0, 28, 42, 28, 182, 1, 124, 42, 28, 182, 1, 127]
abbrev dktX9_untrue_0 : List UInt8 := dkwX9_untrue_0 ++ dktX9_untrue_1
theorem dksX9_untrue_0 : cX9_untrue.data.toList.drop 0 = dktX9_untrue_0 := by decide +kernel
theorem dksX9_untrue_1 : cX9_untrue.data.toList.drop 24 = dktX9_untrue_1 := dk_seg dksX9_untrue_0 24 rfl rfl
theorem dX9_untrue_0 : decode cX9_untrue 0 = .ok (.iconst 0, 1) := dk_3 (dk_at dksX9_untrue_0 0 rfl rfl)
theorem dX9_untrue_1 : decode cX9_untrue 1 = .ok (.istore_n 1, 1) := dk_60 (dk_at dksX9_untrue_0 1 rfl rfl)
theorem dX9_untrue_2 : decode cX9_untrue 2 = .ok (.iconst 0, 1) := dk_3 (dk_at dksX9_untrue_0 2 rfl rfl)
theorem dX9_untrue_3 : decode cX9_untrue 3 = .ok (.istore_n 2, 1) := dk_61 (dk_at dksX9_untrue_0 3 rfl rfl)
theorem dX9_untrue_4 : decode cX9_untrue 4 = .ok (.iload_n 2, 1) := dk_28 (dk_at dksX9_untrue_0 4 rfl rfl)
theorem dX9_untrue_5 : decode cX9_untrue 5 = .ok (.aload_n 0, 1) := dk_42 (dk_at dksX9_untrue_0 5 rfl rfl)
theorem dX9_untrue_6 : decode cX9_untrue 6 = .ok (.getfield 30, 3) := dk_180 0 30 (dk_at dksX9_untrue_0 6 rfl rfl)
theorem dX9_untrue_9 : decode cX9_untrue 9 = .ok (.iconst 0, 1) := dk_3 (dk_at dksX9_untrue_0 9 rfl rfl)
theorem dX9_untrue_10 : decode cX9_untrue 10 = .ok (.iaload, 1) := dk_46 (dk_at dksX9_untrue_0 10 rfl rfl)
theorem dX9_untrue_11 : decode cX9_untrue 11 = .ok (.if_icmp .ge 28, 3) := dk_162 0 28 (dk_at dksX9_untrue_0 11 rfl rfl)
theorem dX9_untrue_14 : decode cX9_untrue 14 = .ok (.aload_n 0, 1) := dk_42 (dk_at dksX9_untrue_0 14 rfl rfl)
theorem dX9_untrue_15 : decode cX9_untrue 15 = .ok (.iload_n 2, 1) := dk_28 (dk_at dksX9_untrue_0 15 rfl rfl)
theorem dX9_untrue_16 : decode cX9_untrue 16 = .ok (.invokevirtual 380, 3) := dk_182 1 124 (dk_at dksX9_untrue_0 16 rfl rfl)
theorem dX9_untrue_19 : decode cX9_untrue 19 = .ok (.aload_n 0, 1) := dk_42 (dk_at dksX9_untrue_0 19 rfl rfl)
theorem dX9_untrue_20 : decode cX9_untrue 20 = .ok (.iload_n 2, 1) := dk_28 (dk_at dksX9_untrue_0 20 rfl rfl)
theorem dX9_untrue_21 : decode cX9_untrue 21 = .ok (.invokevirtual 383, 3) := dk_182 1 127 (dk_at dksX9_untrue_0 21 rfl rfl)
theorem dX9_untrue_24 : decode cX9_untrue 24 = .ok (.if_icmp .eq 9, 3) := dk_159 0 9 (dk_at dksX9_untrue_1 0 rfl rfl)
theorem dX9_untrue_27 : decode cX9_untrue 27 = .ok (.iload_n 1, 1) := dk_27 (dk_at dksX9_untrue_1 3 rfl rfl)
theorem dX9_untrue_28 : decode cX9_untrue 28 = .ok (.iconst 1, 1) := dk_4 (dk_at dksX9_untrue_1 4 rfl rfl)
theorem dX9_untrue_29 : decode cX9_untrue 29 = .ok (.iload_n 2, 1) := dk_28 (dk_at dksX9_untrue_1 5 rfl rfl)
theorem dX9_untrue_30 : decode cX9_untrue 30 = .ok (.ishl, 1) := dk_120 (dk_at dksX9_untrue_1 6 rfl rfl)
theorem dX9_untrue_31 : decode cX9_untrue 31 = .ok (.ior, 1) := dk_128 (dk_at dksX9_untrue_1 7 rfl rfl)
theorem dX9_untrue_32 : decode cX9_untrue 32 = .ok (.istore_n 1, 1) := dk_60 (dk_at dksX9_untrue_1 8 rfl rfl)
theorem dX9_untrue_33 : decode cX9_untrue 33 = .ok (.iinc 2 1, 3) := dk_132 2 1 (dk_at dksX9_untrue_1 9 rfl rfl)
theorem dX9_untrue_36 : decode cX9_untrue 36 = .ok (.goto (-32), 3) := dk_167 255 224 (dk_at dksX9_untrue_1 12 rfl rfl)
theorem dX9_untrue_39 : decode cX9_untrue 39 = .ok (.iload_n 1, 1) := dk_27 (dk_at dksX9_untrue_1 15 rfl rfl)
theorem dX9_untrue_40 : decode cX9_untrue 40 = .ok (.ireturn, 1) := dk_172 (dk_at dksX9_untrue_1 16 rfl rfl)
abbrev cX9_isBad : ByteArray := prog_23_method_84_code
def yX9_isBad : MethodName := ⟨RX9, "isBad", "(I)Z"⟩
def dkwX9_isBad_1 : List UInt8 := [17, 0, 200, 182, 1, 172, 172]
abbrev dktX9_isBad_1 : List UInt8 := dkwX9_isBad_1 ++ []
def dkwX9_isBad_0 : List UInt8 := [42, 27, 3, 182, 1, 169, 61, 42, 27, 3, 182, 1, 163, 42, 180, 0, 82, 16, 8, 28, 79, 42, 16, 9]
abbrev dktX9_isBad_0 : List UInt8 := dkwX9_isBad_0 ++ dktX9_isBad_1
theorem dksX9_isBad_0 : cX9_isBad.data.toList.drop 0 = dktX9_isBad_0 := by decide +kernel
theorem dksX9_isBad_1 : cX9_isBad.data.toList.drop 24 = dktX9_isBad_1 := dk_seg dksX9_isBad_0 24 rfl rfl
theorem dX9_isBad_0 : decode cX9_isBad 0 = .ok (.aload_n 0, 1) := dk_42 (dk_at dksX9_isBad_0 0 rfl rfl)
theorem dX9_isBad_1 : decode cX9_isBad 1 = .ok (.iload_n 1, 1) := dk_27 (dk_at dksX9_isBad_0 1 rfl rfl)
theorem dX9_isBad_2 : decode cX9_isBad 2 = .ok (.iconst 0, 1) := dk_3 (dk_at dksX9_isBad_0 2 rfl rfl)
theorem dX9_isBad_3 : decode cX9_isBad 3 = .ok (.invokevirtual 425, 3) := dk_182 1 169 (dk_at dksX9_isBad_0 3 rfl rfl)
theorem dX9_isBad_6 : decode cX9_isBad 6 = .ok (.istore_n 2, 1) := dk_61 (dk_at dksX9_isBad_0 6 rfl rfl)
theorem dX9_isBad_7 : decode cX9_isBad 7 = .ok (.aload_n 0, 1) := dk_42 (dk_at dksX9_isBad_0 7 rfl rfl)
theorem dX9_isBad_8 : decode cX9_isBad 8 = .ok (.iload_n 1, 1) := dk_27 (dk_at dksX9_isBad_0 8 rfl rfl)
theorem dX9_isBad_9 : decode cX9_isBad 9 = .ok (.iconst 0, 1) := dk_3 (dk_at dksX9_isBad_0 9 rfl rfl)
theorem dX9_isBad_10 : decode cX9_isBad 10 = .ok (.invokevirtual 419, 3) := dk_182 1 163 (dk_at dksX9_isBad_0 10 rfl rfl)
theorem dX9_isBad_13 : decode cX9_isBad 13 = .ok (.aload_n 0, 1) := dk_42 (dk_at dksX9_isBad_0 13 rfl rfl)
theorem dX9_isBad_14 : decode cX9_isBad 14 = .ok (.getfield 82, 3) := dk_180 0 82 (dk_at dksX9_isBad_0 14 rfl rfl)
theorem dX9_isBad_17 : decode cX9_isBad 17 = .ok (.bipush 8, 2) := dk_16 8 (dk_at dksX9_isBad_0 17 rfl rfl)
theorem dX9_isBad_19 : decode cX9_isBad 19 = .ok (.iload_n 2, 1) := dk_28 (dk_at dksX9_isBad_0 19 rfl rfl)
theorem dX9_isBad_20 : decode cX9_isBad 20 = .ok (.iastore, 1) := dk_79 (dk_at dksX9_isBad_0 20 rfl rfl)
theorem dX9_isBad_21 : decode cX9_isBad 21 = .ok (.aload_n 0, 1) := dk_42 (dk_at dksX9_isBad_0 21 rfl rfl)
theorem dX9_isBad_22 : decode cX9_isBad 22 = .ok (.bipush 9, 2) := dk_16 9 (dk_at dksX9_isBad_0 22 rfl rfl)
theorem dX9_isBad_24 : decode cX9_isBad 24 = .ok (.sipush 200, 3) := dk_17 0 200 (dk_at dksX9_isBad_1 0 rfl rfl)
theorem dX9_isBad_27 : decode cX9_isBad 27 = .ok (.invokevirtual 428, 3) := dk_182 1 172 (dk_at dksX9_isBad_1 3 rfl rfl)
theorem dX9_isBad_30 : decode cX9_isBad 30 = .ok (.ireturn, 1) := dk_172 (dk_at dksX9_isBad_1 6 rfl rfl)
abbrev cX9_swayOf : ByteArray := prog_23_method_82_code
def yX9_swayOf : MethodName := ⟨RX9, "swayOf", "(II)I"⟩
def dkwX9_swayOf_0 : List UInt8 := [42, 27, 28, 182, 1, 163, 42, 5, 3, 182, 1, 118, 172]
abbrev dktX9_swayOf_0 : List UInt8 := dkwX9_swayOf_0 ++ []
theorem dksX9_swayOf_0 : cX9_swayOf.data.toList.drop 0 = dktX9_swayOf_0 := by decide +kernel
theorem dX9_swayOf_0 : decode cX9_swayOf 0 = .ok (.aload_n 0, 1) := dk_42 (dk_at dksX9_swayOf_0 0 rfl rfl)
theorem dX9_swayOf_1 : decode cX9_swayOf 1 = .ok (.iload_n 1, 1) := dk_27 (dk_at dksX9_swayOf_0 1 rfl rfl)
theorem dX9_swayOf_2 : decode cX9_swayOf 2 = .ok (.iload_n 2, 1) := dk_28 (dk_at dksX9_swayOf_0 2 rfl rfl)
theorem dX9_swayOf_3 : decode cX9_swayOf 3 = .ok (.invokevirtual 419, 3) := dk_182 1 163 (dk_at dksX9_swayOf_0 3 rfl rfl)
theorem dX9_swayOf_6 : decode cX9_swayOf 6 = .ok (.aload_n 0, 1) := dk_42 (dk_at dksX9_swayOf_0 6 rfl rfl)
theorem dX9_swayOf_7 : decode cX9_swayOf 7 = .ok (.iconst 2, 1) := dk_5 (dk_at dksX9_swayOf_0 7 rfl rfl)
theorem dX9_swayOf_8 : decode cX9_swayOf 8 = .ok (.iconst 0, 1) := dk_3 (dk_at dksX9_swayOf_0 8 rfl rfl)
theorem dX9_swayOf_9 : decode cX9_swayOf 9 = .ok (.invokevirtual 374, 3) := dk_182 1 118 (dk_at dksX9_swayOf_0 9 rfl rfl)
theorem dX9_swayOf_12 : decode cX9_swayOf 12 = .ok (.ireturn, 1) := dk_172 (dk_at dksX9_swayOf_0 12 rfl rfl)
abbrev cX9_look : ByteArray := prog_23_method_81_code
def yX9_look : MethodName := ⟨RX9, "look", "(II)V"⟩
def dkwX9_look_3 : List UInt8 := [180, 0, 82, 16, 6, 28, 79, 177]
abbrev dktX9_look_3 : List UInt8 := dkwX9_look_3 ++ []
def dkwX9_look_2 : List UInt8 := [180, 0, 82, 6, 42, 27, 182, 1, 115, 79, 42, 180, 0, 82, 8, 42, 180, 0, 33, 3, 46, 79, 42]
abbrev dktX9_look_2 : List UInt8 := dkwX9_look_2 ++ dktX9_look_3
def dkwX9_look_1 : List UInt8 := [182, 1, 112, 79, 42, 180, 0, 82, 5, 42, 180, 0, 30, 16, 20, 6, 27, 104, 96, 5, 96, 46, 79, 42]
abbrev dktX9_look_1 : List UInt8 := dkwX9_look_1 ++ dktX9_look_2
def dkwX9_look_0 : List UInt8 := [42, 182, 1, 109, 42, 180, 0, 82, 3, 42, 27, 182, 1, 124, 79, 42, 180, 0, 82, 4, 42, 27]
abbrev dktX9_look_0 : List UInt8 := dkwX9_look_0 ++ dktX9_look_1
theorem dksX9_look_0 : cX9_look.data.toList.drop 0 = dktX9_look_0 := by decide +kernel
theorem dksX9_look_1 : cX9_look.data.toList.drop 22 = dktX9_look_1 := dk_seg dksX9_look_0 22 rfl rfl
theorem dksX9_look_2 : cX9_look.data.toList.drop 46 = dktX9_look_2 := dk_seg dksX9_look_1 24 rfl rfl
theorem dksX9_look_3 : cX9_look.data.toList.drop 69 = dktX9_look_3 := dk_seg dksX9_look_2 23 rfl rfl
theorem dX9_look_0 : decode cX9_look 0 = .ok (.aload_n 0, 1) := dk_42 (dk_at dksX9_look_0 0 rfl rfl)
theorem dX9_look_1 : decode cX9_look 1 = .ok (.invokevirtual 365, 3) := dk_182 1 109 (dk_at dksX9_look_0 1 rfl rfl)
theorem dX9_look_4 : decode cX9_look 4 = .ok (.aload_n 0, 1) := dk_42 (dk_at dksX9_look_0 4 rfl rfl)
theorem dX9_look_5 : decode cX9_look 5 = .ok (.getfield 82, 3) := dk_180 0 82 (dk_at dksX9_look_0 5 rfl rfl)
theorem dX9_look_8 : decode cX9_look 8 = .ok (.iconst 0, 1) := dk_3 (dk_at dksX9_look_0 8 rfl rfl)
theorem dX9_look_9 : decode cX9_look 9 = .ok (.aload_n 0, 1) := dk_42 (dk_at dksX9_look_0 9 rfl rfl)
theorem dX9_look_10 : decode cX9_look 10 = .ok (.iload_n 1, 1) := dk_27 (dk_at dksX9_look_0 10 rfl rfl)
theorem dX9_look_11 : decode cX9_look 11 = .ok (.invokevirtual 380, 3) := dk_182 1 124 (dk_at dksX9_look_0 11 rfl rfl)
theorem dX9_look_14 : decode cX9_look 14 = .ok (.iastore, 1) := dk_79 (dk_at dksX9_look_0 14 rfl rfl)
theorem dX9_look_15 : decode cX9_look 15 = .ok (.aload_n 0, 1) := dk_42 (dk_at dksX9_look_0 15 rfl rfl)
theorem dX9_look_16 : decode cX9_look 16 = .ok (.getfield 82, 3) := dk_180 0 82 (dk_at dksX9_look_0 16 rfl rfl)
theorem dX9_look_19 : decode cX9_look 19 = .ok (.iconst 1, 1) := dk_4 (dk_at dksX9_look_0 19 rfl rfl)
theorem dX9_look_20 : decode cX9_look 20 = .ok (.aload_n 0, 1) := dk_42 (dk_at dksX9_look_0 20 rfl rfl)
theorem dX9_look_21 : decode cX9_look 21 = .ok (.iload_n 1, 1) := dk_27 (dk_at dksX9_look_0 21 rfl rfl)
theorem dX9_look_22 : decode cX9_look 22 = .ok (.invokevirtual 368, 3) := dk_182 1 112 (dk_at dksX9_look_1 0 rfl rfl)
theorem dX9_look_25 : decode cX9_look 25 = .ok (.iastore, 1) := dk_79 (dk_at dksX9_look_1 3 rfl rfl)
theorem dX9_look_26 : decode cX9_look 26 = .ok (.aload_n 0, 1) := dk_42 (dk_at dksX9_look_1 4 rfl rfl)
theorem dX9_look_27 : decode cX9_look 27 = .ok (.getfield 82, 3) := dk_180 0 82 (dk_at dksX9_look_1 5 rfl rfl)
theorem dX9_look_30 : decode cX9_look 30 = .ok (.iconst 2, 1) := dk_5 (dk_at dksX9_look_1 8 rfl rfl)
theorem dX9_look_31 : decode cX9_look 31 = .ok (.aload_n 0, 1) := dk_42 (dk_at dksX9_look_1 9 rfl rfl)
theorem dX9_look_32 : decode cX9_look 32 = .ok (.getfield 30, 3) := dk_180 0 30 (dk_at dksX9_look_1 10 rfl rfl)
theorem dX9_look_35 : decode cX9_look 35 = .ok (.bipush 20, 2) := dk_16 20 (dk_at dksX9_look_1 13 rfl rfl)
theorem dX9_look_37 : decode cX9_look 37 = .ok (.iconst 3, 1) := dk_6 (dk_at dksX9_look_1 15 rfl rfl)
theorem dX9_look_38 : decode cX9_look 38 = .ok (.iload_n 1, 1) := dk_27 (dk_at dksX9_look_1 16 rfl rfl)
theorem dX9_look_39 : decode cX9_look 39 = .ok (.imul, 1) := dk_104 (dk_at dksX9_look_1 17 rfl rfl)
theorem dX9_look_40 : decode cX9_look 40 = .ok (.iadd, 1) := dk_96 (dk_at dksX9_look_1 18 rfl rfl)
theorem dX9_look_41 : decode cX9_look 41 = .ok (.iconst 2, 1) := dk_5 (dk_at dksX9_look_1 19 rfl rfl)
theorem dX9_look_42 : decode cX9_look 42 = .ok (.iadd, 1) := dk_96 (dk_at dksX9_look_1 20 rfl rfl)
theorem dX9_look_43 : decode cX9_look 43 = .ok (.iaload, 1) := dk_46 (dk_at dksX9_look_1 21 rfl rfl)
theorem dX9_look_44 : decode cX9_look 44 = .ok (.iastore, 1) := dk_79 (dk_at dksX9_look_1 22 rfl rfl)
theorem dX9_look_45 : decode cX9_look 45 = .ok (.aload_n 0, 1) := dk_42 (dk_at dksX9_look_1 23 rfl rfl)
theorem dX9_look_46 : decode cX9_look 46 = .ok (.getfield 82, 3) := dk_180 0 82 (dk_at dksX9_look_2 0 rfl rfl)
theorem dX9_look_49 : decode cX9_look 49 = .ok (.iconst 3, 1) := dk_6 (dk_at dksX9_look_2 3 rfl rfl)
theorem dX9_look_50 : decode cX9_look 50 = .ok (.aload_n 0, 1) := dk_42 (dk_at dksX9_look_2 4 rfl rfl)
theorem dX9_look_51 : decode cX9_look 51 = .ok (.iload_n 1, 1) := dk_27 (dk_at dksX9_look_2 5 rfl rfl)
theorem dX9_look_52 : decode cX9_look 52 = .ok (.invokevirtual 371, 3) := dk_182 1 115 (dk_at dksX9_look_2 6 rfl rfl)
theorem dX9_look_55 : decode cX9_look 55 = .ok (.iastore, 1) := dk_79 (dk_at dksX9_look_2 9 rfl rfl)
theorem dX9_look_56 : decode cX9_look 56 = .ok (.aload_n 0, 1) := dk_42 (dk_at dksX9_look_2 10 rfl rfl)
theorem dX9_look_57 : decode cX9_look 57 = .ok (.getfield 82, 3) := dk_180 0 82 (dk_at dksX9_look_2 11 rfl rfl)
theorem dX9_look_60 : decode cX9_look 60 = .ok (.iconst 5, 1) := dk_8 (dk_at dksX9_look_2 14 rfl rfl)
theorem dX9_look_61 : decode cX9_look 61 = .ok (.aload_n 0, 1) := dk_42 (dk_at dksX9_look_2 15 rfl rfl)
theorem dX9_look_62 : decode cX9_look 62 = .ok (.getfield 33, 3) := dk_180 0 33 (dk_at dksX9_look_2 16 rfl rfl)
theorem dX9_look_65 : decode cX9_look 65 = .ok (.iconst 0, 1) := dk_3 (dk_at dksX9_look_2 19 rfl rfl)
theorem dX9_look_66 : decode cX9_look 66 = .ok (.iaload, 1) := dk_46 (dk_at dksX9_look_2 20 rfl rfl)
theorem dX9_look_67 : decode cX9_look 67 = .ok (.iastore, 1) := dk_79 (dk_at dksX9_look_2 21 rfl rfl)
theorem dX9_look_68 : decode cX9_look 68 = .ok (.aload_n 0, 1) := dk_42 (dk_at dksX9_look_2 22 rfl rfl)
theorem dX9_look_69 : decode cX9_look 69 = .ok (.getfield 82, 3) := dk_180 0 82 (dk_at dksX9_look_3 0 rfl rfl)
theorem dX9_look_72 : decode cX9_look 72 = .ok (.bipush 6, 2) := dk_16 6 (dk_at dksX9_look_3 3 rfl rfl)
theorem dX9_look_74 : decode cX9_look 74 = .ok (.iload_n 2, 1) := dk_28 (dk_at dksX9_look_3 5 rfl rfl)
theorem dX9_look_75 : decode cX9_look 75 = .ok (.iastore, 1) := dk_79 (dk_at dksX9_look_3 6 rfl rfl)
theorem dX9_look_76 : decode cX9_look 76 = .ok (.return_, 1) := dk_177 (dk_at dksX9_look_3 7 rfl rfl)
abbrev cX9_isRule : ByteArray := prog_23_method_83_code
def yX9_isRule : MethodName := ⟨RX9, "isRule", "(II)Z"⟩
def dkwX9_isRule_2 : List UInt8 := [167, 255, 212, 3, 172]
abbrev dktX9_isRule_2 : List UInt8 := dkwX9_isRule_2 ++ []
def dkwX9_isRule_1 : List UInt8 := [180, 0, 30, 28, 5, 29, 104, 96, 4, 96, 46, 182, 1, 166, 153, 0, 5, 4, 172, 132, 3, 1]
abbrev dktX9_isRule_1 : List UInt8 := dkwX9_isRule_1 ++ dktX9_isRule_2
def dkwX9_isRule_0 : List UInt8 := [3, 62, 29, 42, 180, 0, 30, 27, 46, 162, 0, 40, 42, 42, 180, 0, 30, 28, 5, 29, 104, 96, 46, 42]
abbrev dktX9_isRule_0 : List UInt8 := dkwX9_isRule_0 ++ dktX9_isRule_1
theorem dksX9_isRule_0 : cX9_isRule.data.toList.drop 0 = dktX9_isRule_0 := by decide +kernel
theorem dksX9_isRule_1 : cX9_isRule.data.toList.drop 24 = dktX9_isRule_1 := dk_seg dksX9_isRule_0 24 rfl rfl
theorem dksX9_isRule_2 : cX9_isRule.data.toList.drop 46 = dktX9_isRule_2 := dk_seg dksX9_isRule_1 22 rfl rfl
theorem dX9_isRule_0 : decode cX9_isRule 0 = .ok (.iconst 0, 1) := dk_3 (dk_at dksX9_isRule_0 0 rfl rfl)
theorem dX9_isRule_1 : decode cX9_isRule 1 = .ok (.istore_n 3, 1) := dk_62 (dk_at dksX9_isRule_0 1 rfl rfl)
theorem dX9_isRule_2 : decode cX9_isRule 2 = .ok (.iload_n 3, 1) := dk_29 (dk_at dksX9_isRule_0 2 rfl rfl)
theorem dX9_isRule_3 : decode cX9_isRule 3 = .ok (.aload_n 0, 1) := dk_42 (dk_at dksX9_isRule_0 3 rfl rfl)
theorem dX9_isRule_4 : decode cX9_isRule 4 = .ok (.getfield 30, 3) := dk_180 0 30 (dk_at dksX9_isRule_0 4 rfl rfl)
theorem dX9_isRule_7 : decode cX9_isRule 7 = .ok (.iload_n 1, 1) := dk_27 (dk_at dksX9_isRule_0 7 rfl rfl)
theorem dX9_isRule_8 : decode cX9_isRule 8 = .ok (.iaload, 1) := dk_46 (dk_at dksX9_isRule_0 8 rfl rfl)
theorem dX9_isRule_9 : decode cX9_isRule 9 = .ok (.if_icmp .ge 40, 3) := dk_162 0 40 (dk_at dksX9_isRule_0 9 rfl rfl)
theorem dX9_isRule_12 : decode cX9_isRule 12 = .ok (.aload_n 0, 1) := dk_42 (dk_at dksX9_isRule_0 12 rfl rfl)
theorem dX9_isRule_13 : decode cX9_isRule 13 = .ok (.aload_n 0, 1) := dk_42 (dk_at dksX9_isRule_0 13 rfl rfl)
theorem dX9_isRule_14 : decode cX9_isRule 14 = .ok (.getfield 30, 3) := dk_180 0 30 (dk_at dksX9_isRule_0 14 rfl rfl)
theorem dX9_isRule_17 : decode cX9_isRule 17 = .ok (.iload_n 2, 1) := dk_28 (dk_at dksX9_isRule_0 17 rfl rfl)
theorem dX9_isRule_18 : decode cX9_isRule 18 = .ok (.iconst 2, 1) := dk_5 (dk_at dksX9_isRule_0 18 rfl rfl)
theorem dX9_isRule_19 : decode cX9_isRule 19 = .ok (.iload_n 3, 1) := dk_29 (dk_at dksX9_isRule_0 19 rfl rfl)
theorem dX9_isRule_20 : decode cX9_isRule 20 = .ok (.imul, 1) := dk_104 (dk_at dksX9_isRule_0 20 rfl rfl)
theorem dX9_isRule_21 : decode cX9_isRule 21 = .ok (.iadd, 1) := dk_96 (dk_at dksX9_isRule_0 21 rfl rfl)
theorem dX9_isRule_22 : decode cX9_isRule 22 = .ok (.iaload, 1) := dk_46 (dk_at dksX9_isRule_0 22 rfl rfl)
theorem dX9_isRule_23 : decode cX9_isRule 23 = .ok (.aload_n 0, 1) := dk_42 (dk_at dksX9_isRule_0 23 rfl rfl)
theorem dX9_isRule_24 : decode cX9_isRule 24 = .ok (.getfield 30, 3) := dk_180 0 30 (dk_at dksX9_isRule_1 0 rfl rfl)
theorem dX9_isRule_27 : decode cX9_isRule 27 = .ok (.iload_n 2, 1) := dk_28 (dk_at dksX9_isRule_1 3 rfl rfl)
theorem dX9_isRule_28 : decode cX9_isRule 28 = .ok (.iconst 2, 1) := dk_5 (dk_at dksX9_isRule_1 4 rfl rfl)
theorem dX9_isRule_29 : decode cX9_isRule 29 = .ok (.iload_n 3, 1) := dk_29 (dk_at dksX9_isRule_1 5 rfl rfl)
theorem dX9_isRule_30 : decode cX9_isRule 30 = .ok (.imul, 1) := dk_104 (dk_at dksX9_isRule_1 6 rfl rfl)
theorem dX9_isRule_31 : decode cX9_isRule 31 = .ok (.iadd, 1) := dk_96 (dk_at dksX9_isRule_1 7 rfl rfl)
theorem dX9_isRule_32 : decode cX9_isRule 32 = .ok (.iconst 1, 1) := dk_4 (dk_at dksX9_isRule_1 8 rfl rfl)
theorem dX9_isRule_33 : decode cX9_isRule 33 = .ok (.iadd, 1) := dk_96 (dk_at dksX9_isRule_1 9 rfl rfl)
theorem dX9_isRule_34 : decode cX9_isRule 34 = .ok (.iaload, 1) := dk_46 (dk_at dksX9_isRule_1 10 rfl rfl)
theorem dX9_isRule_35 : decode cX9_isRule 35 = .ok (.invokevirtual 422, 3) := dk_182 1 166 (dk_at dksX9_isRule_1 11 rfl rfl)
theorem dX9_isRule_38 : decode cX9_isRule 38 = .ok (.ifCond .eq 5, 3) := dk_153 0 5 (dk_at dksX9_isRule_1 14 rfl rfl)
theorem dX9_isRule_41 : decode cX9_isRule 41 = .ok (.iconst 1, 1) := dk_4 (dk_at dksX9_isRule_1 17 rfl rfl)
theorem dX9_isRule_42 : decode cX9_isRule 42 = .ok (.ireturn, 1) := dk_172 (dk_at dksX9_isRule_1 18 rfl rfl)
theorem dX9_isRule_43 : decode cX9_isRule 43 = .ok (.iinc 3 1, 3) := dk_132 3 1 (dk_at dksX9_isRule_1 19 rfl rfl)
theorem dX9_isRule_46 : decode cX9_isRule 46 = .ok (.goto (-44), 3) := dk_167 255 212 (dk_at dksX9_isRule_2 0 rfl rfl)
theorem dX9_isRule_49 : decode cX9_isRule 49 = .ok (.iconst 0, 1) := dk_3 (dk_at dksX9_isRule_2 3 rfl rfl)
theorem dX9_isRule_50 : decode cX9_isRule 50 = .ok (.ireturn, 1) := dk_172 (dk_at dksX9_isRule_2 4 rfl rfl)
abbrev cX9_isHeld : ByteArray := prog_23_method_50_code
def yX9_isHeld : MethodName := ⟨RX9, "isHeld", "(II)Z"⟩
def dkwX9_isHeld_2 : List UInt8 := [132, 3, 1, 167, 255, 225, 21, 5, 153, 0, 5, 4, 172, 167, 255, 199, 3, 172]
abbrev dktX9_isHeld_2 : List UInt8 := dkwX9_isHeld_2 ++ []
def dkwX9_isHeld_1 : List UInt8 := [180, 0, 64, 29, 46, 21, 4, 160, 0, 21, 21, 5, 153, 0, 10, 42, 29, 182, 1, 102, 54, 5]
abbrev dktX9_isHeld_1 : List UInt8 := dkwX9_isHeld_1 ++ dktX9_isHeld_2
def dkwX9_isHeld_0 : List UInt8 := [27, 62, 29, 28, 162, 0, 58, 42, 180, 0, 64, 29, 46, 54, 4, 4, 54, 5, 29, 28, 162, 0, 32, 42]
abbrev dktX9_isHeld_0 : List UInt8 := dkwX9_isHeld_0 ++ dktX9_isHeld_1
theorem dksX9_isHeld_0 : cX9_isHeld.data.toList.drop 0 = dktX9_isHeld_0 := by decide +kernel
theorem dksX9_isHeld_1 : cX9_isHeld.data.toList.drop 24 = dktX9_isHeld_1 := dk_seg dksX9_isHeld_0 24 rfl rfl
theorem dksX9_isHeld_2 : cX9_isHeld.data.toList.drop 46 = dktX9_isHeld_2 := dk_seg dksX9_isHeld_1 22 rfl rfl
theorem dX9_isHeld_0 : decode cX9_isHeld 0 = .ok (.iload_n 1, 1) := dk_27 (dk_at dksX9_isHeld_0 0 rfl rfl)
theorem dX9_isHeld_1 : decode cX9_isHeld 1 = .ok (.istore_n 3, 1) := dk_62 (dk_at dksX9_isHeld_0 1 rfl rfl)
theorem dX9_isHeld_2 : decode cX9_isHeld 2 = .ok (.iload_n 3, 1) := dk_29 (dk_at dksX9_isHeld_0 2 rfl rfl)
theorem dX9_isHeld_3 : decode cX9_isHeld 3 = .ok (.iload_n 2, 1) := dk_28 (dk_at dksX9_isHeld_0 3 rfl rfl)
theorem dX9_isHeld_4 : decode cX9_isHeld 4 = .ok (.if_icmp .ge 58, 3) := dk_162 0 58 (dk_at dksX9_isHeld_0 4 rfl rfl)
theorem dX9_isHeld_7 : decode cX9_isHeld 7 = .ok (.aload_n 0, 1) := dk_42 (dk_at dksX9_isHeld_0 7 rfl rfl)
theorem dX9_isHeld_8 : decode cX9_isHeld 8 = .ok (.getfield 64, 3) := dk_180 0 64 (dk_at dksX9_isHeld_0 8 rfl rfl)
theorem dX9_isHeld_11 : decode cX9_isHeld 11 = .ok (.iload_n 3, 1) := dk_29 (dk_at dksX9_isHeld_0 11 rfl rfl)
theorem dX9_isHeld_12 : decode cX9_isHeld 12 = .ok (.iaload, 1) := dk_46 (dk_at dksX9_isHeld_0 12 rfl rfl)
theorem dX9_isHeld_13 : decode cX9_isHeld 13 = .ok (.istore 4, 2) := dk_54 4 (dk_at dksX9_isHeld_0 13 rfl rfl)
theorem dX9_isHeld_15 : decode cX9_isHeld 15 = .ok (.iconst 1, 1) := dk_4 (dk_at dksX9_isHeld_0 15 rfl rfl)
theorem dX9_isHeld_16 : decode cX9_isHeld 16 = .ok (.istore 5, 2) := dk_54 5 (dk_at dksX9_isHeld_0 16 rfl rfl)
theorem dX9_isHeld_18 : decode cX9_isHeld 18 = .ok (.iload_n 3, 1) := dk_29 (dk_at dksX9_isHeld_0 18 rfl rfl)
theorem dX9_isHeld_19 : decode cX9_isHeld 19 = .ok (.iload_n 2, 1) := dk_28 (dk_at dksX9_isHeld_0 19 rfl rfl)
theorem dX9_isHeld_20 : decode cX9_isHeld 20 = .ok (.if_icmp .ge 32, 3) := dk_162 0 32 (dk_at dksX9_isHeld_0 20 rfl rfl)
theorem dX9_isHeld_23 : decode cX9_isHeld 23 = .ok (.aload_n 0, 1) := dk_42 (dk_at dksX9_isHeld_0 23 rfl rfl)
theorem dX9_isHeld_24 : decode cX9_isHeld 24 = .ok (.getfield 64, 3) := dk_180 0 64 (dk_at dksX9_isHeld_1 0 rfl rfl)
theorem dX9_isHeld_27 : decode cX9_isHeld 27 = .ok (.iload_n 3, 1) := dk_29 (dk_at dksX9_isHeld_1 3 rfl rfl)
theorem dX9_isHeld_28 : decode cX9_isHeld 28 = .ok (.iaload, 1) := dk_46 (dk_at dksX9_isHeld_1 4 rfl rfl)
theorem dX9_isHeld_29 : decode cX9_isHeld 29 = .ok (.iload 4, 2) := dk_21 4 (dk_at dksX9_isHeld_1 5 rfl rfl)
theorem dX9_isHeld_31 : decode cX9_isHeld 31 = .ok (.if_icmp .ne 21, 3) := dk_160 0 21 (dk_at dksX9_isHeld_1 7 rfl rfl)
theorem dX9_isHeld_34 : decode cX9_isHeld 34 = .ok (.iload 5, 2) := dk_21 5 (dk_at dksX9_isHeld_1 10 rfl rfl)
theorem dX9_isHeld_36 : decode cX9_isHeld 36 = .ok (.ifCond .eq 10, 3) := dk_153 0 10 (dk_at dksX9_isHeld_1 12 rfl rfl)
theorem dX9_isHeld_39 : decode cX9_isHeld 39 = .ok (.aload_n 0, 1) := dk_42 (dk_at dksX9_isHeld_1 15 rfl rfl)
theorem dX9_isHeld_40 : decode cX9_isHeld 40 = .ok (.iload_n 3, 1) := dk_29 (dk_at dksX9_isHeld_1 16 rfl rfl)
theorem dX9_isHeld_41 : decode cX9_isHeld 41 = .ok (.invokevirtual 358, 3) := dk_182 1 102 (dk_at dksX9_isHeld_1 17 rfl rfl)
theorem dX9_isHeld_44 : decode cX9_isHeld 44 = .ok (.istore 5, 2) := dk_54 5 (dk_at dksX9_isHeld_1 20 rfl rfl)
theorem dX9_isHeld_46 : decode cX9_isHeld 46 = .ok (.iinc 3 1, 3) := dk_132 3 1 (dk_at dksX9_isHeld_2 0 rfl rfl)
theorem dX9_isHeld_49 : decode cX9_isHeld 49 = .ok (.goto (-31), 3) := dk_167 255 225 (dk_at dksX9_isHeld_2 3 rfl rfl)
theorem dX9_isHeld_52 : decode cX9_isHeld 52 = .ok (.iload 5, 2) := dk_21 5 (dk_at dksX9_isHeld_2 6 rfl rfl)
theorem dX9_isHeld_54 : decode cX9_isHeld 54 = .ok (.ifCond .eq 5, 3) := dk_153 0 5 (dk_at dksX9_isHeld_2 8 rfl rfl)
theorem dX9_isHeld_57 : decode cX9_isHeld 57 = .ok (.iconst 1, 1) := dk_4 (dk_at dksX9_isHeld_2 11 rfl rfl)
theorem dX9_isHeld_58 : decode cX9_isHeld 58 = .ok (.ireturn, 1) := dk_172 (dk_at dksX9_isHeld_2 12 rfl rfl)
theorem dX9_isHeld_59 : decode cX9_isHeld 59 = .ok (.goto (-57), 3) := dk_167 255 199 (dk_at dksX9_isHeld_2 13 rfl rfl)
theorem dX9_isHeld_62 : decode cX9_isHeld 62 = .ok (.iconst 0, 1) := dk_3 (dk_at dksX9_isHeld_2 16 rfl rfl)
theorem dX9_isHeld_63 : decode cX9_isHeld 63 = .ok (.ireturn, 1) := dk_172 (dk_at dksX9_isHeld_2 17 rfl rfl)
abbrev cX9_isLit : ByteArray := prog_23_method_49_code
def yX9_isLit : MethodName := ⟨RX9, "isLit", "(I)Z"⟩
def dkwX9_isLit_7 : List UInt8 := [167, 0, 4, 3, 172]
abbrev dktX9_isLit_7 : List UInt8 := dkwX9_isLit_7 ++ []
def dkwX9_isLit_6 : List UInt8 := [162, 0, 7, 4, 167, 0, 4, 3, 54, 4, 21, 4, 42, 180, 0, 48, 27, 51, 159, 0, 7, 4]
abbrev dktX9_isLit_6 : List UInt8 := dkwX9_isLit_6 ++ dktX9_isLit_7
def dkwX9_isLit_5 : List UInt8 := [46, 17, 1, 46, 160, 0, 16, 28, 29, 163, 0, 7, 4, 167, 0, 17, 3, 167, 0, 13, 28, 29]
abbrev dktX9_isLit_5 : List UInt8 := dkwX9_isLit_5 ++ dktX9_isLit_6
def dkwX9_isLit_4 : List UInt8 := [17, 1, 45, 160, 0, 16, 28, 29, 159, 0, 7, 4, 167, 0, 42, 3, 167, 0, 38, 42, 180, 0, 52, 27]
abbrev dktX9_isLit_4 : List UInt8 := dkwX9_isLit_4 ++ dktX9_isLit_5
def dkwX9_isLit_3 : List UInt8 := [160, 0, 16, 28, 29, 160, 0, 7, 4, 167, 0, 67, 3, 167, 0, 63, 42, 180, 0, 52, 27, 46]
abbrev dktX9_isLit_3 : List UInt8 := dkwX9_isLit_3 ++ dktX9_isLit_4
def dkwX9_isLit_2 : List UInt8 := [42, 180, 1, 94, 153, 0, 10, 42, 180, 0, 48, 27, 51, 172, 42, 180, 0, 52, 27, 46, 17, 1, 44]
abbrev dktX9_isLit_2 : List UInt8 := dkwX9_isLit_2 ++ dktX9_isLit_3
def dkwX9_isLit_1 : List UInt8 := [42, 180, 0, 48, 27, 51, 172, 42, 42, 180, 0, 58, 27, 46, 42, 180, 0, 61, 27, 46, 182, 1, 98, 62]
abbrev dktX9_isLit_1 : List UInt8 := dkwX9_isLit_1 ++ dktX9_isLit_2
def dkwX9_isLit_0 : List UInt8 := [42, 42, 180, 0, 55, 27, 46, 42, 180, 0, 58, 27, 46, 182, 1, 98, 61, 42, 180, 1, 94, 153, 0, 10]
abbrev dktX9_isLit_0 : List UInt8 := dkwX9_isLit_0 ++ dktX9_isLit_1
theorem dksX9_isLit_0 : cX9_isLit.data.toList.drop 0 = dktX9_isLit_0 := by decide +kernel
theorem dksX9_isLit_1 : cX9_isLit.data.toList.drop 24 = dktX9_isLit_1 := dk_seg dksX9_isLit_0 24 rfl rfl
theorem dksX9_isLit_2 : cX9_isLit.data.toList.drop 48 = dktX9_isLit_2 := dk_seg dksX9_isLit_1 24 rfl rfl
theorem dksX9_isLit_3 : cX9_isLit.data.toList.drop 71 = dktX9_isLit_3 := dk_seg dksX9_isLit_2 23 rfl rfl
theorem dksX9_isLit_4 : cX9_isLit.data.toList.drop 93 = dktX9_isLit_4 := dk_seg dksX9_isLit_3 22 rfl rfl
theorem dksX9_isLit_5 : cX9_isLit.data.toList.drop 117 = dktX9_isLit_5 := dk_seg dksX9_isLit_4 24 rfl rfl
theorem dksX9_isLit_6 : cX9_isLit.data.toList.drop 139 = dktX9_isLit_6 := dk_seg dksX9_isLit_5 22 rfl rfl
theorem dksX9_isLit_7 : cX9_isLit.data.toList.drop 161 = dktX9_isLit_7 := dk_seg dksX9_isLit_6 22 rfl rfl
theorem dX9_isLit_0 : decode cX9_isLit 0 = .ok (.aload_n 0, 1) := dk_42 (dk_at dksX9_isLit_0 0 rfl rfl)
theorem dX9_isLit_1 : decode cX9_isLit 1 = .ok (.aload_n 0, 1) := dk_42 (dk_at dksX9_isLit_0 1 rfl rfl)
theorem dX9_isLit_2 : decode cX9_isLit 2 = .ok (.getfield 55, 3) := dk_180 0 55 (dk_at dksX9_isLit_0 2 rfl rfl)
theorem dX9_isLit_5 : decode cX9_isLit 5 = .ok (.iload_n 1, 1) := dk_27 (dk_at dksX9_isLit_0 5 rfl rfl)
theorem dX9_isLit_6 : decode cX9_isLit 6 = .ok (.iaload, 1) := dk_46 (dk_at dksX9_isLit_0 6 rfl rfl)
theorem dX9_isLit_7 : decode cX9_isLit 7 = .ok (.aload_n 0, 1) := dk_42 (dk_at dksX9_isLit_0 7 rfl rfl)
theorem dX9_isLit_8 : decode cX9_isLit 8 = .ok (.getfield 58, 3) := dk_180 0 58 (dk_at dksX9_isLit_0 8 rfl rfl)
theorem dX9_isLit_11 : decode cX9_isLit 11 = .ok (.iload_n 1, 1) := dk_27 (dk_at dksX9_isLit_0 11 rfl rfl)
theorem dX9_isLit_12 : decode cX9_isLit 12 = .ok (.iaload, 1) := dk_46 (dk_at dksX9_isLit_0 12 rfl rfl)
theorem dX9_isLit_13 : decode cX9_isLit 13 = .ok (.invokevirtual 354, 3) := dk_182 1 98 (dk_at dksX9_isLit_0 13 rfl rfl)
theorem dX9_isLit_16 : decode cX9_isLit 16 = .ok (.istore_n 2, 1) := dk_61 (dk_at dksX9_isLit_0 16 rfl rfl)
theorem dX9_isLit_17 : decode cX9_isLit 17 = .ok (.aload_n 0, 1) := dk_42 (dk_at dksX9_isLit_0 17 rfl rfl)
theorem dX9_isLit_18 : decode cX9_isLit 18 = .ok (.getfield 350, 3) := dk_180 1 94 (dk_at dksX9_isLit_0 18 rfl rfl)
theorem dX9_isLit_21 : decode cX9_isLit 21 = .ok (.ifCond .eq 10, 3) := dk_153 0 10 (dk_at dksX9_isLit_0 21 rfl rfl)
theorem dX9_isLit_24 : decode cX9_isLit 24 = .ok (.aload_n 0, 1) := dk_42 (dk_at dksX9_isLit_1 0 rfl rfl)
theorem dX9_isLit_25 : decode cX9_isLit 25 = .ok (.getfield 48, 3) := dk_180 0 48 (dk_at dksX9_isLit_1 1 rfl rfl)
theorem dX9_isLit_28 : decode cX9_isLit 28 = .ok (.iload_n 1, 1) := dk_27 (dk_at dksX9_isLit_1 4 rfl rfl)
theorem dX9_isLit_29 : decode cX9_isLit 29 = .ok (.baload, 1) := dk_51 (dk_at dksX9_isLit_1 5 rfl rfl)
theorem dX9_isLit_30 : decode cX9_isLit 30 = .ok (.ireturn, 1) := dk_172 (dk_at dksX9_isLit_1 6 rfl rfl)
theorem dX9_isLit_31 : decode cX9_isLit 31 = .ok (.aload_n 0, 1) := dk_42 (dk_at dksX9_isLit_1 7 rfl rfl)
theorem dX9_isLit_32 : decode cX9_isLit 32 = .ok (.aload_n 0, 1) := dk_42 (dk_at dksX9_isLit_1 8 rfl rfl)
theorem dX9_isLit_33 : decode cX9_isLit 33 = .ok (.getfield 58, 3) := dk_180 0 58 (dk_at dksX9_isLit_1 9 rfl rfl)
theorem dX9_isLit_36 : decode cX9_isLit 36 = .ok (.iload_n 1, 1) := dk_27 (dk_at dksX9_isLit_1 12 rfl rfl)
theorem dX9_isLit_37 : decode cX9_isLit 37 = .ok (.iaload, 1) := dk_46 (dk_at dksX9_isLit_1 13 rfl rfl)
theorem dX9_isLit_38 : decode cX9_isLit 38 = .ok (.aload_n 0, 1) := dk_42 (dk_at dksX9_isLit_1 14 rfl rfl)
theorem dX9_isLit_39 : decode cX9_isLit 39 = .ok (.getfield 61, 3) := dk_180 0 61 (dk_at dksX9_isLit_1 15 rfl rfl)
theorem dX9_isLit_42 : decode cX9_isLit 42 = .ok (.iload_n 1, 1) := dk_27 (dk_at dksX9_isLit_1 18 rfl rfl)
theorem dX9_isLit_43 : decode cX9_isLit 43 = .ok (.iaload, 1) := dk_46 (dk_at dksX9_isLit_1 19 rfl rfl)
theorem dX9_isLit_44 : decode cX9_isLit 44 = .ok (.invokevirtual 354, 3) := dk_182 1 98 (dk_at dksX9_isLit_1 20 rfl rfl)
theorem dX9_isLit_47 : decode cX9_isLit 47 = .ok (.istore_n 3, 1) := dk_62 (dk_at dksX9_isLit_1 23 rfl rfl)
theorem dX9_isLit_48 : decode cX9_isLit 48 = .ok (.aload_n 0, 1) := dk_42 (dk_at dksX9_isLit_2 0 rfl rfl)
theorem dX9_isLit_49 : decode cX9_isLit 49 = .ok (.getfield 350, 3) := dk_180 1 94 (dk_at dksX9_isLit_2 1 rfl rfl)
theorem dX9_isLit_52 : decode cX9_isLit 52 = .ok (.ifCond .eq 10, 3) := dk_153 0 10 (dk_at dksX9_isLit_2 4 rfl rfl)
theorem dX9_isLit_55 : decode cX9_isLit 55 = .ok (.aload_n 0, 1) := dk_42 (dk_at dksX9_isLit_2 7 rfl rfl)
theorem dX9_isLit_56 : decode cX9_isLit 56 = .ok (.getfield 48, 3) := dk_180 0 48 (dk_at dksX9_isLit_2 8 rfl rfl)
theorem dX9_isLit_59 : decode cX9_isLit 59 = .ok (.iload_n 1, 1) := dk_27 (dk_at dksX9_isLit_2 11 rfl rfl)
theorem dX9_isLit_60 : decode cX9_isLit 60 = .ok (.baload, 1) := dk_51 (dk_at dksX9_isLit_2 12 rfl rfl)
theorem dX9_isLit_61 : decode cX9_isLit 61 = .ok (.ireturn, 1) := dk_172 (dk_at dksX9_isLit_2 13 rfl rfl)
theorem dX9_isLit_62 : decode cX9_isLit 62 = .ok (.aload_n 0, 1) := dk_42 (dk_at dksX9_isLit_2 14 rfl rfl)
theorem dX9_isLit_63 : decode cX9_isLit 63 = .ok (.getfield 52, 3) := dk_180 0 52 (dk_at dksX9_isLit_2 15 rfl rfl)
theorem dX9_isLit_66 : decode cX9_isLit 66 = .ok (.iload_n 1, 1) := dk_27 (dk_at dksX9_isLit_2 18 rfl rfl)
theorem dX9_isLit_67 : decode cX9_isLit 67 = .ok (.iaload, 1) := dk_46 (dk_at dksX9_isLit_2 19 rfl rfl)
theorem dX9_isLit_68 : decode cX9_isLit 68 = .ok (.sipush 300, 3) := dk_17 1 44 (dk_at dksX9_isLit_2 20 rfl rfl)
theorem dX9_isLit_71 : decode cX9_isLit 71 = .ok (.if_icmp .ne 16, 3) := dk_160 0 16 (dk_at dksX9_isLit_3 0 rfl rfl)
theorem dX9_isLit_74 : decode cX9_isLit 74 = .ok (.iload_n 2, 1) := dk_28 (dk_at dksX9_isLit_3 3 rfl rfl)
theorem dX9_isLit_75 : decode cX9_isLit 75 = .ok (.iload_n 3, 1) := dk_29 (dk_at dksX9_isLit_3 4 rfl rfl)
theorem dX9_isLit_76 : decode cX9_isLit 76 = .ok (.if_icmp .ne 7, 3) := dk_160 0 7 (dk_at dksX9_isLit_3 5 rfl rfl)
theorem dX9_isLit_79 : decode cX9_isLit 79 = .ok (.iconst 1, 1) := dk_4 (dk_at dksX9_isLit_3 8 rfl rfl)
theorem dX9_isLit_80 : decode cX9_isLit 80 = .ok (.goto 67, 3) := dk_167 0 67 (dk_at dksX9_isLit_3 9 rfl rfl)
theorem dX9_isLit_83 : decode cX9_isLit 83 = .ok (.iconst 0, 1) := dk_3 (dk_at dksX9_isLit_3 12 rfl rfl)
theorem dX9_isLit_84 : decode cX9_isLit 84 = .ok (.goto 63, 3) := dk_167 0 63 (dk_at dksX9_isLit_3 13 rfl rfl)
theorem dX9_isLit_87 : decode cX9_isLit 87 = .ok (.aload_n 0, 1) := dk_42 (dk_at dksX9_isLit_3 16 rfl rfl)
theorem dX9_isLit_88 : decode cX9_isLit 88 = .ok (.getfield 52, 3) := dk_180 0 52 (dk_at dksX9_isLit_3 17 rfl rfl)
theorem dX9_isLit_91 : decode cX9_isLit 91 = .ok (.iload_n 1, 1) := dk_27 (dk_at dksX9_isLit_3 20 rfl rfl)
theorem dX9_isLit_92 : decode cX9_isLit 92 = .ok (.iaload, 1) := dk_46 (dk_at dksX9_isLit_3 21 rfl rfl)
theorem dX9_isLit_93 : decode cX9_isLit 93 = .ok (.sipush 301, 3) := dk_17 1 45 (dk_at dksX9_isLit_4 0 rfl rfl)
theorem dX9_isLit_96 : decode cX9_isLit 96 = .ok (.if_icmp .ne 16, 3) := dk_160 0 16 (dk_at dksX9_isLit_4 3 rfl rfl)
theorem dX9_isLit_99 : decode cX9_isLit 99 = .ok (.iload_n 2, 1) := dk_28 (dk_at dksX9_isLit_4 6 rfl rfl)
theorem dX9_isLit_100 : decode cX9_isLit 100 = .ok (.iload_n 3, 1) := dk_29 (dk_at dksX9_isLit_4 7 rfl rfl)
theorem dX9_isLit_101 : decode cX9_isLit 101 = .ok (.if_icmp .eq 7, 3) := dk_159 0 7 (dk_at dksX9_isLit_4 8 rfl rfl)
theorem dX9_isLit_104 : decode cX9_isLit 104 = .ok (.iconst 1, 1) := dk_4 (dk_at dksX9_isLit_4 11 rfl rfl)
theorem dX9_isLit_105 : decode cX9_isLit 105 = .ok (.goto 42, 3) := dk_167 0 42 (dk_at dksX9_isLit_4 12 rfl rfl)
theorem dX9_isLit_108 : decode cX9_isLit 108 = .ok (.iconst 0, 1) := dk_3 (dk_at dksX9_isLit_4 15 rfl rfl)
theorem dX9_isLit_109 : decode cX9_isLit 109 = .ok (.goto 38, 3) := dk_167 0 38 (dk_at dksX9_isLit_4 16 rfl rfl)
theorem dX9_isLit_112 : decode cX9_isLit 112 = .ok (.aload_n 0, 1) := dk_42 (dk_at dksX9_isLit_4 19 rfl rfl)
theorem dX9_isLit_113 : decode cX9_isLit 113 = .ok (.getfield 52, 3) := dk_180 0 52 (dk_at dksX9_isLit_4 20 rfl rfl)
theorem dX9_isLit_116 : decode cX9_isLit 116 = .ok (.iload_n 1, 1) := dk_27 (dk_at dksX9_isLit_4 23 rfl rfl)
theorem dX9_isLit_117 : decode cX9_isLit 117 = .ok (.iaload, 1) := dk_46 (dk_at dksX9_isLit_5 0 rfl rfl)
theorem dX9_isLit_118 : decode cX9_isLit 118 = .ok (.sipush 302, 3) := dk_17 1 46 (dk_at dksX9_isLit_5 1 rfl rfl)
theorem dX9_isLit_121 : decode cX9_isLit 121 = .ok (.if_icmp .ne 16, 3) := dk_160 0 16 (dk_at dksX9_isLit_5 4 rfl rfl)
theorem dX9_isLit_124 : decode cX9_isLit 124 = .ok (.iload_n 2, 1) := dk_28 (dk_at dksX9_isLit_5 7 rfl rfl)
theorem dX9_isLit_125 : decode cX9_isLit 125 = .ok (.iload_n 3, 1) := dk_29 (dk_at dksX9_isLit_5 8 rfl rfl)
theorem dX9_isLit_126 : decode cX9_isLit 126 = .ok (.if_icmp .gt 7, 3) := dk_163 0 7 (dk_at dksX9_isLit_5 9 rfl rfl)
theorem dX9_isLit_129 : decode cX9_isLit 129 = .ok (.iconst 1, 1) := dk_4 (dk_at dksX9_isLit_5 12 rfl rfl)
theorem dX9_isLit_130 : decode cX9_isLit 130 = .ok (.goto 17, 3) := dk_167 0 17 (dk_at dksX9_isLit_5 13 rfl rfl)
theorem dX9_isLit_133 : decode cX9_isLit 133 = .ok (.iconst 0, 1) := dk_3 (dk_at dksX9_isLit_5 16 rfl rfl)
theorem dX9_isLit_134 : decode cX9_isLit 134 = .ok (.goto 13, 3) := dk_167 0 13 (dk_at dksX9_isLit_5 17 rfl rfl)
theorem dX9_isLit_137 : decode cX9_isLit 137 = .ok (.iload_n 2, 1) := dk_28 (dk_at dksX9_isLit_5 20 rfl rfl)
theorem dX9_isLit_138 : decode cX9_isLit 138 = .ok (.iload_n 3, 1) := dk_29 (dk_at dksX9_isLit_5 21 rfl rfl)
theorem dX9_isLit_139 : decode cX9_isLit 139 = .ok (.if_icmp .ge 7, 3) := dk_162 0 7 (dk_at dksX9_isLit_6 0 rfl rfl)
theorem dX9_isLit_142 : decode cX9_isLit 142 = .ok (.iconst 1, 1) := dk_4 (dk_at dksX9_isLit_6 3 rfl rfl)
theorem dX9_isLit_143 : decode cX9_isLit 143 = .ok (.goto 4, 3) := dk_167 0 4 (dk_at dksX9_isLit_6 4 rfl rfl)
theorem dX9_isLit_146 : decode cX9_isLit 146 = .ok (.iconst 0, 1) := dk_3 (dk_at dksX9_isLit_6 7 rfl rfl)
theorem dX9_isLit_147 : decode cX9_isLit 147 = .ok (.istore 4, 2) := dk_54 4 (dk_at dksX9_isLit_6 8 rfl rfl)
theorem dX9_isLit_149 : decode cX9_isLit 149 = .ok (.iload 4, 2) := dk_21 4 (dk_at dksX9_isLit_6 10 rfl rfl)
theorem dX9_isLit_151 : decode cX9_isLit 151 = .ok (.aload_n 0, 1) := dk_42 (dk_at dksX9_isLit_6 12 rfl rfl)
theorem dX9_isLit_152 : decode cX9_isLit 152 = .ok (.getfield 48, 3) := dk_180 0 48 (dk_at dksX9_isLit_6 13 rfl rfl)
theorem dX9_isLit_155 : decode cX9_isLit 155 = .ok (.iload_n 1, 1) := dk_27 (dk_at dksX9_isLit_6 16 rfl rfl)
theorem dX9_isLit_156 : decode cX9_isLit 156 = .ok (.baload, 1) := dk_51 (dk_at dksX9_isLit_6 17 rfl rfl)
theorem dX9_isLit_157 : decode cX9_isLit 157 = .ok (.if_icmp .eq 7, 3) := dk_159 0 7 (dk_at dksX9_isLit_6 18 rfl rfl)
theorem dX9_isLit_160 : decode cX9_isLit 160 = .ok (.iconst 1, 1) := dk_4 (dk_at dksX9_isLit_6 21 rfl rfl)
theorem dX9_isLit_161 : decode cX9_isLit 161 = .ok (.goto 4, 3) := dk_167 0 4 (dk_at dksX9_isLit_7 0 rfl rfl)
theorem dX9_isLit_164 : decode cX9_isLit 164 = .ok (.iconst 0, 1) := dk_3 (dk_at dksX9_isLit_7 3 rfl rfl)
theorem dX9_isLit_165 : decode cX9_isLit 165 = .ok (.ireturn, 1) := dk_172 (dk_at dksX9_isLit_7 4 rfl rfl)
abbrev cX9_wood : ByteArray := prog_23_method_88_code
def yX9_wood : MethodName := ⟨RX9, "wood", "(I)I"⟩
def dkwX9_wood_1 : List UInt8 := [27, 96, 46, 172]
abbrev dktX9_wood_1 : List UInt8 := dkwX9_wood_1 ++ []
def dkwX9_wood_0 : List UInt8 := [27, 155, 0, 13, 27, 42, 180, 0, 30, 8, 46, 161, 0, 7, 2, 167, 0, 12, 42, 180, 0, 33, 16, 50]
abbrev dktX9_wood_0 : List UInt8 := dkwX9_wood_0 ++ dktX9_wood_1
theorem dksX9_wood_0 : cX9_wood.data.toList.drop 0 = dktX9_wood_0 := by decide +kernel
theorem dksX9_wood_1 : cX9_wood.data.toList.drop 24 = dktX9_wood_1 := dk_seg dksX9_wood_0 24 rfl rfl
theorem dX9_wood_0 : decode cX9_wood 0 = .ok (.iload_n 1, 1) := dk_27 (dk_at dksX9_wood_0 0 rfl rfl)
theorem dX9_wood_1 : decode cX9_wood 1 = .ok (.ifCond .lt 13, 3) := dk_155 0 13 (dk_at dksX9_wood_0 1 rfl rfl)
theorem dX9_wood_4 : decode cX9_wood 4 = .ok (.iload_n 1, 1) := dk_27 (dk_at dksX9_wood_0 4 rfl rfl)
theorem dX9_wood_5 : decode cX9_wood 5 = .ok (.aload_n 0, 1) := dk_42 (dk_at dksX9_wood_0 5 rfl rfl)
theorem dX9_wood_6 : decode cX9_wood 6 = .ok (.getfield 30, 3) := dk_180 0 30 (dk_at dksX9_wood_0 6 rfl rfl)
theorem dX9_wood_9 : decode cX9_wood 9 = .ok (.iconst 5, 1) := dk_8 (dk_at dksX9_wood_0 9 rfl rfl)
theorem dX9_wood_10 : decode cX9_wood 10 = .ok (.iaload, 1) := dk_46 (dk_at dksX9_wood_0 10 rfl rfl)
theorem dX9_wood_11 : decode cX9_wood 11 = .ok (.if_icmp .lt 7, 3) := dk_161 0 7 (dk_at dksX9_wood_0 11 rfl rfl)
theorem dX9_wood_14 : decode cX9_wood 14 = .ok (.iconst (-1), 1) := dk_2 (dk_at dksX9_wood_0 14 rfl rfl)
theorem dX9_wood_15 : decode cX9_wood 15 = .ok (.goto 12, 3) := dk_167 0 12 (dk_at dksX9_wood_0 15 rfl rfl)
theorem dX9_wood_18 : decode cX9_wood 18 = .ok (.aload_n 0, 1) := dk_42 (dk_at dksX9_wood_0 18 rfl rfl)
theorem dX9_wood_19 : decode cX9_wood 19 = .ok (.getfield 33, 3) := dk_180 0 33 (dk_at dksX9_wood_0 19 rfl rfl)
theorem dX9_wood_22 : decode cX9_wood 22 = .ok (.bipush 50, 2) := dk_16 50 (dk_at dksX9_wood_0 22 rfl rfl)
theorem dX9_wood_24 : decode cX9_wood 24 = .ok (.iload_n 1, 1) := dk_27 (dk_at dksX9_wood_1 0 rfl rfl)
theorem dX9_wood_25 : decode cX9_wood 25 = .ok (.iadd, 1) := dk_96 (dk_at dksX9_wood_1 1 rfl rfl)
theorem dX9_wood_26 : decode cX9_wood 26 = .ok (.iaload, 1) := dk_46 (dk_at dksX9_wood_1 2 rfl rfl)
theorem dX9_wood_27 : decode cX9_wood 27 = .ok (.ireturn, 1) := dk_172 (dk_at dksX9_wood_1 3 rfl rfl)
abbrev cX9_jack : ByteArray := prog_23_method_91_code
def yX9_jack : MethodName := ⟨RX9, "jack", "(II)I"⟩
def dkwX9_jack_2 : List UInt8 := [16, 254, 167, 0, 20, 28, 154, 0, 7, 29, 167, 0, 12, 42, 180, 0, 91, 28, 16, 10, 100, 46, 172]
abbrev dktX9_jack_2 : List UInt8 := dkwX9_jack_2 ++ []
def dkwX9_jack_1 : List UInt8 := [46, 96, 184, 1, 136, 154, 0, 5, 2, 172, 42, 27, 182, 1, 189, 62, 29, 19, 1, 185, 161, 0, 8]
abbrev dktX9_jack_1 : List UInt8 := dkwX9_jack_1 ++ dktX9_jack_2
def dkwX9_jack_0 : List UInt8 := [27, 4, 16, 99, 184, 1, 136, 153, 0, 25, 28, 153, 0, 23, 28, 16, 10, 16, 9, 42, 180, 0, 30, 8]
abbrev dktX9_jack_0 : List UInt8 := dkwX9_jack_0 ++ dktX9_jack_1
theorem dksX9_jack_0 : cX9_jack.data.toList.drop 0 = dktX9_jack_0 := by decide +kernel
theorem dksX9_jack_1 : cX9_jack.data.toList.drop 24 = dktX9_jack_1 := dk_seg dksX9_jack_0 24 rfl rfl
theorem dksX9_jack_2 : cX9_jack.data.toList.drop 47 = dktX9_jack_2 := dk_seg dksX9_jack_1 23 rfl rfl
theorem dX9_jack_0 : decode cX9_jack 0 = .ok (.iload_n 1, 1) := dk_27 (dk_at dksX9_jack_0 0 rfl rfl)
theorem dX9_jack_1 : decode cX9_jack 1 = .ok (.iconst 1, 1) := dk_4 (dk_at dksX9_jack_0 1 rfl rfl)
theorem dX9_jack_2 : decode cX9_jack 2 = .ok (.bipush 99, 2) := dk_16 99 (dk_at dksX9_jack_0 2 rfl rfl)
theorem dX9_jack_4 : decode cX9_jack 4 = .ok (.invokestatic 392, 3) := dk_184 1 136 (dk_at dksX9_jack_0 4 rfl rfl)
theorem dX9_jack_7 : decode cX9_jack 7 = .ok (.ifCond .eq 25, 3) := dk_153 0 25 (dk_at dksX9_jack_0 7 rfl rfl)
theorem dX9_jack_10 : decode cX9_jack 10 = .ok (.iload_n 2, 1) := dk_28 (dk_at dksX9_jack_0 10 rfl rfl)
theorem dX9_jack_11 : decode cX9_jack 11 = .ok (.ifCond .eq 23, 3) := dk_153 0 23 (dk_at dksX9_jack_0 11 rfl rfl)
theorem dX9_jack_14 : decode cX9_jack 14 = .ok (.iload_n 2, 1) := dk_28 (dk_at dksX9_jack_0 14 rfl rfl)
theorem dX9_jack_15 : decode cX9_jack 15 = .ok (.bipush 10, 2) := dk_16 10 (dk_at dksX9_jack_0 15 rfl rfl)
theorem dX9_jack_17 : decode cX9_jack 17 = .ok (.bipush 9, 2) := dk_16 9 (dk_at dksX9_jack_0 17 rfl rfl)
theorem dX9_jack_19 : decode cX9_jack 19 = .ok (.aload_n 0, 1) := dk_42 (dk_at dksX9_jack_0 19 rfl rfl)
theorem dX9_jack_20 : decode cX9_jack 20 = .ok (.getfield 30, 3) := dk_180 0 30 (dk_at dksX9_jack_0 20 rfl rfl)
theorem dX9_jack_23 : decode cX9_jack 23 = .ok (.iconst 5, 1) := dk_8 (dk_at dksX9_jack_0 23 rfl rfl)
theorem dX9_jack_24 : decode cX9_jack 24 = .ok (.iaload, 1) := dk_46 (dk_at dksX9_jack_1 0 rfl rfl)
theorem dX9_jack_25 : decode cX9_jack 25 = .ok (.iadd, 1) := dk_96 (dk_at dksX9_jack_1 1 rfl rfl)
theorem dX9_jack_26 : decode cX9_jack 26 = .ok (.invokestatic 392, 3) := dk_184 1 136 (dk_at dksX9_jack_1 2 rfl rfl)
theorem dX9_jack_29 : decode cX9_jack 29 = .ok (.ifCond .ne 5, 3) := dk_154 0 5 (dk_at dksX9_jack_1 5 rfl rfl)
theorem dX9_jack_32 : decode cX9_jack 32 = .ok (.iconst (-1), 1) := dk_2 (dk_at dksX9_jack_1 8 rfl rfl)
theorem dX9_jack_33 : decode cX9_jack 33 = .ok (.ireturn, 1) := dk_172 (dk_at dksX9_jack_1 9 rfl rfl)
theorem dX9_jack_34 : decode cX9_jack 34 = .ok (.aload_n 0, 1) := dk_42 (dk_at dksX9_jack_1 10 rfl rfl)
theorem dX9_jack_35 : decode cX9_jack 35 = .ok (.iload_n 1, 1) := dk_27 (dk_at dksX9_jack_1 11 rfl rfl)
theorem dX9_jack_36 : decode cX9_jack 36 = .ok (.invokevirtual 445, 3) := dk_182 1 189 (dk_at dksX9_jack_1 12 rfl rfl)
theorem dX9_jack_39 : decode cX9_jack 39 = .ok (.istore_n 3, 1) := dk_62 (dk_at dksX9_jack_1 15 rfl rfl)
theorem dX9_jack_40 : decode cX9_jack 40 = .ok (.iload_n 3, 1) := dk_29 (dk_at dksX9_jack_1 16 rfl rfl)
theorem dX9_jack_41 : decode cX9_jack 41 = .ok (.ldc_w 441, 3) := dk_19 1 185 (dk_at dksX9_jack_1 17 rfl rfl)
theorem dX9_jack_44 : decode cX9_jack 44 = .ok (.if_icmp .lt 8, 3) := dk_161 0 8 (dk_at dksX9_jack_1 20 rfl rfl)
theorem dX9_jack_47 : decode cX9_jack 47 = .ok (.bipush (-2), 2) := dk_16 254 (dk_at dksX9_jack_2 0 rfl rfl)
theorem dX9_jack_49 : decode cX9_jack 49 = .ok (.goto 20, 3) := dk_167 0 20 (dk_at dksX9_jack_2 2 rfl rfl)
theorem dX9_jack_52 : decode cX9_jack 52 = .ok (.iload_n 2, 1) := dk_28 (dk_at dksX9_jack_2 5 rfl rfl)
theorem dX9_jack_53 : decode cX9_jack 53 = .ok (.ifCond .ne 7, 3) := dk_154 0 7 (dk_at dksX9_jack_2 6 rfl rfl)
theorem dX9_jack_56 : decode cX9_jack 56 = .ok (.iload_n 3, 1) := dk_29 (dk_at dksX9_jack_2 9 rfl rfl)
theorem dX9_jack_57 : decode cX9_jack 57 = .ok (.goto 12, 3) := dk_167 0 12 (dk_at dksX9_jack_2 10 rfl rfl)
theorem dX9_jack_60 : decode cX9_jack 60 = .ok (.aload_n 0, 1) := dk_42 (dk_at dksX9_jack_2 13 rfl rfl)
theorem dX9_jack_61 : decode cX9_jack 61 = .ok (.getfield 91, 3) := dk_180 0 91 (dk_at dksX9_jack_2 14 rfl rfl)
theorem dX9_jack_64 : decode cX9_jack 64 = .ok (.iload_n 2, 1) := dk_28 (dk_at dksX9_jack_2 17 rfl rfl)
theorem dX9_jack_65 : decode cX9_jack 65 = .ok (.bipush 10, 2) := dk_16 10 (dk_at dksX9_jack_2 18 rfl rfl)
theorem dX9_jack_67 : decode cX9_jack 67 = .ok (.isub, 1) := dk_100 (dk_at dksX9_jack_2 20 rfl rfl)
theorem dX9_jack_68 : decode cX9_jack 68 = .ok (.iaload, 1) := dk_46 (dk_at dksX9_jack_2 21 rfl rfl)
theorem dX9_jack_69 : decode cX9_jack 69 = .ok (.ireturn, 1) := dk_172 (dk_at dksX9_jack_2 22 rfl rfl)
abbrev cX9_jacks : ByteArray := prog_23_method_90_code
def yX9_jacks : MethodName := ⟨RX9, "jacks", "(I)I"⟩
def dkwX9_jacks_14 : List UInt8 := [21, 4, 104, 100, 61, 132, 3, 1, 167, 255, 128, 42, 180, 0, 88, 27, 46, 172]
abbrev dktX9_jacks_14 : List UInt8 := dkwX9_jacks_14 ++ []
def dkwX9_jacks_13 : List UInt8 := [104, 28, 96, 46, 159, 0, 9, 132, 5, 255, 167, 255, 216, 42, 180, 0, 91, 29, 21, 5, 79, 28, 21, 5]
abbrev dktX9_jacks_13 : List UInt8 := dkwX9_jacks_13 ++ dktX9_jacks_14
def dkwX9_jacks_12 : List UInt8 := [29, 104, 16, 100, 96, 28, 96, 21, 5, 21, 4, 104, 100, 46, 21, 5, 96, 42, 180, 0, 88, 16, 100, 29]
abbrev dktX9_jacks_12 : List UInt8 := dkwX9_jacks_12 ++ dktX9_jacks_13
def dkwX9_jacks_11 : List UInt8 := [16, 50, 29, 96, 46, 28, 21, 4, 108, 184, 1, 186, 167, 0, 4, 3, 54, 5, 42, 180, 0, 88, 16, 100]
abbrev dktX9_jacks_11 : List UInt8 := dkwX9_jacks_11 ++ dktX9_jacks_12
def dkwX9_jacks_10 : List UInt8 := [104, 96, 46, 167, 0, 4, 4, 54, 4, 29, 42, 180, 0, 30, 8, 46, 162, 0, 22, 42, 180, 0, 33]
abbrev dktX9_jacks_10 : List UInt8 := dkwX9_jacks_10 ++ dktX9_jacks_11
def dkwX9_jacks_9 : List UInt8 := [16, 8, 162, 0, 128, 29, 42, 180, 0, 30, 8, 46, 162, 0, 18, 42, 180, 0, 30, 17, 0, 170, 5, 29]
abbrev dktX9_jacks_9 : List UInt8 := dkwX9_jacks_9 ++ dktX9_jacks_10
def dkwX9_jacks_8 : List UInt8 := [167, 255, 108, 42, 180, 0, 88, 27, 46, 19, 1, 185, 161, 0, 7, 19, 1, 185, 172, 27, 61, 3, 62, 29]
abbrev dktX9_jacks_8 : List UInt8 := dkwX9_jacks_8 ++ dktX9_jacks_9
def dkwX9_jacks_7 : List UInt8 := [180, 0, 88, 16, 100, 28, 104, 21, 5, 96, 21, 6, 79, 132, 5, 1, 167, 255, 173, 132, 2, 255]
abbrev dktX9_jacks_7 : List UInt8 := dkwX9_jacks_7 ++ dktX9_jacks_8
def dkwX9_jacks_6 : List UInt8 := [96, 21, 7, 29, 104, 100, 46, 21, 7, 96, 184, 1, 186, 54, 6, 132, 7, 1, 167, 255, 207, 42]
abbrev dktX9_jacks_6 : List UInt8 := dkwX9_jacks_6 ++ dktX9_jacks_7
def dkwX9_jacks_5 : List UInt8 := [21, 7, 29, 104, 21, 5, 163, 0, 39, 21, 6, 42, 180, 0, 88, 16, 100, 28, 104, 16, 100, 96, 21, 5]
abbrev dktX9_jacks_5 : List UInt8 := dkwX9_jacks_5 ++ dktX9_jacks_6
def dkwX9_jacks_4 : List UInt8 := [54, 5, 21, 5, 27, 163, 0, 83, 19, 1, 185, 54, 6, 3, 54, 7, 21, 7, 21, 4, 163, 0, 48]
abbrev dktX9_jacks_4 : List UInt8 := dkwX9_jacks_4 ++ dktX9_jacks_5
def dkwX9_jacks_3 : List UInt8 := [180, 0, 30, 8, 46, 162, 0, 15, 42, 180, 0, 33, 16, 50, 28, 96, 46, 167, 0, 4, 3, 54, 4, 3]
abbrev dktX9_jacks_3 : List UInt8 := dkwX9_jacks_3 ++ dktX9_jacks_4
def dkwX9_jacks_2 : List UInt8 := [162, 0, 18, 42, 180, 0, 30, 17, 0, 170, 5, 28, 104, 96, 46, 167, 0, 4, 4, 62, 28, 42]
abbrev dktX9_jacks_2 : List UInt8 := dkwX9_jacks_2 ++ dktX9_jacks_3
def dkwX9_jacks_1 : List UInt8 := [19, 1, 185, 79, 132, 2, 1, 167, 255, 227, 16, 7, 61, 28, 155, 0, 150, 28, 42, 180, 0, 30, 8, 46]
abbrev dktX9_jacks_1 : List UInt8 := dkwX9_jacks_1 ++ dktX9_jacks_2
def dkwX9_jacks_0 : List UInt8 := [3, 61, 28, 27, 163, 0, 30, 42, 180, 0, 88, 17, 3, 32, 28, 96, 28, 154, 0, 7, 3, 167, 0, 6]
abbrev dktX9_jacks_0 : List UInt8 := dkwX9_jacks_0 ++ dktX9_jacks_1
theorem dksX9_jacks_0 : cX9_jacks.data.toList.drop 0 = dktX9_jacks_0 := by decide +kernel
theorem dksX9_jacks_1 : cX9_jacks.data.toList.drop 24 = dktX9_jacks_1 := dk_seg dksX9_jacks_0 24 rfl rfl
theorem dksX9_jacks_2 : cX9_jacks.data.toList.drop 48 = dktX9_jacks_2 := dk_seg dksX9_jacks_1 24 rfl rfl
theorem dksX9_jacks_3 : cX9_jacks.data.toList.drop 70 = dktX9_jacks_3 := dk_seg dksX9_jacks_2 22 rfl rfl
theorem dksX9_jacks_4 : cX9_jacks.data.toList.drop 94 = dktX9_jacks_4 := dk_seg dksX9_jacks_3 24 rfl rfl
theorem dksX9_jacks_5 : cX9_jacks.data.toList.drop 117 = dktX9_jacks_5 := dk_seg dksX9_jacks_4 23 rfl rfl
theorem dksX9_jacks_6 : cX9_jacks.data.toList.drop 141 = dktX9_jacks_6 := dk_seg dksX9_jacks_5 24 rfl rfl
theorem dksX9_jacks_7 : cX9_jacks.data.toList.drop 163 = dktX9_jacks_7 := dk_seg dksX9_jacks_6 22 rfl rfl
theorem dksX9_jacks_8 : cX9_jacks.data.toList.drop 185 = dktX9_jacks_8 := dk_seg dksX9_jacks_7 22 rfl rfl
theorem dksX9_jacks_9 : cX9_jacks.data.toList.drop 209 = dktX9_jacks_9 := dk_seg dksX9_jacks_8 24 rfl rfl
theorem dksX9_jacks_10 : cX9_jacks.data.toList.drop 233 = dktX9_jacks_10 := dk_seg dksX9_jacks_9 24 rfl rfl
theorem dksX9_jacks_11 : cX9_jacks.data.toList.drop 256 = dktX9_jacks_11 := dk_seg dksX9_jacks_10 23 rfl rfl
theorem dksX9_jacks_12 : cX9_jacks.data.toList.drop 280 = dktX9_jacks_12 := dk_seg dksX9_jacks_11 24 rfl rfl
theorem dksX9_jacks_13 : cX9_jacks.data.toList.drop 304 = dktX9_jacks_13 := dk_seg dksX9_jacks_12 24 rfl rfl
theorem dksX9_jacks_14 : cX9_jacks.data.toList.drop 328 = dktX9_jacks_14 := dk_seg dksX9_jacks_13 24 rfl rfl
theorem dX9_jacks_0 : decode cX9_jacks 0 = .ok (.iconst 0, 1) := dk_3 (dk_at dksX9_jacks_0 0 rfl rfl)
theorem dX9_jacks_1 : decode cX9_jacks 1 = .ok (.istore_n 2, 1) := dk_61 (dk_at dksX9_jacks_0 1 rfl rfl)
theorem dX9_jacks_2 : decode cX9_jacks 2 = .ok (.iload_n 2, 1) := dk_28 (dk_at dksX9_jacks_0 2 rfl rfl)
theorem dX9_jacks_3 : decode cX9_jacks 3 = .ok (.iload_n 1, 1) := dk_27 (dk_at dksX9_jacks_0 3 rfl rfl)
theorem dX9_jacks_4 : decode cX9_jacks 4 = .ok (.if_icmp .gt 30, 3) := dk_163 0 30 (dk_at dksX9_jacks_0 4 rfl rfl)
theorem dX9_jacks_7 : decode cX9_jacks 7 = .ok (.aload_n 0, 1) := dk_42 (dk_at dksX9_jacks_0 7 rfl rfl)
theorem dX9_jacks_8 : decode cX9_jacks 8 = .ok (.getfield 88, 3) := dk_180 0 88 (dk_at dksX9_jacks_0 8 rfl rfl)
theorem dX9_jacks_11 : decode cX9_jacks 11 = .ok (.sipush 800, 3) := dk_17 3 32 (dk_at dksX9_jacks_0 11 rfl rfl)
theorem dX9_jacks_14 : decode cX9_jacks 14 = .ok (.iload_n 2, 1) := dk_28 (dk_at dksX9_jacks_0 14 rfl rfl)
theorem dX9_jacks_15 : decode cX9_jacks 15 = .ok (.iadd, 1) := dk_96 (dk_at dksX9_jacks_0 15 rfl rfl)
theorem dX9_jacks_16 : decode cX9_jacks 16 = .ok (.iload_n 2, 1) := dk_28 (dk_at dksX9_jacks_0 16 rfl rfl)
theorem dX9_jacks_17 : decode cX9_jacks 17 = .ok (.ifCond .ne 7, 3) := dk_154 0 7 (dk_at dksX9_jacks_0 17 rfl rfl)
theorem dX9_jacks_20 : decode cX9_jacks 20 = .ok (.iconst 0, 1) := dk_3 (dk_at dksX9_jacks_0 20 rfl rfl)
theorem dX9_jacks_21 : decode cX9_jacks 21 = .ok (.goto 6, 3) := dk_167 0 6 (dk_at dksX9_jacks_0 21 rfl rfl)
theorem dX9_jacks_24 : decode cX9_jacks 24 = .ok (.ldc_w 441, 3) := dk_19 1 185 (dk_at dksX9_jacks_1 0 rfl rfl)
theorem dX9_jacks_27 : decode cX9_jacks 27 = .ok (.iastore, 1) := dk_79 (dk_at dksX9_jacks_1 3 rfl rfl)
theorem dX9_jacks_28 : decode cX9_jacks 28 = .ok (.iinc 2 1, 3) := dk_132 2 1 (dk_at dksX9_jacks_1 4 rfl rfl)
theorem dX9_jacks_31 : decode cX9_jacks 31 = .ok (.goto (-29), 3) := dk_167 255 227 (dk_at dksX9_jacks_1 7 rfl rfl)
theorem dX9_jacks_34 : decode cX9_jacks 34 = .ok (.bipush 7, 2) := dk_16 7 (dk_at dksX9_jacks_1 10 rfl rfl)
theorem dX9_jacks_36 : decode cX9_jacks 36 = .ok (.istore_n 2, 1) := dk_61 (dk_at dksX9_jacks_1 12 rfl rfl)
theorem dX9_jacks_37 : decode cX9_jacks 37 = .ok (.iload_n 2, 1) := dk_28 (dk_at dksX9_jacks_1 13 rfl rfl)
theorem dX9_jacks_38 : decode cX9_jacks 38 = .ok (.ifCond .lt 150, 3) := dk_155 0 150 (dk_at dksX9_jacks_1 14 rfl rfl)
theorem dX9_jacks_41 : decode cX9_jacks 41 = .ok (.iload_n 2, 1) := dk_28 (dk_at dksX9_jacks_1 17 rfl rfl)
theorem dX9_jacks_42 : decode cX9_jacks 42 = .ok (.aload_n 0, 1) := dk_42 (dk_at dksX9_jacks_1 18 rfl rfl)
theorem dX9_jacks_43 : decode cX9_jacks 43 = .ok (.getfield 30, 3) := dk_180 0 30 (dk_at dksX9_jacks_1 19 rfl rfl)
theorem dX9_jacks_46 : decode cX9_jacks 46 = .ok (.iconst 5, 1) := dk_8 (dk_at dksX9_jacks_1 22 rfl rfl)
theorem dX9_jacks_47 : decode cX9_jacks 47 = .ok (.iaload, 1) := dk_46 (dk_at dksX9_jacks_1 23 rfl rfl)
theorem dX9_jacks_48 : decode cX9_jacks 48 = .ok (.if_icmp .ge 18, 3) := dk_162 0 18 (dk_at dksX9_jacks_2 0 rfl rfl)
theorem dX9_jacks_51 : decode cX9_jacks 51 = .ok (.aload_n 0, 1) := dk_42 (dk_at dksX9_jacks_2 3 rfl rfl)
theorem dX9_jacks_52 : decode cX9_jacks 52 = .ok (.getfield 30, 3) := dk_180 0 30 (dk_at dksX9_jacks_2 4 rfl rfl)
theorem dX9_jacks_55 : decode cX9_jacks 55 = .ok (.sipush 170, 3) := dk_17 0 170 (dk_at dksX9_jacks_2 7 rfl rfl)
theorem dX9_jacks_58 : decode cX9_jacks 58 = .ok (.iconst 2, 1) := dk_5 (dk_at dksX9_jacks_2 10 rfl rfl)
theorem dX9_jacks_59 : decode cX9_jacks 59 = .ok (.iload_n 2, 1) := dk_28 (dk_at dksX9_jacks_2 11 rfl rfl)
theorem dX9_jacks_60 : decode cX9_jacks 60 = .ok (.imul, 1) := dk_104 (dk_at dksX9_jacks_2 12 rfl rfl)
theorem dX9_jacks_61 : decode cX9_jacks 61 = .ok (.iadd, 1) := dk_96 (dk_at dksX9_jacks_2 13 rfl rfl)
theorem dX9_jacks_62 : decode cX9_jacks 62 = .ok (.iaload, 1) := dk_46 (dk_at dksX9_jacks_2 14 rfl rfl)
theorem dX9_jacks_63 : decode cX9_jacks 63 = .ok (.goto 4, 3) := dk_167 0 4 (dk_at dksX9_jacks_2 15 rfl rfl)
theorem dX9_jacks_66 : decode cX9_jacks 66 = .ok (.iconst 1, 1) := dk_4 (dk_at dksX9_jacks_2 18 rfl rfl)
theorem dX9_jacks_67 : decode cX9_jacks 67 = .ok (.istore_n 3, 1) := dk_62 (dk_at dksX9_jacks_2 19 rfl rfl)
theorem dX9_jacks_68 : decode cX9_jacks 68 = .ok (.iload_n 2, 1) := dk_28 (dk_at dksX9_jacks_2 20 rfl rfl)
theorem dX9_jacks_69 : decode cX9_jacks 69 = .ok (.aload_n 0, 1) := dk_42 (dk_at dksX9_jacks_2 21 rfl rfl)
theorem dX9_jacks_70 : decode cX9_jacks 70 = .ok (.getfield 30, 3) := dk_180 0 30 (dk_at dksX9_jacks_3 0 rfl rfl)
theorem dX9_jacks_73 : decode cX9_jacks 73 = .ok (.iconst 5, 1) := dk_8 (dk_at dksX9_jacks_3 3 rfl rfl)
theorem dX9_jacks_74 : decode cX9_jacks 74 = .ok (.iaload, 1) := dk_46 (dk_at dksX9_jacks_3 4 rfl rfl)
theorem dX9_jacks_75 : decode cX9_jacks 75 = .ok (.if_icmp .ge 15, 3) := dk_162 0 15 (dk_at dksX9_jacks_3 5 rfl rfl)
theorem dX9_jacks_78 : decode cX9_jacks 78 = .ok (.aload_n 0, 1) := dk_42 (dk_at dksX9_jacks_3 8 rfl rfl)
theorem dX9_jacks_79 : decode cX9_jacks 79 = .ok (.getfield 33, 3) := dk_180 0 33 (dk_at dksX9_jacks_3 9 rfl rfl)
theorem dX9_jacks_82 : decode cX9_jacks 82 = .ok (.bipush 50, 2) := dk_16 50 (dk_at dksX9_jacks_3 12 rfl rfl)
theorem dX9_jacks_84 : decode cX9_jacks 84 = .ok (.iload_n 2, 1) := dk_28 (dk_at dksX9_jacks_3 14 rfl rfl)
theorem dX9_jacks_85 : decode cX9_jacks 85 = .ok (.iadd, 1) := dk_96 (dk_at dksX9_jacks_3 15 rfl rfl)
theorem dX9_jacks_86 : decode cX9_jacks 86 = .ok (.iaload, 1) := dk_46 (dk_at dksX9_jacks_3 16 rfl rfl)
theorem dX9_jacks_87 : decode cX9_jacks 87 = .ok (.goto 4, 3) := dk_167 0 4 (dk_at dksX9_jacks_3 17 rfl rfl)
theorem dX9_jacks_90 : decode cX9_jacks 90 = .ok (.iconst 0, 1) := dk_3 (dk_at dksX9_jacks_3 20 rfl rfl)
theorem dX9_jacks_91 : decode cX9_jacks 91 = .ok (.istore 4, 2) := dk_54 4 (dk_at dksX9_jacks_3 21 rfl rfl)
theorem dX9_jacks_93 : decode cX9_jacks 93 = .ok (.iconst 0, 1) := dk_3 (dk_at dksX9_jacks_3 23 rfl rfl)
theorem dX9_jacks_94 : decode cX9_jacks 94 = .ok (.istore 5, 2) := dk_54 5 (dk_at dksX9_jacks_4 0 rfl rfl)
theorem dX9_jacks_96 : decode cX9_jacks 96 = .ok (.iload 5, 2) := dk_21 5 (dk_at dksX9_jacks_4 2 rfl rfl)
theorem dX9_jacks_98 : decode cX9_jacks 98 = .ok (.iload_n 1, 1) := dk_27 (dk_at dksX9_jacks_4 4 rfl rfl)
theorem dX9_jacks_99 : decode cX9_jacks 99 = .ok (.if_icmp .gt 83, 3) := dk_163 0 83 (dk_at dksX9_jacks_4 5 rfl rfl)
theorem dX9_jacks_102 : decode cX9_jacks 102 = .ok (.ldc_w 441, 3) := dk_19 1 185 (dk_at dksX9_jacks_4 8 rfl rfl)
theorem dX9_jacks_105 : decode cX9_jacks 105 = .ok (.istore 6, 2) := dk_54 6 (dk_at dksX9_jacks_4 11 rfl rfl)
theorem dX9_jacks_107 : decode cX9_jacks 107 = .ok (.iconst 0, 1) := dk_3 (dk_at dksX9_jacks_4 13 rfl rfl)
theorem dX9_jacks_108 : decode cX9_jacks 108 = .ok (.istore 7, 2) := dk_54 7 (dk_at dksX9_jacks_4 14 rfl rfl)
theorem dX9_jacks_110 : decode cX9_jacks 110 = .ok (.iload 7, 2) := dk_21 7 (dk_at dksX9_jacks_4 16 rfl rfl)
theorem dX9_jacks_112 : decode cX9_jacks 112 = .ok (.iload 4, 2) := dk_21 4 (dk_at dksX9_jacks_4 18 rfl rfl)
theorem dX9_jacks_114 : decode cX9_jacks 114 = .ok (.if_icmp .gt 48, 3) := dk_163 0 48 (dk_at dksX9_jacks_4 20 rfl rfl)
theorem dX9_jacks_117 : decode cX9_jacks 117 = .ok (.iload 7, 2) := dk_21 7 (dk_at dksX9_jacks_5 0 rfl rfl)
theorem dX9_jacks_119 : decode cX9_jacks 119 = .ok (.iload_n 3, 1) := dk_29 (dk_at dksX9_jacks_5 2 rfl rfl)
theorem dX9_jacks_120 : decode cX9_jacks 120 = .ok (.imul, 1) := dk_104 (dk_at dksX9_jacks_5 3 rfl rfl)
theorem dX9_jacks_121 : decode cX9_jacks 121 = .ok (.iload 5, 2) := dk_21 5 (dk_at dksX9_jacks_5 4 rfl rfl)
theorem dX9_jacks_123 : decode cX9_jacks 123 = .ok (.if_icmp .gt 39, 3) := dk_163 0 39 (dk_at dksX9_jacks_5 6 rfl rfl)
theorem dX9_jacks_126 : decode cX9_jacks 126 = .ok (.iload 6, 2) := dk_21 6 (dk_at dksX9_jacks_5 9 rfl rfl)
theorem dX9_jacks_128 : decode cX9_jacks 128 = .ok (.aload_n 0, 1) := dk_42 (dk_at dksX9_jacks_5 11 rfl rfl)
theorem dX9_jacks_129 : decode cX9_jacks 129 = .ok (.getfield 88, 3) := dk_180 0 88 (dk_at dksX9_jacks_5 12 rfl rfl)
theorem dX9_jacks_132 : decode cX9_jacks 132 = .ok (.bipush 100, 2) := dk_16 100 (dk_at dksX9_jacks_5 15 rfl rfl)
theorem dX9_jacks_134 : decode cX9_jacks 134 = .ok (.iload_n 2, 1) := dk_28 (dk_at dksX9_jacks_5 17 rfl rfl)
theorem dX9_jacks_135 : decode cX9_jacks 135 = .ok (.imul, 1) := dk_104 (dk_at dksX9_jacks_5 18 rfl rfl)
theorem dX9_jacks_136 : decode cX9_jacks 136 = .ok (.bipush 100, 2) := dk_16 100 (dk_at dksX9_jacks_5 19 rfl rfl)
theorem dX9_jacks_138 : decode cX9_jacks 138 = .ok (.iadd, 1) := dk_96 (dk_at dksX9_jacks_5 21 rfl rfl)
theorem dX9_jacks_139 : decode cX9_jacks 139 = .ok (.iload 5, 2) := dk_21 5 (dk_at dksX9_jacks_5 22 rfl rfl)
theorem dX9_jacks_141 : decode cX9_jacks 141 = .ok (.iadd, 1) := dk_96 (dk_at dksX9_jacks_6 0 rfl rfl)
theorem dX9_jacks_142 : decode cX9_jacks 142 = .ok (.iload 7, 2) := dk_21 7 (dk_at dksX9_jacks_6 1 rfl rfl)
theorem dX9_jacks_144 : decode cX9_jacks 144 = .ok (.iload_n 3, 1) := dk_29 (dk_at dksX9_jacks_6 3 rfl rfl)
theorem dX9_jacks_145 : decode cX9_jacks 145 = .ok (.imul, 1) := dk_104 (dk_at dksX9_jacks_6 4 rfl rfl)
theorem dX9_jacks_146 : decode cX9_jacks 146 = .ok (.isub, 1) := dk_100 (dk_at dksX9_jacks_6 5 rfl rfl)
theorem dX9_jacks_147 : decode cX9_jacks 147 = .ok (.iaload, 1) := dk_46 (dk_at dksX9_jacks_6 6 rfl rfl)
theorem dX9_jacks_148 : decode cX9_jacks 148 = .ok (.iload 7, 2) := dk_21 7 (dk_at dksX9_jacks_6 7 rfl rfl)
theorem dX9_jacks_150 : decode cX9_jacks 150 = .ok (.iadd, 1) := dk_96 (dk_at dksX9_jacks_6 9 rfl rfl)
theorem dX9_jacks_151 : decode cX9_jacks 151 = .ok (.invokestatic 442, 3) := dk_184 1 186 (dk_at dksX9_jacks_6 10 rfl rfl)
theorem dX9_jacks_154 : decode cX9_jacks 154 = .ok (.istore 6, 2) := dk_54 6 (dk_at dksX9_jacks_6 13 rfl rfl)
theorem dX9_jacks_156 : decode cX9_jacks 156 = .ok (.iinc 7 1, 3) := dk_132 7 1 (dk_at dksX9_jacks_6 15 rfl rfl)
theorem dX9_jacks_159 : decode cX9_jacks 159 = .ok (.goto (-49), 3) := dk_167 255 207 (dk_at dksX9_jacks_6 18 rfl rfl)
theorem dX9_jacks_162 : decode cX9_jacks 162 = .ok (.aload_n 0, 1) := dk_42 (dk_at dksX9_jacks_6 21 rfl rfl)
theorem dX9_jacks_163 : decode cX9_jacks 163 = .ok (.getfield 88, 3) := dk_180 0 88 (dk_at dksX9_jacks_7 0 rfl rfl)
theorem dX9_jacks_166 : decode cX9_jacks 166 = .ok (.bipush 100, 2) := dk_16 100 (dk_at dksX9_jacks_7 3 rfl rfl)
theorem dX9_jacks_168 : decode cX9_jacks 168 = .ok (.iload_n 2, 1) := dk_28 (dk_at dksX9_jacks_7 5 rfl rfl)
theorem dX9_jacks_169 : decode cX9_jacks 169 = .ok (.imul, 1) := dk_104 (dk_at dksX9_jacks_7 6 rfl rfl)
theorem dX9_jacks_170 : decode cX9_jacks 170 = .ok (.iload 5, 2) := dk_21 5 (dk_at dksX9_jacks_7 7 rfl rfl)
theorem dX9_jacks_172 : decode cX9_jacks 172 = .ok (.iadd, 1) := dk_96 (dk_at dksX9_jacks_7 9 rfl rfl)
theorem dX9_jacks_173 : decode cX9_jacks 173 = .ok (.iload 6, 2) := dk_21 6 (dk_at dksX9_jacks_7 10 rfl rfl)
theorem dX9_jacks_175 : decode cX9_jacks 175 = .ok (.iastore, 1) := dk_79 (dk_at dksX9_jacks_7 12 rfl rfl)
theorem dX9_jacks_176 : decode cX9_jacks 176 = .ok (.iinc 5 1, 3) := dk_132 5 1 (dk_at dksX9_jacks_7 13 rfl rfl)
theorem dX9_jacks_179 : decode cX9_jacks 179 = .ok (.goto (-83), 3) := dk_167 255 173 (dk_at dksX9_jacks_7 16 rfl rfl)
theorem dX9_jacks_182 : decode cX9_jacks 182 = .ok (.iinc 2 (-1), 3) := dk_132 2 255 (dk_at dksX9_jacks_7 19 rfl rfl)
theorem dX9_jacks_185 : decode cX9_jacks 185 = .ok (.goto (-148), 3) := dk_167 255 108 (dk_at dksX9_jacks_8 0 rfl rfl)
theorem dX9_jacks_188 : decode cX9_jacks 188 = .ok (.aload_n 0, 1) := dk_42 (dk_at dksX9_jacks_8 3 rfl rfl)
theorem dX9_jacks_189 : decode cX9_jacks 189 = .ok (.getfield 88, 3) := dk_180 0 88 (dk_at dksX9_jacks_8 4 rfl rfl)
theorem dX9_jacks_192 : decode cX9_jacks 192 = .ok (.iload_n 1, 1) := dk_27 (dk_at dksX9_jacks_8 7 rfl rfl)
theorem dX9_jacks_193 : decode cX9_jacks 193 = .ok (.iaload, 1) := dk_46 (dk_at dksX9_jacks_8 8 rfl rfl)
theorem dX9_jacks_194 : decode cX9_jacks 194 = .ok (.ldc_w 441, 3) := dk_19 1 185 (dk_at dksX9_jacks_8 9 rfl rfl)
theorem dX9_jacks_197 : decode cX9_jacks 197 = .ok (.if_icmp .lt 7, 3) := dk_161 0 7 (dk_at dksX9_jacks_8 12 rfl rfl)
theorem dX9_jacks_200 : decode cX9_jacks 200 = .ok (.ldc_w 441, 3) := dk_19 1 185 (dk_at dksX9_jacks_8 15 rfl rfl)
theorem dX9_jacks_203 : decode cX9_jacks 203 = .ok (.ireturn, 1) := dk_172 (dk_at dksX9_jacks_8 18 rfl rfl)
theorem dX9_jacks_204 : decode cX9_jacks 204 = .ok (.iload_n 1, 1) := dk_27 (dk_at dksX9_jacks_8 19 rfl rfl)
theorem dX9_jacks_205 : decode cX9_jacks 205 = .ok (.istore_n 2, 1) := dk_61 (dk_at dksX9_jacks_8 20 rfl rfl)
theorem dX9_jacks_206 : decode cX9_jacks 206 = .ok (.iconst 0, 1) := dk_3 (dk_at dksX9_jacks_8 21 rfl rfl)
theorem dX9_jacks_207 : decode cX9_jacks 207 = .ok (.istore_n 3, 1) := dk_62 (dk_at dksX9_jacks_8 22 rfl rfl)
theorem dX9_jacks_208 : decode cX9_jacks 208 = .ok (.iload_n 3, 1) := dk_29 (dk_at dksX9_jacks_8 23 rfl rfl)
theorem dX9_jacks_209 : decode cX9_jacks 209 = .ok (.bipush 8, 2) := dk_16 8 (dk_at dksX9_jacks_9 0 rfl rfl)
theorem dX9_jacks_211 : decode cX9_jacks 211 = .ok (.if_icmp .ge 128, 3) := dk_162 0 128 (dk_at dksX9_jacks_9 2 rfl rfl)
theorem dX9_jacks_214 : decode cX9_jacks 214 = .ok (.iload_n 3, 1) := dk_29 (dk_at dksX9_jacks_9 5 rfl rfl)
theorem dX9_jacks_215 : decode cX9_jacks 215 = .ok (.aload_n 0, 1) := dk_42 (dk_at dksX9_jacks_9 6 rfl rfl)
theorem dX9_jacks_216 : decode cX9_jacks 216 = .ok (.getfield 30, 3) := dk_180 0 30 (dk_at dksX9_jacks_9 7 rfl rfl)
theorem dX9_jacks_219 : decode cX9_jacks 219 = .ok (.iconst 5, 1) := dk_8 (dk_at dksX9_jacks_9 10 rfl rfl)
theorem dX9_jacks_220 : decode cX9_jacks 220 = .ok (.iaload, 1) := dk_46 (dk_at dksX9_jacks_9 11 rfl rfl)
theorem dX9_jacks_221 : decode cX9_jacks 221 = .ok (.if_icmp .ge 18, 3) := dk_162 0 18 (dk_at dksX9_jacks_9 12 rfl rfl)
theorem dX9_jacks_224 : decode cX9_jacks 224 = .ok (.aload_n 0, 1) := dk_42 (dk_at dksX9_jacks_9 15 rfl rfl)
theorem dX9_jacks_225 : decode cX9_jacks 225 = .ok (.getfield 30, 3) := dk_180 0 30 (dk_at dksX9_jacks_9 16 rfl rfl)
theorem dX9_jacks_228 : decode cX9_jacks 228 = .ok (.sipush 170, 3) := dk_17 0 170 (dk_at dksX9_jacks_9 19 rfl rfl)
theorem dX9_jacks_231 : decode cX9_jacks 231 = .ok (.iconst 2, 1) := dk_5 (dk_at dksX9_jacks_9 22 rfl rfl)
theorem dX9_jacks_232 : decode cX9_jacks 232 = .ok (.iload_n 3, 1) := dk_29 (dk_at dksX9_jacks_9 23 rfl rfl)
theorem dX9_jacks_233 : decode cX9_jacks 233 = .ok (.imul, 1) := dk_104 (dk_at dksX9_jacks_10 0 rfl rfl)
theorem dX9_jacks_234 : decode cX9_jacks 234 = .ok (.iadd, 1) := dk_96 (dk_at dksX9_jacks_10 1 rfl rfl)
theorem dX9_jacks_235 : decode cX9_jacks 235 = .ok (.iaload, 1) := dk_46 (dk_at dksX9_jacks_10 2 rfl rfl)
theorem dX9_jacks_236 : decode cX9_jacks 236 = .ok (.goto 4, 3) := dk_167 0 4 (dk_at dksX9_jacks_10 3 rfl rfl)
theorem dX9_jacks_239 : decode cX9_jacks 239 = .ok (.iconst 1, 1) := dk_4 (dk_at dksX9_jacks_10 6 rfl rfl)
theorem dX9_jacks_240 : decode cX9_jacks 240 = .ok (.istore 4, 2) := dk_54 4 (dk_at dksX9_jacks_10 7 rfl rfl)
theorem dX9_jacks_242 : decode cX9_jacks 242 = .ok (.iload_n 3, 1) := dk_29 (dk_at dksX9_jacks_10 9 rfl rfl)
theorem dX9_jacks_243 : decode cX9_jacks 243 = .ok (.aload_n 0, 1) := dk_42 (dk_at dksX9_jacks_10 10 rfl rfl)
theorem dX9_jacks_244 : decode cX9_jacks 244 = .ok (.getfield 30, 3) := dk_180 0 30 (dk_at dksX9_jacks_10 11 rfl rfl)
theorem dX9_jacks_247 : decode cX9_jacks 247 = .ok (.iconst 5, 1) := dk_8 (dk_at dksX9_jacks_10 14 rfl rfl)
theorem dX9_jacks_248 : decode cX9_jacks 248 = .ok (.iaload, 1) := dk_46 (dk_at dksX9_jacks_10 15 rfl rfl)
theorem dX9_jacks_249 : decode cX9_jacks 249 = .ok (.if_icmp .ge 22, 3) := dk_162 0 22 (dk_at dksX9_jacks_10 16 rfl rfl)
theorem dX9_jacks_252 : decode cX9_jacks 252 = .ok (.aload_n 0, 1) := dk_42 (dk_at dksX9_jacks_10 19 rfl rfl)
theorem dX9_jacks_253 : decode cX9_jacks 253 = .ok (.getfield 33, 3) := dk_180 0 33 (dk_at dksX9_jacks_10 20 rfl rfl)
theorem dX9_jacks_256 : decode cX9_jacks 256 = .ok (.bipush 50, 2) := dk_16 50 (dk_at dksX9_jacks_11 0 rfl rfl)
theorem dX9_jacks_258 : decode cX9_jacks 258 = .ok (.iload_n 3, 1) := dk_29 (dk_at dksX9_jacks_11 2 rfl rfl)
theorem dX9_jacks_259 : decode cX9_jacks 259 = .ok (.iadd, 1) := dk_96 (dk_at dksX9_jacks_11 3 rfl rfl)
theorem dX9_jacks_260 : decode cX9_jacks 260 = .ok (.iaload, 1) := dk_46 (dk_at dksX9_jacks_11 4 rfl rfl)
theorem dX9_jacks_261 : decode cX9_jacks 261 = .ok (.iload_n 2, 1) := dk_28 (dk_at dksX9_jacks_11 5 rfl rfl)
theorem dX9_jacks_262 : decode cX9_jacks 262 = .ok (.iload 4, 2) := dk_21 4 (dk_at dksX9_jacks_11 6 rfl rfl)
theorem dX9_jacks_264 : decode cX9_jacks 264 = .ok (.idiv, 1) := dk_108 (dk_at dksX9_jacks_11 8 rfl rfl)
theorem dX9_jacks_265 : decode cX9_jacks 265 = .ok (.invokestatic 442, 3) := dk_184 1 186 (dk_at dksX9_jacks_11 9 rfl rfl)
theorem dX9_jacks_268 : decode cX9_jacks 268 = .ok (.goto 4, 3) := dk_167 0 4 (dk_at dksX9_jacks_11 12 rfl rfl)
theorem dX9_jacks_271 : decode cX9_jacks 271 = .ok (.iconst 0, 1) := dk_3 (dk_at dksX9_jacks_11 15 rfl rfl)
theorem dX9_jacks_272 : decode cX9_jacks 272 = .ok (.istore 5, 2) := dk_54 5 (dk_at dksX9_jacks_11 16 rfl rfl)
theorem dX9_jacks_274 : decode cX9_jacks 274 = .ok (.aload_n 0, 1) := dk_42 (dk_at dksX9_jacks_11 18 rfl rfl)
theorem dX9_jacks_275 : decode cX9_jacks 275 = .ok (.getfield 88, 3) := dk_180 0 88 (dk_at dksX9_jacks_11 19 rfl rfl)
theorem dX9_jacks_278 : decode cX9_jacks 278 = .ok (.bipush 100, 2) := dk_16 100 (dk_at dksX9_jacks_11 22 rfl rfl)
theorem dX9_jacks_280 : decode cX9_jacks 280 = .ok (.iload_n 3, 1) := dk_29 (dk_at dksX9_jacks_12 0 rfl rfl)
theorem dX9_jacks_281 : decode cX9_jacks 281 = .ok (.imul, 1) := dk_104 (dk_at dksX9_jacks_12 1 rfl rfl)
theorem dX9_jacks_282 : decode cX9_jacks 282 = .ok (.bipush 100, 2) := dk_16 100 (dk_at dksX9_jacks_12 2 rfl rfl)
theorem dX9_jacks_284 : decode cX9_jacks 284 = .ok (.iadd, 1) := dk_96 (dk_at dksX9_jacks_12 4 rfl rfl)
theorem dX9_jacks_285 : decode cX9_jacks 285 = .ok (.iload_n 2, 1) := dk_28 (dk_at dksX9_jacks_12 5 rfl rfl)
theorem dX9_jacks_286 : decode cX9_jacks 286 = .ok (.iadd, 1) := dk_96 (dk_at dksX9_jacks_12 6 rfl rfl)
theorem dX9_jacks_287 : decode cX9_jacks 287 = .ok (.iload 5, 2) := dk_21 5 (dk_at dksX9_jacks_12 7 rfl rfl)
theorem dX9_jacks_289 : decode cX9_jacks 289 = .ok (.iload 4, 2) := dk_21 4 (dk_at dksX9_jacks_12 9 rfl rfl)
theorem dX9_jacks_291 : decode cX9_jacks 291 = .ok (.imul, 1) := dk_104 (dk_at dksX9_jacks_12 11 rfl rfl)
theorem dX9_jacks_292 : decode cX9_jacks 292 = .ok (.isub, 1) := dk_100 (dk_at dksX9_jacks_12 12 rfl rfl)
theorem dX9_jacks_293 : decode cX9_jacks 293 = .ok (.iaload, 1) := dk_46 (dk_at dksX9_jacks_12 13 rfl rfl)
theorem dX9_jacks_294 : decode cX9_jacks 294 = .ok (.iload 5, 2) := dk_21 5 (dk_at dksX9_jacks_12 14 rfl rfl)
theorem dX9_jacks_296 : decode cX9_jacks 296 = .ok (.iadd, 1) := dk_96 (dk_at dksX9_jacks_12 16 rfl rfl)
theorem dX9_jacks_297 : decode cX9_jacks 297 = .ok (.aload_n 0, 1) := dk_42 (dk_at dksX9_jacks_12 17 rfl rfl)
theorem dX9_jacks_298 : decode cX9_jacks 298 = .ok (.getfield 88, 3) := dk_180 0 88 (dk_at dksX9_jacks_12 18 rfl rfl)
theorem dX9_jacks_301 : decode cX9_jacks 301 = .ok (.bipush 100, 2) := dk_16 100 (dk_at dksX9_jacks_12 21 rfl rfl)
theorem dX9_jacks_303 : decode cX9_jacks 303 = .ok (.iload_n 3, 1) := dk_29 (dk_at dksX9_jacks_12 23 rfl rfl)
theorem dX9_jacks_304 : decode cX9_jacks 304 = .ok (.imul, 1) := dk_104 (dk_at dksX9_jacks_13 0 rfl rfl)
theorem dX9_jacks_305 : decode cX9_jacks 305 = .ok (.iload_n 2, 1) := dk_28 (dk_at dksX9_jacks_13 1 rfl rfl)
theorem dX9_jacks_306 : decode cX9_jacks 306 = .ok (.iadd, 1) := dk_96 (dk_at dksX9_jacks_13 2 rfl rfl)
theorem dX9_jacks_307 : decode cX9_jacks 307 = .ok (.iaload, 1) := dk_46 (dk_at dksX9_jacks_13 3 rfl rfl)
theorem dX9_jacks_308 : decode cX9_jacks 308 = .ok (.if_icmp .eq 9, 3) := dk_159 0 9 (dk_at dksX9_jacks_13 4 rfl rfl)
theorem dX9_jacks_311 : decode cX9_jacks 311 = .ok (.iinc 5 (-1), 3) := dk_132 5 255 (dk_at dksX9_jacks_13 7 rfl rfl)
theorem dX9_jacks_314 : decode cX9_jacks 314 = .ok (.goto (-40), 3) := dk_167 255 216 (dk_at dksX9_jacks_13 10 rfl rfl)
theorem dX9_jacks_317 : decode cX9_jacks 317 = .ok (.aload_n 0, 1) := dk_42 (dk_at dksX9_jacks_13 13 rfl rfl)
theorem dX9_jacks_318 : decode cX9_jacks 318 = .ok (.getfield 91, 3) := dk_180 0 91 (dk_at dksX9_jacks_13 14 rfl rfl)
theorem dX9_jacks_321 : decode cX9_jacks 321 = .ok (.iload_n 3, 1) := dk_29 (dk_at dksX9_jacks_13 17 rfl rfl)
theorem dX9_jacks_322 : decode cX9_jacks 322 = .ok (.iload 5, 2) := dk_21 5 (dk_at dksX9_jacks_13 18 rfl rfl)
theorem dX9_jacks_324 : decode cX9_jacks 324 = .ok (.iastore, 1) := dk_79 (dk_at dksX9_jacks_13 20 rfl rfl)
theorem dX9_jacks_325 : decode cX9_jacks 325 = .ok (.iload_n 2, 1) := dk_28 (dk_at dksX9_jacks_13 21 rfl rfl)
theorem dX9_jacks_326 : decode cX9_jacks 326 = .ok (.iload 5, 2) := dk_21 5 (dk_at dksX9_jacks_13 22 rfl rfl)
theorem dX9_jacks_328 : decode cX9_jacks 328 = .ok (.iload 4, 2) := dk_21 4 (dk_at dksX9_jacks_14 0 rfl rfl)
theorem dX9_jacks_330 : decode cX9_jacks 330 = .ok (.imul, 1) := dk_104 (dk_at dksX9_jacks_14 2 rfl rfl)
theorem dX9_jacks_331 : decode cX9_jacks 331 = .ok (.isub, 1) := dk_100 (dk_at dksX9_jacks_14 3 rfl rfl)
theorem dX9_jacks_332 : decode cX9_jacks 332 = .ok (.istore_n 2, 1) := dk_61 (dk_at dksX9_jacks_14 4 rfl rfl)
theorem dX9_jacks_333 : decode cX9_jacks 333 = .ok (.iinc 3 1, 3) := dk_132 3 1 (dk_at dksX9_jacks_14 5 rfl rfl)
theorem dX9_jacks_336 : decode cX9_jacks 336 = .ok (.goto (-128), 3) := dk_167 255 128 (dk_at dksX9_jacks_14 8 rfl rfl)
theorem dX9_jacks_339 : decode cX9_jacks 339 = .ok (.aload_n 0, 1) := dk_42 (dk_at dksX9_jacks_14 11 rfl rfl)
theorem dX9_jacks_340 : decode cX9_jacks 340 = .ok (.getfield 88, 3) := dk_180 0 88 (dk_at dksX9_jacks_14 12 rfl rfl)
theorem dX9_jacks_343 : decode cX9_jacks 343 = .ok (.iload_n 1, 1) := dk_27 (dk_at dksX9_jacks_14 15 rfl rfl)
theorem dX9_jacks_344 : decode cX9_jacks 344 = .ok (.iaload, 1) := dk_46 (dk_at dksX9_jacks_14 16 rfl rfl)
theorem dX9_jacks_345 : decode cX9_jacks 345 = .ok (.ireturn, 1) := dk_172 (dk_at dksX9_jacks_14 17 rfl rfl)
abbrev cX9_least : ByteArray := prog_23_method_89_code
def yX9_least : MethodName := ⟨RX9, "least", "(II)I"⟩
def dkwX9_least_0 : List UInt8 := [26, 27, 162, 0, 7, 26, 167, 0, 4, 27, 172]
abbrev dktX9_least_0 : List UInt8 := dkwX9_least_0 ++ []
theorem dksX9_least_0 : cX9_least.data.toList.drop 0 = dktX9_least_0 := by decide +kernel
theorem dX9_least_0 : decode cX9_least 0 = .ok (.iload_n 0, 1) := dk_26 (dk_at dksX9_least_0 0 rfl rfl)
theorem dX9_least_1 : decode cX9_least 1 = .ok (.iload_n 1, 1) := dk_27 (dk_at dksX9_least_0 1 rfl rfl)
theorem dX9_least_2 : decode cX9_least 2 = .ok (.if_icmp .ge 7, 3) := dk_162 0 7 (dk_at dksX9_least_0 2 rfl rfl)
theorem dX9_least_5 : decode cX9_least 5 = .ok (.iload_n 0, 1) := dk_26 (dk_at dksX9_least_0 5 rfl rfl)
theorem dX9_least_6 : decode cX9_least 6 = .ok (.goto 4, 3) := dk_167 0 4 (dk_at dksX9_least_0 6 rfl rfl)
theorem dX9_least_9 : decode cX9_least 9 = .ok (.iload_n 1, 1) := dk_27 (dk_at dksX9_least_0 9 rfl rfl)
theorem dX9_least_10 : decode cX9_least 10 = .ok (.ireturn, 1) := dk_172 (dk_at dksX9_least_0 10 rfl rfl)
abbrev cX9_work : ByteArray := prog_23_method_92_code
def yX9_work : MethodName := ⟨RX9, "work", "(III)I"⟩
def dkwX9_work_4 : List UInt8 := [92, 46, 4, 96, 79, 42, 180, 0, 33, 4, 46, 4, 100, 172]
abbrev dktX9_work_4 : List UInt8 := dkwX9_work_4 ++ []
def dkwX9_work_3 : List UInt8 := [180, 0, 33, 21, 4, 4, 96, 28, 79, 42, 180, 0, 33, 21, 4, 5, 96, 29, 79, 42, 180, 0, 33, 4]
abbrev dktX9_work_3 : List UInt8 := dkwX9_work_3 ++ dktX9_work_4
def dkwX9_work_2 : List UInt8 := [16, 60, 6, 42, 180, 0, 33, 4, 46, 104, 96, 54, 4, 42, 180, 0, 33, 21, 4, 27, 79, 42]
abbrev dktX9_work_2 : List UInt8 := dkwX9_work_2 ++ dktX9_work_3
def dkwX9_work_1 : List UInt8 := [182, 1, 121, 153, 0, 18, 29, 16, 157, 16, 99, 184, 1, 136, 153, 0, 7, 29, 154, 0, 5, 2, 172]
abbrev dktX9_work_1 : List UInt8 := dkwX9_work_1 ++ dktX9_work_2
def dkwX9_work_0 : List UInt8 := [42, 180, 0, 33, 4, 46, 16, 40, 159, 0, 36, 27, 3, 16, 99, 184, 1, 136, 153, 0, 26, 42, 28]
abbrev dktX9_work_0 : List UInt8 := dkwX9_work_0 ++ dktX9_work_1
theorem dksX9_work_0 : cX9_work.data.toList.drop 0 = dktX9_work_0 := by decide +kernel
theorem dksX9_work_1 : cX9_work.data.toList.drop 23 = dktX9_work_1 := dk_seg dksX9_work_0 23 rfl rfl
theorem dksX9_work_2 : cX9_work.data.toList.drop 46 = dktX9_work_2 := dk_seg dksX9_work_1 23 rfl rfl
theorem dksX9_work_3 : cX9_work.data.toList.drop 68 = dktX9_work_3 := dk_seg dksX9_work_2 22 rfl rfl
theorem dksX9_work_4 : cX9_work.data.toList.drop 92 = dktX9_work_4 := dk_seg dksX9_work_3 24 rfl rfl
theorem dX9_work_0 : decode cX9_work 0 = .ok (.aload_n 0, 1) := dk_42 (dk_at dksX9_work_0 0 rfl rfl)
theorem dX9_work_1 : decode cX9_work 1 = .ok (.getfield 33, 3) := dk_180 0 33 (dk_at dksX9_work_0 1 rfl rfl)
theorem dX9_work_4 : decode cX9_work 4 = .ok (.iconst 1, 1) := dk_4 (dk_at dksX9_work_0 4 rfl rfl)
theorem dX9_work_5 : decode cX9_work 5 = .ok (.iaload, 1) := dk_46 (dk_at dksX9_work_0 5 rfl rfl)
theorem dX9_work_6 : decode cX9_work 6 = .ok (.bipush 40, 2) := dk_16 40 (dk_at dksX9_work_0 6 rfl rfl)
theorem dX9_work_8 : decode cX9_work 8 = .ok (.if_icmp .eq 36, 3) := dk_159 0 36 (dk_at dksX9_work_0 8 rfl rfl)
theorem dX9_work_11 : decode cX9_work 11 = .ok (.iload_n 1, 1) := dk_27 (dk_at dksX9_work_0 11 rfl rfl)
theorem dX9_work_12 : decode cX9_work 12 = .ok (.iconst 0, 1) := dk_3 (dk_at dksX9_work_0 12 rfl rfl)
theorem dX9_work_13 : decode cX9_work 13 = .ok (.bipush 99, 2) := dk_16 99 (dk_at dksX9_work_0 13 rfl rfl)
theorem dX9_work_15 : decode cX9_work 15 = .ok (.invokestatic 392, 3) := dk_184 1 136 (dk_at dksX9_work_0 15 rfl rfl)
theorem dX9_work_18 : decode cX9_work 18 = .ok (.ifCond .eq 26, 3) := dk_153 0 26 (dk_at dksX9_work_0 18 rfl rfl)
theorem dX9_work_21 : decode cX9_work 21 = .ok (.aload_n 0, 1) := dk_42 (dk_at dksX9_work_0 21 rfl rfl)
theorem dX9_work_22 : decode cX9_work 22 = .ok (.iload_n 2, 1) := dk_28 (dk_at dksX9_work_0 22 rfl rfl)
theorem dX9_work_23 : decode cX9_work 23 = .ok (.invokevirtual 377, 3) := dk_182 1 121 (dk_at dksX9_work_1 0 rfl rfl)
theorem dX9_work_26 : decode cX9_work 26 = .ok (.ifCond .eq 18, 3) := dk_153 0 18 (dk_at dksX9_work_1 3 rfl rfl)
theorem dX9_work_29 : decode cX9_work 29 = .ok (.iload_n 3, 1) := dk_29 (dk_at dksX9_work_1 6 rfl rfl)
theorem dX9_work_30 : decode cX9_work 30 = .ok (.bipush (-99), 2) := dk_16 157 (dk_at dksX9_work_1 7 rfl rfl)
theorem dX9_work_32 : decode cX9_work 32 = .ok (.bipush 99, 2) := dk_16 99 (dk_at dksX9_work_1 9 rfl rfl)
theorem dX9_work_34 : decode cX9_work 34 = .ok (.invokestatic 392, 3) := dk_184 1 136 (dk_at dksX9_work_1 11 rfl rfl)
theorem dX9_work_37 : decode cX9_work 37 = .ok (.ifCond .eq 7, 3) := dk_153 0 7 (dk_at dksX9_work_1 14 rfl rfl)
theorem dX9_work_40 : decode cX9_work 40 = .ok (.iload_n 3, 1) := dk_29 (dk_at dksX9_work_1 17 rfl rfl)
theorem dX9_work_41 : decode cX9_work 41 = .ok (.ifCond .ne 5, 3) := dk_154 0 5 (dk_at dksX9_work_1 18 rfl rfl)
theorem dX9_work_44 : decode cX9_work 44 = .ok (.iconst (-1), 1) := dk_2 (dk_at dksX9_work_1 21 rfl rfl)
theorem dX9_work_45 : decode cX9_work 45 = .ok (.ireturn, 1) := dk_172 (dk_at dksX9_work_1 22 rfl rfl)
theorem dX9_work_46 : decode cX9_work 46 = .ok (.bipush 60, 2) := dk_16 60 (dk_at dksX9_work_2 0 rfl rfl)
theorem dX9_work_48 : decode cX9_work 48 = .ok (.iconst 3, 1) := dk_6 (dk_at dksX9_work_2 2 rfl rfl)
theorem dX9_work_49 : decode cX9_work 49 = .ok (.aload_n 0, 1) := dk_42 (dk_at dksX9_work_2 3 rfl rfl)
theorem dX9_work_50 : decode cX9_work 50 = .ok (.getfield 33, 3) := dk_180 0 33 (dk_at dksX9_work_2 4 rfl rfl)
theorem dX9_work_53 : decode cX9_work 53 = .ok (.iconst 1, 1) := dk_4 (dk_at dksX9_work_2 7 rfl rfl)
theorem dX9_work_54 : decode cX9_work 54 = .ok (.iaload, 1) := dk_46 (dk_at dksX9_work_2 8 rfl rfl)
theorem dX9_work_55 : decode cX9_work 55 = .ok (.imul, 1) := dk_104 (dk_at dksX9_work_2 9 rfl rfl)
theorem dX9_work_56 : decode cX9_work 56 = .ok (.iadd, 1) := dk_96 (dk_at dksX9_work_2 10 rfl rfl)
theorem dX9_work_57 : decode cX9_work 57 = .ok (.istore 4, 2) := dk_54 4 (dk_at dksX9_work_2 11 rfl rfl)
theorem dX9_work_59 : decode cX9_work 59 = .ok (.aload_n 0, 1) := dk_42 (dk_at dksX9_work_2 13 rfl rfl)
theorem dX9_work_60 : decode cX9_work 60 = .ok (.getfield 33, 3) := dk_180 0 33 (dk_at dksX9_work_2 14 rfl rfl)
theorem dX9_work_63 : decode cX9_work 63 = .ok (.iload 4, 2) := dk_21 4 (dk_at dksX9_work_2 17 rfl rfl)
theorem dX9_work_65 : decode cX9_work 65 = .ok (.iload_n 1, 1) := dk_27 (dk_at dksX9_work_2 19 rfl rfl)
theorem dX9_work_66 : decode cX9_work 66 = .ok (.iastore, 1) := dk_79 (dk_at dksX9_work_2 20 rfl rfl)
theorem dX9_work_67 : decode cX9_work 67 = .ok (.aload_n 0, 1) := dk_42 (dk_at dksX9_work_2 21 rfl rfl)
theorem dX9_work_68 : decode cX9_work 68 = .ok (.getfield 33, 3) := dk_180 0 33 (dk_at dksX9_work_3 0 rfl rfl)
theorem dX9_work_71 : decode cX9_work 71 = .ok (.iload 4, 2) := dk_21 4 (dk_at dksX9_work_3 3 rfl rfl)
theorem dX9_work_73 : decode cX9_work 73 = .ok (.iconst 1, 1) := dk_4 (dk_at dksX9_work_3 5 rfl rfl)
theorem dX9_work_74 : decode cX9_work 74 = .ok (.iadd, 1) := dk_96 (dk_at dksX9_work_3 6 rfl rfl)
theorem dX9_work_75 : decode cX9_work 75 = .ok (.iload_n 2, 1) := dk_28 (dk_at dksX9_work_3 7 rfl rfl)
theorem dX9_work_76 : decode cX9_work 76 = .ok (.iastore, 1) := dk_79 (dk_at dksX9_work_3 8 rfl rfl)
theorem dX9_work_77 : decode cX9_work 77 = .ok (.aload_n 0, 1) := dk_42 (dk_at dksX9_work_3 9 rfl rfl)
theorem dX9_work_78 : decode cX9_work 78 = .ok (.getfield 33, 3) := dk_180 0 33 (dk_at dksX9_work_3 10 rfl rfl)
theorem dX9_work_81 : decode cX9_work 81 = .ok (.iload 4, 2) := dk_21 4 (dk_at dksX9_work_3 13 rfl rfl)
theorem dX9_work_83 : decode cX9_work 83 = .ok (.iconst 2, 1) := dk_5 (dk_at dksX9_work_3 15 rfl rfl)
theorem dX9_work_84 : decode cX9_work 84 = .ok (.iadd, 1) := dk_96 (dk_at dksX9_work_3 16 rfl rfl)
theorem dX9_work_85 : decode cX9_work 85 = .ok (.iload_n 3, 1) := dk_29 (dk_at dksX9_work_3 17 rfl rfl)
theorem dX9_work_86 : decode cX9_work 86 = .ok (.iastore, 1) := dk_79 (dk_at dksX9_work_3 18 rfl rfl)
theorem dX9_work_87 : decode cX9_work 87 = .ok (.aload_n 0, 1) := dk_42 (dk_at dksX9_work_3 19 rfl rfl)
theorem dX9_work_88 : decode cX9_work 88 = .ok (.getfield 33, 3) := dk_180 0 33 (dk_at dksX9_work_3 20 rfl rfl)
theorem dX9_work_91 : decode cX9_work 91 = .ok (.iconst 1, 1) := dk_4 (dk_at dksX9_work_3 23 rfl rfl)
theorem dX9_work_92 : decode cX9_work 92 = .ok (.dup2, 1) := dk_92 (dk_at dksX9_work_4 0 rfl rfl)
theorem dX9_work_93 : decode cX9_work 93 = .ok (.iaload, 1) := dk_46 (dk_at dksX9_work_4 1 rfl rfl)
theorem dX9_work_94 : decode cX9_work 94 = .ok (.iconst 1, 1) := dk_4 (dk_at dksX9_work_4 2 rfl rfl)
theorem dX9_work_95 : decode cX9_work 95 = .ok (.iadd, 1) := dk_96 (dk_at dksX9_work_4 3 rfl rfl)
theorem dX9_work_96 : decode cX9_work 96 = .ok (.iastore, 1) := dk_79 (dk_at dksX9_work_4 4 rfl rfl)
theorem dX9_work_97 : decode cX9_work 97 = .ok (.aload_n 0, 1) := dk_42 (dk_at dksX9_work_4 5 rfl rfl)
theorem dX9_work_98 : decode cX9_work 98 = .ok (.getfield 33, 3) := dk_180 0 33 (dk_at dksX9_work_4 6 rfl rfl)
theorem dX9_work_101 : decode cX9_work 101 = .ok (.iconst 1, 1) := dk_4 (dk_at dksX9_work_4 9 rfl rfl)
theorem dX9_work_102 : decode cX9_work 102 = .ok (.iaload, 1) := dk_46 (dk_at dksX9_work_4 10 rfl rfl)
theorem dX9_work_103 : decode cX9_work 103 = .ok (.iconst 1, 1) := dk_4 (dk_at dksX9_work_4 11 rfl rfl)
theorem dX9_work_104 : decode cX9_work 104 = .ok (.isub, 1) := dk_100 (dk_at dksX9_work_4 12 rfl rfl)
theorem dX9_work_105 : decode cX9_work 105 = .ok (.ireturn, 1) := dk_172 (dk_at dksX9_work_4 13 rfl rfl)
abbrev cX9_forget : ByteArray := prog_23_method_93_code
def yX9_forget : MethodName := ⟨RX9, "forget", "()I"⟩
def dkwX9_forget_0 : List UInt8 := [42, 180, 0, 33, 4, 46, 60, 42, 180, 0, 33, 4, 3, 79, 27, 172]
abbrev dktX9_forget_0 : List UInt8 := dkwX9_forget_0 ++ []
theorem dksX9_forget_0 : cX9_forget.data.toList.drop 0 = dktX9_forget_0 := by decide +kernel
theorem dX9_forget_0 : decode cX9_forget 0 = .ok (.aload_n 0, 1) := dk_42 (dk_at dksX9_forget_0 0 rfl rfl)
theorem dX9_forget_1 : decode cX9_forget 1 = .ok (.getfield 33, 3) := dk_180 0 33 (dk_at dksX9_forget_0 1 rfl rfl)
theorem dX9_forget_4 : decode cX9_forget 4 = .ok (.iconst 1, 1) := dk_4 (dk_at dksX9_forget_0 4 rfl rfl)
theorem dX9_forget_5 : decode cX9_forget 5 = .ok (.iaload, 1) := dk_46 (dk_at dksX9_forget_0 5 rfl rfl)
theorem dX9_forget_6 : decode cX9_forget 6 = .ok (.istore_n 1, 1) := dk_60 (dk_at dksX9_forget_0 6 rfl rfl)
theorem dX9_forget_7 : decode cX9_forget 7 = .ok (.aload_n 0, 1) := dk_42 (dk_at dksX9_forget_0 7 rfl rfl)
theorem dX9_forget_8 : decode cX9_forget 8 = .ok (.getfield 33, 3) := dk_180 0 33 (dk_at dksX9_forget_0 8 rfl rfl)
theorem dX9_forget_11 : decode cX9_forget 11 = .ok (.iconst 1, 1) := dk_4 (dk_at dksX9_forget_0 11 rfl rfl)
theorem dX9_forget_12 : decode cX9_forget 12 = .ok (.iconst 0, 1) := dk_3 (dk_at dksX9_forget_0 12 rfl rfl)
theorem dX9_forget_13 : decode cX9_forget 13 = .ok (.iastore, 1) := dk_79 (dk_at dksX9_forget_0 13 rfl rfl)
theorem dX9_forget_14 : decode cX9_forget 14 = .ok (.iload_n 1, 1) := dk_27 (dk_at dksX9_forget_0 14 rfl rfl)
theorem dX9_forget_15 : decode cX9_forget 15 = .ok (.ireturn, 1) := dk_172 (dk_at dksX9_forget_0 15 rfl rfl)
abbrev cX9_judge : ByteArray := prog_23_method_98_code
def yX9_judge : MethodName := ⟨RX9, "judge", "()I"⟩
def dkwX9_judge_0 : List UInt8 := [42, 16, 20, 182, 1, 198, 42, 182, 1, 201, 60, 42, 16, 20, 182, 1, 204, 27, 172]
abbrev dktX9_judge_0 : List UInt8 := dkwX9_judge_0 ++ []
theorem dksX9_judge_0 : cX9_judge.data.toList.drop 0 = dktX9_judge_0 := by decide +kernel
theorem dX9_judge_0 : decode cX9_judge 0 = .ok (.aload_n 0, 1) := dk_42 (dk_at dksX9_judge_0 0 rfl rfl)
theorem dX9_judge_1 : decode cX9_judge 1 = .ok (.bipush 20, 2) := dk_16 20 (dk_at dksX9_judge_0 1 rfl rfl)
theorem dX9_judge_3 : decode cX9_judge 3 = .ok (.invokevirtual 454, 3) := dk_182 1 198 (dk_at dksX9_judge_0 3 rfl rfl)
theorem dX9_judge_6 : decode cX9_judge 6 = .ok (.aload_n 0, 1) := dk_42 (dk_at dksX9_judge_0 6 rfl rfl)
theorem dX9_judge_7 : decode cX9_judge 7 = .ok (.invokevirtual 457, 3) := dk_182 1 201 (dk_at dksX9_judge_0 7 rfl rfl)
theorem dX9_judge_10 : decode cX9_judge 10 = .ok (.istore_n 1, 1) := dk_60 (dk_at dksX9_judge_0 10 rfl rfl)
theorem dX9_judge_11 : decode cX9_judge 11 = .ok (.aload_n 0, 1) := dk_42 (dk_at dksX9_judge_0 11 rfl rfl)
theorem dX9_judge_12 : decode cX9_judge 12 = .ok (.bipush 20, 2) := dk_16 20 (dk_at dksX9_judge_0 12 rfl rfl)
theorem dX9_judge_14 : decode cX9_judge 14 = .ok (.invokevirtual 460, 3) := dk_182 1 204 (dk_at dksX9_judge_0 14 rfl rfl)
theorem dX9_judge_17 : decode cX9_judge 17 = .ok (.iload_n 1, 1) := dk_27 (dk_at dksX9_judge_0 17 rfl rfl)
theorem dX9_judge_18 : decode cX9_judge 18 = .ok (.ireturn, 1) := dk_172 (dk_at dksX9_judge_0 18 rfl rfl)
abbrev cX9_keep : ByteArray := prog_23_method_94_code
def yX9_keep : MethodName := ⟨RX9, "keep", "(I)V"⟩
def dkwX9_keep_2 : List UInt8 := [27, 104, 16, 16, 96, 28, 96, 42, 180, 0, 33, 16, 50, 28, 96, 46, 79, 132, 2, 1, 167, 255, 224, 177]
abbrev dktX9_keep_2 : List UInt8 := dkwX9_keep_2 ++ []
def dkwX9_keep_1 : List UInt8 := [28, 96, 46, 79, 132, 2, 1, 167, 255, 227, 3, 61, 28, 16, 8, 162, 0, 32, 42, 180, 0, 94, 16, 24]
abbrev dktX9_keep_1 : List UInt8 := dkwX9_keep_1 ++ dktX9_keep_2
def dkwX9_keep_0 : List UInt8 := [3, 61, 28, 16, 16, 162, 0, 29, 42, 180, 0, 94, 16, 24, 27, 104, 28, 96, 42, 180, 0, 33, 16, 10]
abbrev dktX9_keep_0 : List UInt8 := dkwX9_keep_0 ++ dktX9_keep_1
theorem dksX9_keep_0 : cX9_keep.data.toList.drop 0 = dktX9_keep_0 := by decide +kernel
theorem dksX9_keep_1 : cX9_keep.data.toList.drop 24 = dktX9_keep_1 := dk_seg dksX9_keep_0 24 rfl rfl
theorem dksX9_keep_2 : cX9_keep.data.toList.drop 48 = dktX9_keep_2 := dk_seg dksX9_keep_1 24 rfl rfl
theorem dX9_keep_0 : decode cX9_keep 0 = .ok (.iconst 0, 1) := dk_3 (dk_at dksX9_keep_0 0 rfl rfl)
theorem dX9_keep_1 : decode cX9_keep 1 = .ok (.istore_n 2, 1) := dk_61 (dk_at dksX9_keep_0 1 rfl rfl)
theorem dX9_keep_2 : decode cX9_keep 2 = .ok (.iload_n 2, 1) := dk_28 (dk_at dksX9_keep_0 2 rfl rfl)
theorem dX9_keep_3 : decode cX9_keep 3 = .ok (.bipush 16, 2) := dk_16 16 (dk_at dksX9_keep_0 3 rfl rfl)
theorem dX9_keep_5 : decode cX9_keep 5 = .ok (.if_icmp .ge 29, 3) := dk_162 0 29 (dk_at dksX9_keep_0 5 rfl rfl)
theorem dX9_keep_8 : decode cX9_keep 8 = .ok (.aload_n 0, 1) := dk_42 (dk_at dksX9_keep_0 8 rfl rfl)
theorem dX9_keep_9 : decode cX9_keep 9 = .ok (.getfield 94, 3) := dk_180 0 94 (dk_at dksX9_keep_0 9 rfl rfl)
theorem dX9_keep_12 : decode cX9_keep 12 = .ok (.bipush 24, 2) := dk_16 24 (dk_at dksX9_keep_0 12 rfl rfl)
theorem dX9_keep_14 : decode cX9_keep 14 = .ok (.iload_n 1, 1) := dk_27 (dk_at dksX9_keep_0 14 rfl rfl)
theorem dX9_keep_15 : decode cX9_keep 15 = .ok (.imul, 1) := dk_104 (dk_at dksX9_keep_0 15 rfl rfl)
theorem dX9_keep_16 : decode cX9_keep 16 = .ok (.iload_n 2, 1) := dk_28 (dk_at dksX9_keep_0 16 rfl rfl)
theorem dX9_keep_17 : decode cX9_keep 17 = .ok (.iadd, 1) := dk_96 (dk_at dksX9_keep_0 17 rfl rfl)
theorem dX9_keep_18 : decode cX9_keep 18 = .ok (.aload_n 0, 1) := dk_42 (dk_at dksX9_keep_0 18 rfl rfl)
theorem dX9_keep_19 : decode cX9_keep 19 = .ok (.getfield 33, 3) := dk_180 0 33 (dk_at dksX9_keep_0 19 rfl rfl)
theorem dX9_keep_22 : decode cX9_keep 22 = .ok (.bipush 10, 2) := dk_16 10 (dk_at dksX9_keep_0 22 rfl rfl)
theorem dX9_keep_24 : decode cX9_keep 24 = .ok (.iload_n 2, 1) := dk_28 (dk_at dksX9_keep_1 0 rfl rfl)
theorem dX9_keep_25 : decode cX9_keep 25 = .ok (.iadd, 1) := dk_96 (dk_at dksX9_keep_1 1 rfl rfl)
theorem dX9_keep_26 : decode cX9_keep 26 = .ok (.iaload, 1) := dk_46 (dk_at dksX9_keep_1 2 rfl rfl)
theorem dX9_keep_27 : decode cX9_keep 27 = .ok (.iastore, 1) := dk_79 (dk_at dksX9_keep_1 3 rfl rfl)
theorem dX9_keep_28 : decode cX9_keep 28 = .ok (.iinc 2 1, 3) := dk_132 2 1 (dk_at dksX9_keep_1 4 rfl rfl)
theorem dX9_keep_31 : decode cX9_keep 31 = .ok (.goto (-29), 3) := dk_167 255 227 (dk_at dksX9_keep_1 7 rfl rfl)
theorem dX9_keep_34 : decode cX9_keep 34 = .ok (.iconst 0, 1) := dk_3 (dk_at dksX9_keep_1 10 rfl rfl)
theorem dX9_keep_35 : decode cX9_keep 35 = .ok (.istore_n 2, 1) := dk_61 (dk_at dksX9_keep_1 11 rfl rfl)
theorem dX9_keep_36 : decode cX9_keep 36 = .ok (.iload_n 2, 1) := dk_28 (dk_at dksX9_keep_1 12 rfl rfl)
theorem dX9_keep_37 : decode cX9_keep 37 = .ok (.bipush 8, 2) := dk_16 8 (dk_at dksX9_keep_1 13 rfl rfl)
theorem dX9_keep_39 : decode cX9_keep 39 = .ok (.if_icmp .ge 32, 3) := dk_162 0 32 (dk_at dksX9_keep_1 15 rfl rfl)
theorem dX9_keep_42 : decode cX9_keep 42 = .ok (.aload_n 0, 1) := dk_42 (dk_at dksX9_keep_1 18 rfl rfl)
theorem dX9_keep_43 : decode cX9_keep 43 = .ok (.getfield 94, 3) := dk_180 0 94 (dk_at dksX9_keep_1 19 rfl rfl)
theorem dX9_keep_46 : decode cX9_keep 46 = .ok (.bipush 24, 2) := dk_16 24 (dk_at dksX9_keep_1 22 rfl rfl)
theorem dX9_keep_48 : decode cX9_keep 48 = .ok (.iload_n 1, 1) := dk_27 (dk_at dksX9_keep_2 0 rfl rfl)
theorem dX9_keep_49 : decode cX9_keep 49 = .ok (.imul, 1) := dk_104 (dk_at dksX9_keep_2 1 rfl rfl)
theorem dX9_keep_50 : decode cX9_keep 50 = .ok (.bipush 16, 2) := dk_16 16 (dk_at dksX9_keep_2 2 rfl rfl)
theorem dX9_keep_52 : decode cX9_keep 52 = .ok (.iadd, 1) := dk_96 (dk_at dksX9_keep_2 4 rfl rfl)
theorem dX9_keep_53 : decode cX9_keep 53 = .ok (.iload_n 2, 1) := dk_28 (dk_at dksX9_keep_2 5 rfl rfl)
theorem dX9_keep_54 : decode cX9_keep 54 = .ok (.iadd, 1) := dk_96 (dk_at dksX9_keep_2 6 rfl rfl)
theorem dX9_keep_55 : decode cX9_keep 55 = .ok (.aload_n 0, 1) := dk_42 (dk_at dksX9_keep_2 7 rfl rfl)
theorem dX9_keep_56 : decode cX9_keep 56 = .ok (.getfield 33, 3) := dk_180 0 33 (dk_at dksX9_keep_2 8 rfl rfl)
theorem dX9_keep_59 : decode cX9_keep 59 = .ok (.bipush 50, 2) := dk_16 50 (dk_at dksX9_keep_2 11 rfl rfl)
theorem dX9_keep_61 : decode cX9_keep 61 = .ok (.iload_n 2, 1) := dk_28 (dk_at dksX9_keep_2 13 rfl rfl)
theorem dX9_keep_62 : decode cX9_keep 62 = .ok (.iadd, 1) := dk_96 (dk_at dksX9_keep_2 14 rfl rfl)
theorem dX9_keep_63 : decode cX9_keep 63 = .ok (.iaload, 1) := dk_46 (dk_at dksX9_keep_2 15 rfl rfl)
theorem dX9_keep_64 : decode cX9_keep 64 = .ok (.iastore, 1) := dk_79 (dk_at dksX9_keep_2 16 rfl rfl)
theorem dX9_keep_65 : decode cX9_keep 65 = .ok (.iinc 2 1, 3) := dk_132 2 1 (dk_at dksX9_keep_2 17 rfl rfl)
theorem dX9_keep_68 : decode cX9_keep 68 = .ok (.goto (-32), 3) := dk_167 255 224 (dk_at dksX9_keep_2 20 rfl rfl)
theorem dX9_keep_71 : decode cX9_keep 71 = .ok (.return_, 1) := dk_177 (dk_at dksX9_keep_2 23 rfl rfl)
abbrev cX9_makesAll : ByteArray := prog_23_method_97_code
def yX9_makesAll : MethodName := ⟨RX9, "makesAll", "()I"⟩
def dkwX9_makesAll_5 : List UInt8 := [153, 0, 10, 16, 10, 29, 104, 8, 96, 172, 132, 1, 1, 167, 255, 131, 3, 172]
abbrev dktX9_makesAll_5 : List UInt8 := dkwX9_makesAll_5 ++ []
def dkwX9_makesAll_4 : List UInt8 := [62, 132, 5, 1, 167, 255, 180, 28, 158, 0, 26, 21, 4, 42, 16, 12, 2, 2, 182, 1, 149, 2, 130, 126]
abbrev dktX9_makesAll_4 : List UInt8 := dkwX9_makesAll_4 ++ dktX9_makesAll_5
def dkwX9_makesAll_3 : List UInt8 := [182, 1, 195, 54, 6, 21, 6, 158, 0, 12, 16, 10, 21, 5, 104, 21, 6, 96, 172, 132, 2, 1, 21, 5]
abbrev dktX9_makesAll_3 : List UInt8 := dkwX9_makesAll_3 ++ dktX9_makesAll_4
def dkwX9_makesAll_2 : List UInt8 := [159, 0, 6, 167, 0, 46, 28, 154, 0, 13, 42, 16, 12, 2, 2, 182, 1, 149, 54, 4, 42, 21, 5, 28]
abbrev dktX9_makesAll_2 : List UInt8 := dkwX9_makesAll_2 ++ dktX9_makesAll_3
def dkwX9_makesAll_1 : List UInt8 := [21, 5, 42, 180, 0, 33, 4, 46, 162, 0, 71, 42, 180, 0, 33, 16, 60, 6, 21, 5, 104, 96, 46, 27]
abbrev dktX9_makesAll_1 : List UInt8 := dkwX9_makesAll_1 ++ dktX9_makesAll_2
def dkwX9_makesAll_0 : List UInt8 := [42, 3, 181, 1, 192, 3, 60, 27, 16, 100, 162, 0, 125, 3, 61, 2, 62, 3, 54, 4, 3, 54, 5]
abbrev dktX9_makesAll_0 : List UInt8 := dkwX9_makesAll_0 ++ dktX9_makesAll_1
theorem dksX9_makesAll_0 : cX9_makesAll.data.toList.drop 0 = dktX9_makesAll_0 := by decide +kernel
theorem dksX9_makesAll_1 : cX9_makesAll.data.toList.drop 23 = dktX9_makesAll_1 := dk_seg dksX9_makesAll_0 23 rfl rfl
theorem dksX9_makesAll_2 : cX9_makesAll.data.toList.drop 47 = dktX9_makesAll_2 := dk_seg dksX9_makesAll_1 24 rfl rfl
theorem dksX9_makesAll_3 : cX9_makesAll.data.toList.drop 71 = dktX9_makesAll_3 := dk_seg dksX9_makesAll_2 24 rfl rfl
theorem dksX9_makesAll_4 : cX9_makesAll.data.toList.drop 95 = dktX9_makesAll_4 := dk_seg dksX9_makesAll_3 24 rfl rfl
theorem dksX9_makesAll_5 : cX9_makesAll.data.toList.drop 119 = dktX9_makesAll_5 := dk_seg dksX9_makesAll_4 24 rfl rfl
theorem dX9_makesAll_0 : decode cX9_makesAll 0 = .ok (.aload_n 0, 1) := dk_42 (dk_at dksX9_makesAll_0 0 rfl rfl)
theorem dX9_makesAll_1 : decode cX9_makesAll 1 = .ok (.iconst 0, 1) := dk_3 (dk_at dksX9_makesAll_0 1 rfl rfl)
theorem dX9_makesAll_2 : decode cX9_makesAll 2 = .ok (.putfield 448, 3) := dk_181 1 192 (dk_at dksX9_makesAll_0 2 rfl rfl)
theorem dX9_makesAll_5 : decode cX9_makesAll 5 = .ok (.iconst 0, 1) := dk_3 (dk_at dksX9_makesAll_0 5 rfl rfl)
theorem dX9_makesAll_6 : decode cX9_makesAll 6 = .ok (.istore_n 1, 1) := dk_60 (dk_at dksX9_makesAll_0 6 rfl rfl)
theorem dX9_makesAll_7 : decode cX9_makesAll 7 = .ok (.iload_n 1, 1) := dk_27 (dk_at dksX9_makesAll_0 7 rfl rfl)
theorem dX9_makesAll_8 : decode cX9_makesAll 8 = .ok (.bipush 100, 2) := dk_16 100 (dk_at dksX9_makesAll_0 8 rfl rfl)
theorem dX9_makesAll_10 : decode cX9_makesAll 10 = .ok (.if_icmp .ge 125, 3) := dk_162 0 125 (dk_at dksX9_makesAll_0 10 rfl rfl)
theorem dX9_makesAll_13 : decode cX9_makesAll 13 = .ok (.iconst 0, 1) := dk_3 (dk_at dksX9_makesAll_0 13 rfl rfl)
theorem dX9_makesAll_14 : decode cX9_makesAll 14 = .ok (.istore_n 2, 1) := dk_61 (dk_at dksX9_makesAll_0 14 rfl rfl)
theorem dX9_makesAll_15 : decode cX9_makesAll 15 = .ok (.iconst (-1), 1) := dk_2 (dk_at dksX9_makesAll_0 15 rfl rfl)
theorem dX9_makesAll_16 : decode cX9_makesAll 16 = .ok (.istore_n 3, 1) := dk_62 (dk_at dksX9_makesAll_0 16 rfl rfl)
theorem dX9_makesAll_17 : decode cX9_makesAll 17 = .ok (.iconst 0, 1) := dk_3 (dk_at dksX9_makesAll_0 17 rfl rfl)
theorem dX9_makesAll_18 : decode cX9_makesAll 18 = .ok (.istore 4, 2) := dk_54 4 (dk_at dksX9_makesAll_0 18 rfl rfl)
theorem dX9_makesAll_20 : decode cX9_makesAll 20 = .ok (.iconst 0, 1) := dk_3 (dk_at dksX9_makesAll_0 20 rfl rfl)
theorem dX9_makesAll_21 : decode cX9_makesAll 21 = .ok (.istore 5, 2) := dk_54 5 (dk_at dksX9_makesAll_0 21 rfl rfl)
theorem dX9_makesAll_23 : decode cX9_makesAll 23 = .ok (.iload 5, 2) := dk_21 5 (dk_at dksX9_makesAll_1 0 rfl rfl)
theorem dX9_makesAll_25 : decode cX9_makesAll 25 = .ok (.aload_n 0, 1) := dk_42 (dk_at dksX9_makesAll_1 2 rfl rfl)
theorem dX9_makesAll_26 : decode cX9_makesAll 26 = .ok (.getfield 33, 3) := dk_180 0 33 (dk_at dksX9_makesAll_1 3 rfl rfl)
theorem dX9_makesAll_29 : decode cX9_makesAll 29 = .ok (.iconst 1, 1) := dk_4 (dk_at dksX9_makesAll_1 6 rfl rfl)
theorem dX9_makesAll_30 : decode cX9_makesAll 30 = .ok (.iaload, 1) := dk_46 (dk_at dksX9_makesAll_1 7 rfl rfl)
theorem dX9_makesAll_31 : decode cX9_makesAll 31 = .ok (.if_icmp .ge 71, 3) := dk_162 0 71 (dk_at dksX9_makesAll_1 8 rfl rfl)
theorem dX9_makesAll_34 : decode cX9_makesAll 34 = .ok (.aload_n 0, 1) := dk_42 (dk_at dksX9_makesAll_1 11 rfl rfl)
theorem dX9_makesAll_35 : decode cX9_makesAll 35 = .ok (.getfield 33, 3) := dk_180 0 33 (dk_at dksX9_makesAll_1 12 rfl rfl)
theorem dX9_makesAll_38 : decode cX9_makesAll 38 = .ok (.bipush 60, 2) := dk_16 60 (dk_at dksX9_makesAll_1 15 rfl rfl)
theorem dX9_makesAll_40 : decode cX9_makesAll 40 = .ok (.iconst 3, 1) := dk_6 (dk_at dksX9_makesAll_1 17 rfl rfl)
theorem dX9_makesAll_41 : decode cX9_makesAll 41 = .ok (.iload 5, 2) := dk_21 5 (dk_at dksX9_makesAll_1 18 rfl rfl)
theorem dX9_makesAll_43 : decode cX9_makesAll 43 = .ok (.imul, 1) := dk_104 (dk_at dksX9_makesAll_1 20 rfl rfl)
theorem dX9_makesAll_44 : decode cX9_makesAll 44 = .ok (.iadd, 1) := dk_96 (dk_at dksX9_makesAll_1 21 rfl rfl)
theorem dX9_makesAll_45 : decode cX9_makesAll 45 = .ok (.iaload, 1) := dk_46 (dk_at dksX9_makesAll_1 22 rfl rfl)
theorem dX9_makesAll_46 : decode cX9_makesAll 46 = .ok (.iload_n 1, 1) := dk_27 (dk_at dksX9_makesAll_1 23 rfl rfl)
theorem dX9_makesAll_47 : decode cX9_makesAll 47 = .ok (.if_icmp .eq 6, 3) := dk_159 0 6 (dk_at dksX9_makesAll_2 0 rfl rfl)
theorem dX9_makesAll_50 : decode cX9_makesAll 50 = .ok (.goto 46, 3) := dk_167 0 46 (dk_at dksX9_makesAll_2 3 rfl rfl)
theorem dX9_makesAll_53 : decode cX9_makesAll 53 = .ok (.iload_n 2, 1) := dk_28 (dk_at dksX9_makesAll_2 6 rfl rfl)
theorem dX9_makesAll_54 : decode cX9_makesAll 54 = .ok (.ifCond .ne 13, 3) := dk_154 0 13 (dk_at dksX9_makesAll_2 7 rfl rfl)
theorem dX9_makesAll_57 : decode cX9_makesAll 57 = .ok (.aload_n 0, 1) := dk_42 (dk_at dksX9_makesAll_2 10 rfl rfl)
theorem dX9_makesAll_58 : decode cX9_makesAll 58 = .ok (.bipush 12, 2) := dk_16 12 (dk_at dksX9_makesAll_2 11 rfl rfl)
theorem dX9_makesAll_60 : decode cX9_makesAll 60 = .ok (.iconst (-1), 1) := dk_2 (dk_at dksX9_makesAll_2 13 rfl rfl)
theorem dX9_makesAll_61 : decode cX9_makesAll 61 = .ok (.iconst (-1), 1) := dk_2 (dk_at dksX9_makesAll_2 14 rfl rfl)
theorem dX9_makesAll_62 : decode cX9_makesAll 62 = .ok (.invokevirtual 405, 3) := dk_182 1 149 (dk_at dksX9_makesAll_2 15 rfl rfl)
theorem dX9_makesAll_65 : decode cX9_makesAll 65 = .ok (.istore 4, 2) := dk_54 4 (dk_at dksX9_makesAll_2 18 rfl rfl)
theorem dX9_makesAll_67 : decode cX9_makesAll 67 = .ok (.aload_n 0, 1) := dk_42 (dk_at dksX9_makesAll_2 20 rfl rfl)
theorem dX9_makesAll_68 : decode cX9_makesAll 68 = .ok (.iload 5, 2) := dk_21 5 (dk_at dksX9_makesAll_2 21 rfl rfl)
theorem dX9_makesAll_70 : decode cX9_makesAll 70 = .ok (.iload_n 2, 1) := dk_28 (dk_at dksX9_makesAll_2 23 rfl rfl)
theorem dX9_makesAll_71 : decode cX9_makesAll 71 = .ok (.invokevirtual 451, 3) := dk_182 1 195 (dk_at dksX9_makesAll_3 0 rfl rfl)
theorem dX9_makesAll_74 : decode cX9_makesAll 74 = .ok (.istore 6, 2) := dk_54 6 (dk_at dksX9_makesAll_3 3 rfl rfl)
theorem dX9_makesAll_76 : decode cX9_makesAll 76 = .ok (.iload 6, 2) := dk_21 6 (dk_at dksX9_makesAll_3 5 rfl rfl)
theorem dX9_makesAll_78 : decode cX9_makesAll 78 = .ok (.ifCond .le 12, 3) := dk_158 0 12 (dk_at dksX9_makesAll_3 7 rfl rfl)
theorem dX9_makesAll_81 : decode cX9_makesAll 81 = .ok (.bipush 10, 2) := dk_16 10 (dk_at dksX9_makesAll_3 10 rfl rfl)
theorem dX9_makesAll_83 : decode cX9_makesAll 83 = .ok (.iload 5, 2) := dk_21 5 (dk_at dksX9_makesAll_3 12 rfl rfl)
theorem dX9_makesAll_85 : decode cX9_makesAll 85 = .ok (.imul, 1) := dk_104 (dk_at dksX9_makesAll_3 14 rfl rfl)
theorem dX9_makesAll_86 : decode cX9_makesAll 86 = .ok (.iload 6, 2) := dk_21 6 (dk_at dksX9_makesAll_3 15 rfl rfl)
theorem dX9_makesAll_88 : decode cX9_makesAll 88 = .ok (.iadd, 1) := dk_96 (dk_at dksX9_makesAll_3 17 rfl rfl)
theorem dX9_makesAll_89 : decode cX9_makesAll 89 = .ok (.ireturn, 1) := dk_172 (dk_at dksX9_makesAll_3 18 rfl rfl)
theorem dX9_makesAll_90 : decode cX9_makesAll 90 = .ok (.iinc 2 1, 3) := dk_132 2 1 (dk_at dksX9_makesAll_3 19 rfl rfl)
theorem dX9_makesAll_93 : decode cX9_makesAll 93 = .ok (.iload 5, 2) := dk_21 5 (dk_at dksX9_makesAll_3 22 rfl rfl)
theorem dX9_makesAll_95 : decode cX9_makesAll 95 = .ok (.istore_n 3, 1) := dk_62 (dk_at dksX9_makesAll_4 0 rfl rfl)
theorem dX9_makesAll_96 : decode cX9_makesAll 96 = .ok (.iinc 5 1, 3) := dk_132 5 1 (dk_at dksX9_makesAll_4 1 rfl rfl)
theorem dX9_makesAll_99 : decode cX9_makesAll 99 = .ok (.goto (-76), 3) := dk_167 255 180 (dk_at dksX9_makesAll_4 4 rfl rfl)
theorem dX9_makesAll_102 : decode cX9_makesAll 102 = .ok (.iload_n 2, 1) := dk_28 (dk_at dksX9_makesAll_4 7 rfl rfl)
theorem dX9_makesAll_103 : decode cX9_makesAll 103 = .ok (.ifCond .le 26, 3) := dk_158 0 26 (dk_at dksX9_makesAll_4 8 rfl rfl)
theorem dX9_makesAll_106 : decode cX9_makesAll 106 = .ok (.iload 4, 2) := dk_21 4 (dk_at dksX9_makesAll_4 11 rfl rfl)
theorem dX9_makesAll_108 : decode cX9_makesAll 108 = .ok (.aload_n 0, 1) := dk_42 (dk_at dksX9_makesAll_4 13 rfl rfl)
theorem dX9_makesAll_109 : decode cX9_makesAll 109 = .ok (.bipush 12, 2) := dk_16 12 (dk_at dksX9_makesAll_4 14 rfl rfl)
theorem dX9_makesAll_111 : decode cX9_makesAll 111 = .ok (.iconst (-1), 1) := dk_2 (dk_at dksX9_makesAll_4 16 rfl rfl)
theorem dX9_makesAll_112 : decode cX9_makesAll 112 = .ok (.iconst (-1), 1) := dk_2 (dk_at dksX9_makesAll_4 17 rfl rfl)
theorem dX9_makesAll_113 : decode cX9_makesAll 113 = .ok (.invokevirtual 405, 3) := dk_182 1 149 (dk_at dksX9_makesAll_4 18 rfl rfl)
theorem dX9_makesAll_116 : decode cX9_makesAll 116 = .ok (.iconst (-1), 1) := dk_2 (dk_at dksX9_makesAll_4 21 rfl rfl)
theorem dX9_makesAll_117 : decode cX9_makesAll 117 = .ok (.ixor, 1) := dk_130 (dk_at dksX9_makesAll_4 22 rfl rfl)
theorem dX9_makesAll_118 : decode cX9_makesAll 118 = .ok (.iand, 1) := dk_126 (dk_at dksX9_makesAll_4 23 rfl rfl)
theorem dX9_makesAll_119 : decode cX9_makesAll 119 = .ok (.ifCond .eq 10, 3) := dk_153 0 10 (dk_at dksX9_makesAll_5 0 rfl rfl)
theorem dX9_makesAll_122 : decode cX9_makesAll 122 = .ok (.bipush 10, 2) := dk_16 10 (dk_at dksX9_makesAll_5 3 rfl rfl)
theorem dX9_makesAll_124 : decode cX9_makesAll 124 = .ok (.iload_n 3, 1) := dk_29 (dk_at dksX9_makesAll_5 5 rfl rfl)
theorem dX9_makesAll_125 : decode cX9_makesAll 125 = .ok (.imul, 1) := dk_104 (dk_at dksX9_makesAll_5 6 rfl rfl)
theorem dX9_makesAll_126 : decode cX9_makesAll 126 = .ok (.iconst 5, 1) := dk_8 (dk_at dksX9_makesAll_5 7 rfl rfl)
theorem dX9_makesAll_127 : decode cX9_makesAll 127 = .ok (.iadd, 1) := dk_96 (dk_at dksX9_makesAll_5 8 rfl rfl)
theorem dX9_makesAll_128 : decode cX9_makesAll 128 = .ok (.ireturn, 1) := dk_172 (dk_at dksX9_makesAll_5 9 rfl rfl)
theorem dX9_makesAll_129 : decode cX9_makesAll 129 = .ok (.iinc 1 1, 3) := dk_132 1 1 (dk_at dksX9_makesAll_5 10 rfl rfl)
theorem dX9_makesAll_132 : decode cX9_makesAll 132 = .ok (.goto (-125), 3) := dk_167 255 131 (dk_at dksX9_makesAll_5 13 rfl rfl)
theorem dX9_makesAll_135 : decode cX9_makesAll 135 = .ok (.iconst 0, 1) := dk_3 (dk_at dksX9_makesAll_5 16 rfl rfl)
theorem dX9_makesAll_136 : decode cX9_makesAll 136 = .ok (.ireturn, 1) := dk_172 (dk_at dksX9_makesAll_5 17 rfl rfl)
abbrev cX9_makes : ByteArray := prog_23_method_96_code
def yX9_makes : MethodName := ⟨RX9, "makes", "(II)I"⟩
def dkwX9_makes_10 : List UInt8 := [180, 0, 33, 16, 10, 29, 96, 92, 46, 21, 4, 96, 79, 3, 172]
abbrev dktX9_makes_10 : List UInt8 := dkwX9_makes_10 ++ []
def dkwX9_makes_9 : List UInt8 := [180, 0, 33, 16, 50, 21, 5, 96, 92, 46, 4, 96, 79, 167, 0, 9, 132, 5, 1, 167, 255, 188, 42]
abbrev dktX9_makes_9 : List UInt8 := dkwX9_makes_9 ++ dktX9_makes_10
def dkwX9_makes_8 : List UInt8 := [116, 159, 0, 6, 167, 0, 35, 42, 180, 0, 33, 16, 50, 21, 5, 96, 46, 16, 99, 162, 0, 26, 42]
abbrev dktX9_makes_8 : List UInt8 := dkwX9_makes_8 ++ dktX9_makes_9
def dkwX9_makes_7 : List UInt8 := [42, 180, 0, 30, 8, 46, 162, 0, 63, 42, 180, 0, 30, 17, 0, 170, 5, 21, 5, 104, 96, 46, 21, 4]
abbrev dktX9_makes_7 : List UInt8 := dkwX9_makes_7 ++ dktX9_makes_8
def dkwX9_makes_6 : List UInt8 := [46, 42, 180, 0, 91, 21, 6, 46, 100, 79, 132, 6, 1, 167, 255, 226, 167, 0, 77, 3, 54, 5, 21, 5]
abbrev dktX9_makes_6 : List UInt8 := dkwX9_makes_6 ++ dktX9_makes_7
def dkwX9_makes_5 : List UInt8 := [96, 181, 1, 192, 3, 54, 6, 21, 6, 16, 8, 162, 0, 29, 42, 180, 0, 33, 16, 50, 21, 6, 96, 92]
abbrev dktX9_makes_5 : List UInt8 := dkwX9_makes_5 ++ dktX9_makes_6
def dkwX9_makes_4 : List UInt8 := [21, 4, 182, 1, 189, 54, 5, 21, 5, 19, 1, 185, 161, 0, 5, 7, 172, 42, 89, 180, 1, 192, 21, 5]
abbrev dktX9_makes_4 : List UInt8 := dkwX9_makes_4 ++ dktX9_makes_5
def dkwX9_makes_3 : List UInt8 := [182, 1, 124, 21, 4, 96, 3, 16, 99, 184, 1, 136, 154, 0, 5, 6, 172, 21, 4, 158, 0, 71, 42]
abbrev dktX9_makes_3 : List UInt8 := dkwX9_makes_3 ++ dktX9_makes_4
def dkwX9_makes_2 : List UInt8 := [21, 4, 116, 167, 0, 5, 21, 4, 42, 180, 0, 30, 16, 7, 46, 164, 0, 5, 5, 172, 42, 29]
abbrev dktX9_makes_2 : List UInt8 := dkwX9_makes_2 ++ dktX9_makes_3
def dkwX9_makes_1 : List UInt8 := [5, 96, 46, 54, 4, 28, 42, 180, 0, 30, 16, 6, 46, 160, 0, 5, 4, 172, 21, 4, 156, 0, 9]
abbrev dktX9_makes_1 : List UInt8 := dkwX9_makes_1 ++ dktX9_makes_2
def dkwX9_makes_0 : List UInt8 := [42, 180, 0, 33, 16, 60, 6, 27, 104, 96, 4, 96, 46, 62, 42, 180, 0, 33, 16, 60, 6, 27, 104, 96]
abbrev dktX9_makes_0 : List UInt8 := dkwX9_makes_0 ++ dktX9_makes_1
theorem dksX9_makes_0 : cX9_makes.data.toList.drop 0 = dktX9_makes_0 := by decide +kernel
theorem dksX9_makes_1 : cX9_makes.data.toList.drop 24 = dktX9_makes_1 := dk_seg dksX9_makes_0 24 rfl rfl
theorem dksX9_makes_2 : cX9_makes.data.toList.drop 47 = dktX9_makes_2 := dk_seg dksX9_makes_1 23 rfl rfl
theorem dksX9_makes_3 : cX9_makes.data.toList.drop 69 = dktX9_makes_3 := dk_seg dksX9_makes_2 22 rfl rfl
theorem dksX9_makes_4 : cX9_makes.data.toList.drop 92 = dktX9_makes_4 := dk_seg dksX9_makes_3 23 rfl rfl
theorem dksX9_makes_5 : cX9_makes.data.toList.drop 116 = dktX9_makes_5 := dk_seg dksX9_makes_4 24 rfl rfl
theorem dksX9_makes_6 : cX9_makes.data.toList.drop 140 = dktX9_makes_6 := dk_seg dksX9_makes_5 24 rfl rfl
theorem dksX9_makes_7 : cX9_makes.data.toList.drop 164 = dktX9_makes_7 := dk_seg dksX9_makes_6 24 rfl rfl
theorem dksX9_makes_8 : cX9_makes.data.toList.drop 188 = dktX9_makes_8 := dk_seg dksX9_makes_7 24 rfl rfl
theorem dksX9_makes_9 : cX9_makes.data.toList.drop 211 = dktX9_makes_9 := dk_seg dksX9_makes_8 23 rfl rfl
theorem dksX9_makes_10 : cX9_makes.data.toList.drop 234 = dktX9_makes_10 := dk_seg dksX9_makes_9 23 rfl rfl
theorem dX9_makes_0 : decode cX9_makes 0 = .ok (.aload_n 0, 1) := dk_42 (dk_at dksX9_makes_0 0 rfl rfl)
theorem dX9_makes_1 : decode cX9_makes 1 = .ok (.getfield 33, 3) := dk_180 0 33 (dk_at dksX9_makes_0 1 rfl rfl)
theorem dX9_makes_4 : decode cX9_makes 4 = .ok (.bipush 60, 2) := dk_16 60 (dk_at dksX9_makes_0 4 rfl rfl)
theorem dX9_makes_6 : decode cX9_makes 6 = .ok (.iconst 3, 1) := dk_6 (dk_at dksX9_makes_0 6 rfl rfl)
theorem dX9_makes_7 : decode cX9_makes 7 = .ok (.iload_n 1, 1) := dk_27 (dk_at dksX9_makes_0 7 rfl rfl)
theorem dX9_makes_8 : decode cX9_makes 8 = .ok (.imul, 1) := dk_104 (dk_at dksX9_makes_0 8 rfl rfl)
theorem dX9_makes_9 : decode cX9_makes 9 = .ok (.iadd, 1) := dk_96 (dk_at dksX9_makes_0 9 rfl rfl)
theorem dX9_makes_10 : decode cX9_makes 10 = .ok (.iconst 1, 1) := dk_4 (dk_at dksX9_makes_0 10 rfl rfl)
theorem dX9_makes_11 : decode cX9_makes 11 = .ok (.iadd, 1) := dk_96 (dk_at dksX9_makes_0 11 rfl rfl)
theorem dX9_makes_12 : decode cX9_makes 12 = .ok (.iaload, 1) := dk_46 (dk_at dksX9_makes_0 12 rfl rfl)
theorem dX9_makes_13 : decode cX9_makes 13 = .ok (.istore_n 3, 1) := dk_62 (dk_at dksX9_makes_0 13 rfl rfl)
theorem dX9_makes_14 : decode cX9_makes 14 = .ok (.aload_n 0, 1) := dk_42 (dk_at dksX9_makes_0 14 rfl rfl)
theorem dX9_makes_15 : decode cX9_makes 15 = .ok (.getfield 33, 3) := dk_180 0 33 (dk_at dksX9_makes_0 15 rfl rfl)
theorem dX9_makes_18 : decode cX9_makes 18 = .ok (.bipush 60, 2) := dk_16 60 (dk_at dksX9_makes_0 18 rfl rfl)
theorem dX9_makes_20 : decode cX9_makes 20 = .ok (.iconst 3, 1) := dk_6 (dk_at dksX9_makes_0 20 rfl rfl)
theorem dX9_makes_21 : decode cX9_makes 21 = .ok (.iload_n 1, 1) := dk_27 (dk_at dksX9_makes_0 21 rfl rfl)
theorem dX9_makes_22 : decode cX9_makes 22 = .ok (.imul, 1) := dk_104 (dk_at dksX9_makes_0 22 rfl rfl)
theorem dX9_makes_23 : decode cX9_makes 23 = .ok (.iadd, 1) := dk_96 (dk_at dksX9_makes_0 23 rfl rfl)
theorem dX9_makes_24 : decode cX9_makes 24 = .ok (.iconst 2, 1) := dk_5 (dk_at dksX9_makes_1 0 rfl rfl)
theorem dX9_makes_25 : decode cX9_makes 25 = .ok (.iadd, 1) := dk_96 (dk_at dksX9_makes_1 1 rfl rfl)
theorem dX9_makes_26 : decode cX9_makes 26 = .ok (.iaload, 1) := dk_46 (dk_at dksX9_makes_1 2 rfl rfl)
theorem dX9_makes_27 : decode cX9_makes 27 = .ok (.istore 4, 2) := dk_54 4 (dk_at dksX9_makes_1 3 rfl rfl)
theorem dX9_makes_29 : decode cX9_makes 29 = .ok (.iload_n 2, 1) := dk_28 (dk_at dksX9_makes_1 5 rfl rfl)
theorem dX9_makes_30 : decode cX9_makes 30 = .ok (.aload_n 0, 1) := dk_42 (dk_at dksX9_makes_1 6 rfl rfl)
theorem dX9_makes_31 : decode cX9_makes 31 = .ok (.getfield 30, 3) := dk_180 0 30 (dk_at dksX9_makes_1 7 rfl rfl)
theorem dX9_makes_34 : decode cX9_makes 34 = .ok (.bipush 6, 2) := dk_16 6 (dk_at dksX9_makes_1 10 rfl rfl)
theorem dX9_makes_36 : decode cX9_makes 36 = .ok (.iaload, 1) := dk_46 (dk_at dksX9_makes_1 12 rfl rfl)
theorem dX9_makes_37 : decode cX9_makes 37 = .ok (.if_icmp .ne 5, 3) := dk_160 0 5 (dk_at dksX9_makes_1 13 rfl rfl)
theorem dX9_makes_40 : decode cX9_makes 40 = .ok (.iconst 1, 1) := dk_4 (dk_at dksX9_makes_1 16 rfl rfl)
theorem dX9_makes_41 : decode cX9_makes 41 = .ok (.ireturn, 1) := dk_172 (dk_at dksX9_makes_1 17 rfl rfl)
theorem dX9_makes_42 : decode cX9_makes 42 = .ok (.iload 4, 2) := dk_21 4 (dk_at dksX9_makes_1 18 rfl rfl)
theorem dX9_makes_44 : decode cX9_makes 44 = .ok (.ifCond .ge 9, 3) := dk_156 0 9 (dk_at dksX9_makes_1 20 rfl rfl)
theorem dX9_makes_47 : decode cX9_makes 47 = .ok (.iload 4, 2) := dk_21 4 (dk_at dksX9_makes_2 0 rfl rfl)
theorem dX9_makes_49 : decode cX9_makes 49 = .ok (.ineg, 1) := dk_116 (dk_at dksX9_makes_2 2 rfl rfl)
theorem dX9_makes_50 : decode cX9_makes 50 = .ok (.goto 5, 3) := dk_167 0 5 (dk_at dksX9_makes_2 3 rfl rfl)
theorem dX9_makes_53 : decode cX9_makes 53 = .ok (.iload 4, 2) := dk_21 4 (dk_at dksX9_makes_2 6 rfl rfl)
theorem dX9_makes_55 : decode cX9_makes 55 = .ok (.aload_n 0, 1) := dk_42 (dk_at dksX9_makes_2 8 rfl rfl)
theorem dX9_makes_56 : decode cX9_makes 56 = .ok (.getfield 30, 3) := dk_180 0 30 (dk_at dksX9_makes_2 9 rfl rfl)
theorem dX9_makes_59 : decode cX9_makes 59 = .ok (.bipush 7, 2) := dk_16 7 (dk_at dksX9_makes_2 12 rfl rfl)
theorem dX9_makes_61 : decode cX9_makes 61 = .ok (.iaload, 1) := dk_46 (dk_at dksX9_makes_2 14 rfl rfl)
theorem dX9_makes_62 : decode cX9_makes 62 = .ok (.if_icmp .le 5, 3) := dk_164 0 5 (dk_at dksX9_makes_2 15 rfl rfl)
theorem dX9_makes_65 : decode cX9_makes 65 = .ok (.iconst 2, 1) := dk_5 (dk_at dksX9_makes_2 18 rfl rfl)
theorem dX9_makes_66 : decode cX9_makes 66 = .ok (.ireturn, 1) := dk_172 (dk_at dksX9_makes_2 19 rfl rfl)
theorem dX9_makes_67 : decode cX9_makes 67 = .ok (.aload_n 0, 1) := dk_42 (dk_at dksX9_makes_2 20 rfl rfl)
theorem dX9_makes_68 : decode cX9_makes 68 = .ok (.iload_n 3, 1) := dk_29 (dk_at dksX9_makes_2 21 rfl rfl)
theorem dX9_makes_69 : decode cX9_makes 69 = .ok (.invokevirtual 380, 3) := dk_182 1 124 (dk_at dksX9_makes_3 0 rfl rfl)
theorem dX9_makes_72 : decode cX9_makes 72 = .ok (.iload 4, 2) := dk_21 4 (dk_at dksX9_makes_3 3 rfl rfl)
theorem dX9_makes_74 : decode cX9_makes 74 = .ok (.iadd, 1) := dk_96 (dk_at dksX9_makes_3 5 rfl rfl)
theorem dX9_makes_75 : decode cX9_makes 75 = .ok (.iconst 0, 1) := dk_3 (dk_at dksX9_makes_3 6 rfl rfl)
theorem dX9_makes_76 : decode cX9_makes 76 = .ok (.bipush 99, 2) := dk_16 99 (dk_at dksX9_makes_3 7 rfl rfl)
theorem dX9_makes_78 : decode cX9_makes 78 = .ok (.invokestatic 392, 3) := dk_184 1 136 (dk_at dksX9_makes_3 9 rfl rfl)
theorem dX9_makes_81 : decode cX9_makes 81 = .ok (.ifCond .ne 5, 3) := dk_154 0 5 (dk_at dksX9_makes_3 12 rfl rfl)
theorem dX9_makes_84 : decode cX9_makes 84 = .ok (.iconst 3, 1) := dk_6 (dk_at dksX9_makes_3 15 rfl rfl)
theorem dX9_makes_85 : decode cX9_makes 85 = .ok (.ireturn, 1) := dk_172 (dk_at dksX9_makes_3 16 rfl rfl)
theorem dX9_makes_86 : decode cX9_makes 86 = .ok (.iload 4, 2) := dk_21 4 (dk_at dksX9_makes_3 17 rfl rfl)
theorem dX9_makes_88 : decode cX9_makes 88 = .ok (.ifCond .le 71, 3) := dk_158 0 71 (dk_at dksX9_makes_3 19 rfl rfl)
theorem dX9_makes_91 : decode cX9_makes 91 = .ok (.aload_n 0, 1) := dk_42 (dk_at dksX9_makes_3 22 rfl rfl)
theorem dX9_makes_92 : decode cX9_makes 92 = .ok (.iload 4, 2) := dk_21 4 (dk_at dksX9_makes_4 0 rfl rfl)
theorem dX9_makes_94 : decode cX9_makes 94 = .ok (.invokevirtual 445, 3) := dk_182 1 189 (dk_at dksX9_makes_4 2 rfl rfl)
theorem dX9_makes_97 : decode cX9_makes 97 = .ok (.istore 5, 2) := dk_54 5 (dk_at dksX9_makes_4 5 rfl rfl)
theorem dX9_makes_99 : decode cX9_makes 99 = .ok (.iload 5, 2) := dk_21 5 (dk_at dksX9_makes_4 7 rfl rfl)
theorem dX9_makes_101 : decode cX9_makes 101 = .ok (.ldc_w 441, 3) := dk_19 1 185 (dk_at dksX9_makes_4 9 rfl rfl)
theorem dX9_makes_104 : decode cX9_makes 104 = .ok (.if_icmp .lt 5, 3) := dk_161 0 5 (dk_at dksX9_makes_4 12 rfl rfl)
theorem dX9_makes_107 : decode cX9_makes 107 = .ok (.iconst 4, 1) := dk_7 (dk_at dksX9_makes_4 15 rfl rfl)
theorem dX9_makes_108 : decode cX9_makes 108 = .ok (.ireturn, 1) := dk_172 (dk_at dksX9_makes_4 16 rfl rfl)
theorem dX9_makes_109 : decode cX9_makes 109 = .ok (.aload_n 0, 1) := dk_42 (dk_at dksX9_makes_4 17 rfl rfl)
theorem dX9_makes_110 : decode cX9_makes 110 = .ok (.dup, 1) := dk_89 (dk_at dksX9_makes_4 18 rfl rfl)
theorem dX9_makes_111 : decode cX9_makes 111 = .ok (.getfield 448, 3) := dk_180 1 192 (dk_at dksX9_makes_4 19 rfl rfl)
theorem dX9_makes_114 : decode cX9_makes 114 = .ok (.iload 5, 2) := dk_21 5 (dk_at dksX9_makes_4 22 rfl rfl)
theorem dX9_makes_116 : decode cX9_makes 116 = .ok (.iadd, 1) := dk_96 (dk_at dksX9_makes_5 0 rfl rfl)
theorem dX9_makes_117 : decode cX9_makes 117 = .ok (.putfield 448, 3) := dk_181 1 192 (dk_at dksX9_makes_5 1 rfl rfl)
theorem dX9_makes_120 : decode cX9_makes 120 = .ok (.iconst 0, 1) := dk_3 (dk_at dksX9_makes_5 4 rfl rfl)
theorem dX9_makes_121 : decode cX9_makes 121 = .ok (.istore 6, 2) := dk_54 6 (dk_at dksX9_makes_5 5 rfl rfl)
theorem dX9_makes_123 : decode cX9_makes 123 = .ok (.iload 6, 2) := dk_21 6 (dk_at dksX9_makes_5 7 rfl rfl)
theorem dX9_makes_125 : decode cX9_makes 125 = .ok (.bipush 8, 2) := dk_16 8 (dk_at dksX9_makes_5 9 rfl rfl)
theorem dX9_makes_127 : decode cX9_makes 127 = .ok (.if_icmp .ge 29, 3) := dk_162 0 29 (dk_at dksX9_makes_5 11 rfl rfl)
theorem dX9_makes_130 : decode cX9_makes 130 = .ok (.aload_n 0, 1) := dk_42 (dk_at dksX9_makes_5 14 rfl rfl)
theorem dX9_makes_131 : decode cX9_makes 131 = .ok (.getfield 33, 3) := dk_180 0 33 (dk_at dksX9_makes_5 15 rfl rfl)
theorem dX9_makes_134 : decode cX9_makes 134 = .ok (.bipush 50, 2) := dk_16 50 (dk_at dksX9_makes_5 18 rfl rfl)
theorem dX9_makes_136 : decode cX9_makes 136 = .ok (.iload 6, 2) := dk_21 6 (dk_at dksX9_makes_5 20 rfl rfl)
theorem dX9_makes_138 : decode cX9_makes 138 = .ok (.iadd, 1) := dk_96 (dk_at dksX9_makes_5 22 rfl rfl)
theorem dX9_makes_139 : decode cX9_makes 139 = .ok (.dup2, 1) := dk_92 (dk_at dksX9_makes_5 23 rfl rfl)
theorem dX9_makes_140 : decode cX9_makes 140 = .ok (.iaload, 1) := dk_46 (dk_at dksX9_makes_6 0 rfl rfl)
theorem dX9_makes_141 : decode cX9_makes 141 = .ok (.aload_n 0, 1) := dk_42 (dk_at dksX9_makes_6 1 rfl rfl)
theorem dX9_makes_142 : decode cX9_makes 142 = .ok (.getfield 91, 3) := dk_180 0 91 (dk_at dksX9_makes_6 2 rfl rfl)
theorem dX9_makes_145 : decode cX9_makes 145 = .ok (.iload 6, 2) := dk_21 6 (dk_at dksX9_makes_6 5 rfl rfl)
theorem dX9_makes_147 : decode cX9_makes 147 = .ok (.iaload, 1) := dk_46 (dk_at dksX9_makes_6 7 rfl rfl)
theorem dX9_makes_148 : decode cX9_makes 148 = .ok (.isub, 1) := dk_100 (dk_at dksX9_makes_6 8 rfl rfl)
theorem dX9_makes_149 : decode cX9_makes 149 = .ok (.iastore, 1) := dk_79 (dk_at dksX9_makes_6 9 rfl rfl)
theorem dX9_makes_150 : decode cX9_makes 150 = .ok (.iinc 6 1, 3) := dk_132 6 1 (dk_at dksX9_makes_6 10 rfl rfl)
theorem dX9_makes_153 : decode cX9_makes 153 = .ok (.goto (-30), 3) := dk_167 255 226 (dk_at dksX9_makes_6 13 rfl rfl)
theorem dX9_makes_156 : decode cX9_makes 156 = .ok (.goto 77, 3) := dk_167 0 77 (dk_at dksX9_makes_6 16 rfl rfl)
theorem dX9_makes_159 : decode cX9_makes 159 = .ok (.iconst 0, 1) := dk_3 (dk_at dksX9_makes_6 19 rfl rfl)
theorem dX9_makes_160 : decode cX9_makes 160 = .ok (.istore 5, 2) := dk_54 5 (dk_at dksX9_makes_6 20 rfl rfl)
theorem dX9_makes_162 : decode cX9_makes 162 = .ok (.iload 5, 2) := dk_21 5 (dk_at dksX9_makes_6 22 rfl rfl)
theorem dX9_makes_164 : decode cX9_makes 164 = .ok (.aload_n 0, 1) := dk_42 (dk_at dksX9_makes_7 0 rfl rfl)
theorem dX9_makes_165 : decode cX9_makes 165 = .ok (.getfield 30, 3) := dk_180 0 30 (dk_at dksX9_makes_7 1 rfl rfl)
theorem dX9_makes_168 : decode cX9_makes 168 = .ok (.iconst 5, 1) := dk_8 (dk_at dksX9_makes_7 4 rfl rfl)
theorem dX9_makes_169 : decode cX9_makes 169 = .ok (.iaload, 1) := dk_46 (dk_at dksX9_makes_7 5 rfl rfl)
theorem dX9_makes_170 : decode cX9_makes 170 = .ok (.if_icmp .ge 63, 3) := dk_162 0 63 (dk_at dksX9_makes_7 6 rfl rfl)
theorem dX9_makes_173 : decode cX9_makes 173 = .ok (.aload_n 0, 1) := dk_42 (dk_at dksX9_makes_7 9 rfl rfl)
theorem dX9_makes_174 : decode cX9_makes 174 = .ok (.getfield 30, 3) := dk_180 0 30 (dk_at dksX9_makes_7 10 rfl rfl)
theorem dX9_makes_177 : decode cX9_makes 177 = .ok (.sipush 170, 3) := dk_17 0 170 (dk_at dksX9_makes_7 13 rfl rfl)
theorem dX9_makes_180 : decode cX9_makes 180 = .ok (.iconst 2, 1) := dk_5 (dk_at dksX9_makes_7 16 rfl rfl)
theorem dX9_makes_181 : decode cX9_makes 181 = .ok (.iload 5, 2) := dk_21 5 (dk_at dksX9_makes_7 17 rfl rfl)
theorem dX9_makes_183 : decode cX9_makes 183 = .ok (.imul, 1) := dk_104 (dk_at dksX9_makes_7 19 rfl rfl)
theorem dX9_makes_184 : decode cX9_makes 184 = .ok (.iadd, 1) := dk_96 (dk_at dksX9_makes_7 20 rfl rfl)
theorem dX9_makes_185 : decode cX9_makes 185 = .ok (.iaload, 1) := dk_46 (dk_at dksX9_makes_7 21 rfl rfl)
theorem dX9_makes_186 : decode cX9_makes 186 = .ok (.iload 4, 2) := dk_21 4 (dk_at dksX9_makes_7 22 rfl rfl)
theorem dX9_makes_188 : decode cX9_makes 188 = .ok (.ineg, 1) := dk_116 (dk_at dksX9_makes_8 0 rfl rfl)
theorem dX9_makes_189 : decode cX9_makes 189 = .ok (.if_icmp .eq 6, 3) := dk_159 0 6 (dk_at dksX9_makes_8 1 rfl rfl)
theorem dX9_makes_192 : decode cX9_makes 192 = .ok (.goto 35, 3) := dk_167 0 35 (dk_at dksX9_makes_8 4 rfl rfl)
theorem dX9_makes_195 : decode cX9_makes 195 = .ok (.aload_n 0, 1) := dk_42 (dk_at dksX9_makes_8 7 rfl rfl)
theorem dX9_makes_196 : decode cX9_makes 196 = .ok (.getfield 33, 3) := dk_180 0 33 (dk_at dksX9_makes_8 8 rfl rfl)
theorem dX9_makes_199 : decode cX9_makes 199 = .ok (.bipush 50, 2) := dk_16 50 (dk_at dksX9_makes_8 11 rfl rfl)
theorem dX9_makes_201 : decode cX9_makes 201 = .ok (.iload 5, 2) := dk_21 5 (dk_at dksX9_makes_8 13 rfl rfl)
theorem dX9_makes_203 : decode cX9_makes 203 = .ok (.iadd, 1) := dk_96 (dk_at dksX9_makes_8 15 rfl rfl)
theorem dX9_makes_204 : decode cX9_makes 204 = .ok (.iaload, 1) := dk_46 (dk_at dksX9_makes_8 16 rfl rfl)
theorem dX9_makes_205 : decode cX9_makes 205 = .ok (.bipush 99, 2) := dk_16 99 (dk_at dksX9_makes_8 17 rfl rfl)
theorem dX9_makes_207 : decode cX9_makes 207 = .ok (.if_icmp .ge 26, 3) := dk_162 0 26 (dk_at dksX9_makes_8 19 rfl rfl)
theorem dX9_makes_210 : decode cX9_makes 210 = .ok (.aload_n 0, 1) := dk_42 (dk_at dksX9_makes_8 22 rfl rfl)
theorem dX9_makes_211 : decode cX9_makes 211 = .ok (.getfield 33, 3) := dk_180 0 33 (dk_at dksX9_makes_9 0 rfl rfl)
theorem dX9_makes_214 : decode cX9_makes 214 = .ok (.bipush 50, 2) := dk_16 50 (dk_at dksX9_makes_9 3 rfl rfl)
theorem dX9_makes_216 : decode cX9_makes 216 = .ok (.iload 5, 2) := dk_21 5 (dk_at dksX9_makes_9 5 rfl rfl)
theorem dX9_makes_218 : decode cX9_makes 218 = .ok (.iadd, 1) := dk_96 (dk_at dksX9_makes_9 7 rfl rfl)
theorem dX9_makes_219 : decode cX9_makes 219 = .ok (.dup2, 1) := dk_92 (dk_at dksX9_makes_9 8 rfl rfl)
theorem dX9_makes_220 : decode cX9_makes 220 = .ok (.iaload, 1) := dk_46 (dk_at dksX9_makes_9 9 rfl rfl)
theorem dX9_makes_221 : decode cX9_makes 221 = .ok (.iconst 1, 1) := dk_4 (dk_at dksX9_makes_9 10 rfl rfl)
theorem dX9_makes_222 : decode cX9_makes 222 = .ok (.iadd, 1) := dk_96 (dk_at dksX9_makes_9 11 rfl rfl)
theorem dX9_makes_223 : decode cX9_makes 223 = .ok (.iastore, 1) := dk_79 (dk_at dksX9_makes_9 12 rfl rfl)
theorem dX9_makes_224 : decode cX9_makes 224 = .ok (.goto 9, 3) := dk_167 0 9 (dk_at dksX9_makes_9 13 rfl rfl)
theorem dX9_makes_227 : decode cX9_makes 227 = .ok (.iinc 5 1, 3) := dk_132 5 1 (dk_at dksX9_makes_9 16 rfl rfl)
theorem dX9_makes_230 : decode cX9_makes 230 = .ok (.goto (-68), 3) := dk_167 255 188 (dk_at dksX9_makes_9 19 rfl rfl)
theorem dX9_makes_233 : decode cX9_makes 233 = .ok (.aload_n 0, 1) := dk_42 (dk_at dksX9_makes_9 22 rfl rfl)
theorem dX9_makes_234 : decode cX9_makes 234 = .ok (.getfield 33, 3) := dk_180 0 33 (dk_at dksX9_makes_10 0 rfl rfl)
theorem dX9_makes_237 : decode cX9_makes 237 = .ok (.bipush 10, 2) := dk_16 10 (dk_at dksX9_makes_10 3 rfl rfl)
theorem dX9_makes_239 : decode cX9_makes 239 = .ok (.iload_n 3, 1) := dk_29 (dk_at dksX9_makes_10 5 rfl rfl)
theorem dX9_makes_240 : decode cX9_makes 240 = .ok (.iadd, 1) := dk_96 (dk_at dksX9_makes_10 6 rfl rfl)
theorem dX9_makes_241 : decode cX9_makes 241 = .ok (.dup2, 1) := dk_92 (dk_at dksX9_makes_10 7 rfl rfl)
theorem dX9_makes_242 : decode cX9_makes 242 = .ok (.iaload, 1) := dk_46 (dk_at dksX9_makes_10 8 rfl rfl)
theorem dX9_makes_243 : decode cX9_makes 243 = .ok (.iload 4, 2) := dk_21 4 (dk_at dksX9_makes_10 9 rfl rfl)
theorem dX9_makes_245 : decode cX9_makes 245 = .ok (.iadd, 1) := dk_96 (dk_at dksX9_makes_10 11 rfl rfl)
theorem dX9_makes_246 : decode cX9_makes 246 = .ok (.iastore, 1) := dk_79 (dk_at dksX9_makes_10 12 rfl rfl)
theorem dX9_makes_247 : decode cX9_makes 247 = .ok (.iconst 0, 1) := dk_3 (dk_at dksX9_makes_10 13 rfl rfl)
theorem dX9_makes_248 : decode cX9_makes 248 = .ok (.ireturn, 1) := dk_172 (dk_at dksX9_makes_10 14 rfl rfl)
