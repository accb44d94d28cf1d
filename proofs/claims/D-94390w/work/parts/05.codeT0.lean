set_option maxRecDepth 100000
abbrev cX9_init : ByteArray := prog_23_method_1_code
def yX9_init : MethodName := ⟨RX9, "<init>", "()V"⟩
def dkwX9_init_13 : List UInt8 := [42, 3, 182, 0, 118, 42, 182, 0, 122, 177]
abbrev dktX9_init_13 : List UInt8 := dkwX9_init_13 ++ []
def dkwX9_init_12 : List UInt8 := [16, 16, 188, 10, 181, 0, 109, 42, 16, 12, 188, 10, 181, 0, 112, 42, 17, 5, 20, 188, 10, 181, 0, 115]
abbrev dktX9_init_12 : List UInt8 := dkwX9_init_12 ++ dktX9_init_13
def dkwX9_init_11 : List UInt8 := [188, 10, 181, 0, 100, 42, 17, 1, 0, 188, 4, 181, 0, 103, 42, 17, 1, 0, 188, 10, 181, 0, 106, 42]
abbrev dktX9_init_11 : List UInt8 := dkwX9_init_11 ++ dktX9_init_12
def dkwX9_init_10 : List UInt8 := [181, 0, 91, 42, 17, 1, 248, 188, 10, 181, 0, 94, 42, 16, 16, 188, 10, 181, 0, 97, 42, 16, 16]
abbrev dktX9_init_10 : List UInt8 := dkwX9_init_10 ++ dktX9_init_11
def dkwX9_init_9 : List UInt8 := [17, 1, 244, 188, 10, 181, 0, 85, 42, 17, 3, 132, 188, 10, 181, 0, 88, 42, 16, 8, 188, 10]
abbrev dktX9_init_9 : List UInt8 := dkwX9_init_9 ++ dktX9_init_10
def dkwX9_init_8 : List UInt8 := [188, 10, 181, 0, 76, 42, 17, 1, 244, 188, 10, 181, 0, 79, 42, 16, 9, 188, 10, 181, 0, 82, 42]
abbrev dktX9_init_8 : List UInt8 := dkwX9_init_8 ++ dktX9_init_9
def dkwX9_init_7 : List UInt8 := [188, 4, 181, 0, 67, 42, 16, 30, 188, 11, 181, 0, 70, 42, 16, 30, 188, 10, 181, 0, 73, 42, 16, 30]
abbrev dktX9_init_7 : List UInt8 := dkwX9_init_7 ++ dktX9_init_8
def dkwX9_init_6 : List UInt8 := [181, 0, 58, 42, 17, 1, 144, 188, 10, 181, 0, 61, 42, 17, 1, 144, 188, 10, 181, 0, 64, 42, 6]
abbrev dktX9_init_6 : List UInt8 := dkwX9_init_6 ++ dktX9_init_7
def dkwX9_init_5 : List UInt8 := [17, 1, 144, 188, 10, 181, 0, 52, 42, 17, 1, 144, 188, 10, 181, 0, 55, 42, 17, 1, 144, 188, 10]
abbrev dktX9_init_5 : List UInt8 := dkwX9_init_5 ++ dktX9_init_6
def dkwX9_init_4 : List UInt8 := [188, 10, 181, 0, 42, 42, 5, 188, 10, 181, 0, 45, 42, 17, 1, 144, 188, 4, 181, 0, 48, 42]
abbrev dktX9_init_4 : List UInt8 := dkwX9_init_4 ++ dktX9_init_5
def dkwX9_init_3 : List UInt8 := [181, 0, 33, 42, 5, 188, 10, 181, 0, 36, 42, 17, 3, 232, 188, 10, 181, 0, 39, 42, 17, 3, 232]
abbrev dktX9_init_3 : List UInt8 := dkwX9_init_3 ++ dktX9_init_4
def dkwX9_init_2 : List UInt8 := [181, 0, 22, 42, 2, 181, 0, 26, 42, 17, 1, 164, 188, 10, 181, 0, 30, 42, 17, 4, 236, 188, 10]
abbrev dktX9_init_2 : List UInt8 := dkwX9_init_2 ++ dktX9_init_3
def dkwX9_init_1 : List UInt8 := [17, 7, 209, 188, 10, 181, 0, 16, 42, 17, 7, 209, 188, 10, 181, 0, 19, 42, 17, 7, 209, 188, 11]
abbrev dktX9_init_1 : List UInt8 := dkwX9_init_1 ++ dktX9_init_2
def dkwX9_init_0 : List UInt8 := [42, 183, 0, 1, 42, 17, 7, 208, 188, 10, 181, 0, 7, 42, 17, 7, 209, 188, 10, 181, 0, 13, 42]
abbrev dktX9_init_0 : List UInt8 := dkwX9_init_0 ++ dktX9_init_1
theorem dksX9_init_0 : cX9_init.data.toList.drop 0 = dktX9_init_0 := by decide +kernel
theorem dksX9_init_1 : cX9_init.data.toList.drop 23 = dktX9_init_1 := dk_seg dksX9_init_0 23 rfl rfl
theorem dksX9_init_2 : cX9_init.data.toList.drop 46 = dktX9_init_2 := dk_seg dksX9_init_1 23 rfl rfl
theorem dksX9_init_3 : cX9_init.data.toList.drop 69 = dktX9_init_3 := dk_seg dksX9_init_2 23 rfl rfl
theorem dksX9_init_4 : cX9_init.data.toList.drop 92 = dktX9_init_4 := dk_seg dksX9_init_3 23 rfl rfl
theorem dksX9_init_5 : cX9_init.data.toList.drop 114 = dktX9_init_5 := dk_seg dksX9_init_4 22 rfl rfl
theorem dksX9_init_6 : cX9_init.data.toList.drop 137 = dktX9_init_6 := dk_seg dksX9_init_5 23 rfl rfl
theorem dksX9_init_7 : cX9_init.data.toList.drop 160 = dktX9_init_7 := dk_seg dksX9_init_6 23 rfl rfl
theorem dksX9_init_8 : cX9_init.data.toList.drop 184 = dktX9_init_8 := dk_seg dksX9_init_7 24 rfl rfl
theorem dksX9_init_9 : cX9_init.data.toList.drop 207 = dktX9_init_9 := dk_seg dksX9_init_8 23 rfl rfl
theorem dksX9_init_10 : cX9_init.data.toList.drop 229 = dktX9_init_10 := dk_seg dksX9_init_9 22 rfl rfl
theorem dksX9_init_11 : cX9_init.data.toList.drop 252 = dktX9_init_11 := dk_seg dksX9_init_10 23 rfl rfl
theorem dksX9_init_12 : cX9_init.data.toList.drop 276 = dktX9_init_12 := dk_seg dksX9_init_11 24 rfl rfl
theorem dksX9_init_13 : cX9_init.data.toList.drop 300 = dktX9_init_13 := dk_seg dksX9_init_12 24 rfl rfl
theorem dX9_init_0 : decode cX9_init 0 = .ok (.aload_n 0, 1) := dk_42 (dk_at dksX9_init_0 0 rfl rfl)
theorem dX9_init_1 : decode cX9_init 1 = .ok (.invokespecial 1, 3) := dk_183 0 1 (dk_at dksX9_init_0 1 rfl rfl)
theorem dX9_init_4 : decode cX9_init 4 = .ok (.aload_n 0, 1) := dk_42 (dk_at dksX9_init_0 4 rfl rfl)
theorem dX9_init_5 : decode cX9_init 5 = .ok (.sipush 2000, 3) := dk_17 7 208 (dk_at dksX9_init_0 5 rfl rfl)
theorem dX9_init_8 : decode cX9_init 8 = .ok (.newarray .int, 2) := dk_188_10 (dk_at dksX9_init_0 8 rfl rfl)
theorem dX9_init_10 : decode cX9_init 10 = .ok (.putfield 7, 3) := dk_181 0 7 (dk_at dksX9_init_0 10 rfl rfl)
theorem dX9_init_13 : decode cX9_init 13 = .ok (.aload_n 0, 1) := dk_42 (dk_at dksX9_init_0 13 rfl rfl)
theorem dX9_init_14 : decode cX9_init 14 = .ok (.sipush 2001, 3) := dk_17 7 209 (dk_at dksX9_init_0 14 rfl rfl)
theorem dX9_init_17 : decode cX9_init 17 = .ok (.newarray .int, 2) := dk_188_10 (dk_at dksX9_init_0 17 rfl rfl)
theorem dX9_init_19 : decode cX9_init 19 = .ok (.putfield 13, 3) := dk_181 0 13 (dk_at dksX9_init_0 19 rfl rfl)
theorem dX9_init_22 : decode cX9_init 22 = .ok (.aload_n 0, 1) := dk_42 (dk_at dksX9_init_0 22 rfl rfl)
theorem dX9_init_23 : decode cX9_init 23 = .ok (.sipush 2001, 3) := dk_17 7 209 (dk_at dksX9_init_1 0 rfl rfl)
theorem dX9_init_26 : decode cX9_init 26 = .ok (.newarray .int, 2) := dk_188_10 (dk_at dksX9_init_1 3 rfl rfl)
theorem dX9_init_28 : decode cX9_init 28 = .ok (.putfield 16, 3) := dk_181 0 16 (dk_at dksX9_init_1 5 rfl rfl)
theorem dX9_init_31 : decode cX9_init 31 = .ok (.aload_n 0, 1) := dk_42 (dk_at dksX9_init_1 8 rfl rfl)
theorem dX9_init_32 : decode cX9_init 32 = .ok (.sipush 2001, 3) := dk_17 7 209 (dk_at dksX9_init_1 9 rfl rfl)
theorem dX9_init_35 : decode cX9_init 35 = .ok (.newarray .int, 2) := dk_188_10 (dk_at dksX9_init_1 12 rfl rfl)
theorem dX9_init_37 : decode cX9_init 37 = .ok (.putfield 19, 3) := dk_181 0 19 (dk_at dksX9_init_1 14 rfl rfl)
theorem dX9_init_40 : decode cX9_init 40 = .ok (.aload_n 0, 1) := dk_42 (dk_at dksX9_init_1 17 rfl rfl)
theorem dX9_init_41 : decode cX9_init 41 = .ok (.sipush 2001, 3) := dk_17 7 209 (dk_at dksX9_init_1 18 rfl rfl)
theorem dX9_init_44 : decode cX9_init 44 = .ok (.newarray .long, 2) := dk_188_11 (dk_at dksX9_init_1 21 rfl rfl)
theorem dX9_init_46 : decode cX9_init 46 = .ok (.putfield 22, 3) := dk_181 0 22 (dk_at dksX9_init_2 0 rfl rfl)
theorem dX9_init_49 : decode cX9_init 49 = .ok (.aload_n 0, 1) := dk_42 (dk_at dksX9_init_2 3 rfl rfl)
theorem dX9_init_50 : decode cX9_init 50 = .ok (.iconst (-1), 1) := dk_2 (dk_at dksX9_init_2 4 rfl rfl)
theorem dX9_init_51 : decode cX9_init 51 = .ok (.putfield 26, 3) := dk_181 0 26 (dk_at dksX9_init_2 5 rfl rfl)
theorem dX9_init_54 : decode cX9_init 54 = .ok (.aload_n 0, 1) := dk_42 (dk_at dksX9_init_2 8 rfl rfl)
theorem dX9_init_55 : decode cX9_init 55 = .ok (.sipush 420, 3) := dk_17 1 164 (dk_at dksX9_init_2 9 rfl rfl)
theorem dX9_init_58 : decode cX9_init 58 = .ok (.newarray .int, 2) := dk_188_10 (dk_at dksX9_init_2 12 rfl rfl)
theorem dX9_init_60 : decode cX9_init 60 = .ok (.putfield 30, 3) := dk_181 0 30 (dk_at dksX9_init_2 14 rfl rfl)
theorem dX9_init_63 : decode cX9_init 63 = .ok (.aload_n 0, 1) := dk_42 (dk_at dksX9_init_2 17 rfl rfl)
theorem dX9_init_64 : decode cX9_init 64 = .ok (.sipush 1260, 3) := dk_17 4 236 (dk_at dksX9_init_2 18 rfl rfl)
theorem dX9_init_67 : decode cX9_init 67 = .ok (.newarray .int, 2) := dk_188_10 (dk_at dksX9_init_2 21 rfl rfl)
theorem dX9_init_69 : decode cX9_init 69 = .ok (.putfield 33, 3) := dk_181 0 33 (dk_at dksX9_init_3 0 rfl rfl)
theorem dX9_init_72 : decode cX9_init 72 = .ok (.aload_n 0, 1) := dk_42 (dk_at dksX9_init_3 3 rfl rfl)
theorem dX9_init_73 : decode cX9_init 73 = .ok (.iconst 2, 1) := dk_5 (dk_at dksX9_init_3 4 rfl rfl)
theorem dX9_init_74 : decode cX9_init 74 = .ok (.newarray .int, 2) := dk_188_10 (dk_at dksX9_init_3 5 rfl rfl)
theorem dX9_init_76 : decode cX9_init 76 = .ok (.putfield 36, 3) := dk_181 0 36 (dk_at dksX9_init_3 7 rfl rfl)
theorem dX9_init_79 : decode cX9_init 79 = .ok (.aload_n 0, 1) := dk_42 (dk_at dksX9_init_3 10 rfl rfl)
theorem dX9_init_80 : decode cX9_init 80 = .ok (.sipush 1000, 3) := dk_17 3 232 (dk_at dksX9_init_3 11 rfl rfl)
theorem dX9_init_83 : decode cX9_init 83 = .ok (.newarray .int, 2) := dk_188_10 (dk_at dksX9_init_3 14 rfl rfl)
theorem dX9_init_85 : decode cX9_init 85 = .ok (.putfield 39, 3) := dk_181 0 39 (dk_at dksX9_init_3 16 rfl rfl)
theorem dX9_init_88 : decode cX9_init 88 = .ok (.aload_n 0, 1) := dk_42 (dk_at dksX9_init_3 19 rfl rfl)
theorem dX9_init_89 : decode cX9_init 89 = .ok (.sipush 1000, 3) := dk_17 3 232 (dk_at dksX9_init_3 20 rfl rfl)
theorem dX9_init_92 : decode cX9_init 92 = .ok (.newarray .int, 2) := dk_188_10 (dk_at dksX9_init_4 0 rfl rfl)
theorem dX9_init_94 : decode cX9_init 94 = .ok (.putfield 42, 3) := dk_181 0 42 (dk_at dksX9_init_4 2 rfl rfl)
theorem dX9_init_97 : decode cX9_init 97 = .ok (.aload_n 0, 1) := dk_42 (dk_at dksX9_init_4 5 rfl rfl)
theorem dX9_init_98 : decode cX9_init 98 = .ok (.iconst 2, 1) := dk_5 (dk_at dksX9_init_4 6 rfl rfl)
theorem dX9_init_99 : decode cX9_init 99 = .ok (.newarray .int, 2) := dk_188_10 (dk_at dksX9_init_4 7 rfl rfl)
theorem dX9_init_101 : decode cX9_init 101 = .ok (.putfield 45, 3) := dk_181 0 45 (dk_at dksX9_init_4 9 rfl rfl)
theorem dX9_init_104 : decode cX9_init 104 = .ok (.aload_n 0, 1) := dk_42 (dk_at dksX9_init_4 12 rfl rfl)
theorem dX9_init_105 : decode cX9_init 105 = .ok (.sipush 400, 3) := dk_17 1 144 (dk_at dksX9_init_4 13 rfl rfl)
theorem dX9_init_108 : decode cX9_init 108 = .ok (.newarray .boolean, 2) := dk_188_4 (dk_at dksX9_init_4 16 rfl rfl)
theorem dX9_init_110 : decode cX9_init 110 = .ok (.putfield 48, 3) := dk_181 0 48 (dk_at dksX9_init_4 18 rfl rfl)
theorem dX9_init_113 : decode cX9_init 113 = .ok (.aload_n 0, 1) := dk_42 (dk_at dksX9_init_4 21 rfl rfl)
theorem dX9_init_114 : decode cX9_init 114 = .ok (.sipush 400, 3) := dk_17 1 144 (dk_at dksX9_init_5 0 rfl rfl)
theorem dX9_init_117 : decode cX9_init 117 = .ok (.newarray .int, 2) := dk_188_10 (dk_at dksX9_init_5 3 rfl rfl)
theorem dX9_init_119 : decode cX9_init 119 = .ok (.putfield 52, 3) := dk_181 0 52 (dk_at dksX9_init_5 5 rfl rfl)
theorem dX9_init_122 : decode cX9_init 122 = .ok (.aload_n 0, 1) := dk_42 (dk_at dksX9_init_5 8 rfl rfl)
theorem dX9_init_123 : decode cX9_init 123 = .ok (.sipush 400, 3) := dk_17 1 144 (dk_at dksX9_init_5 9 rfl rfl)
theorem dX9_init_126 : decode cX9_init 126 = .ok (.newarray .int, 2) := dk_188_10 (dk_at dksX9_init_5 12 rfl rfl)
theorem dX9_init_128 : decode cX9_init 128 = .ok (.putfield 55, 3) := dk_181 0 55 (dk_at dksX9_init_5 14 rfl rfl)
theorem dX9_init_131 : decode cX9_init 131 = .ok (.aload_n 0, 1) := dk_42 (dk_at dksX9_init_5 17 rfl rfl)
theorem dX9_init_132 : decode cX9_init 132 = .ok (.sipush 400, 3) := dk_17 1 144 (dk_at dksX9_init_5 18 rfl rfl)
theorem dX9_init_135 : decode cX9_init 135 = .ok (.newarray .int, 2) := dk_188_10 (dk_at dksX9_init_5 21 rfl rfl)
theorem dX9_init_137 : decode cX9_init 137 = .ok (.putfield 58, 3) := dk_181 0 58 (dk_at dksX9_init_6 0 rfl rfl)
theorem dX9_init_140 : decode cX9_init 140 = .ok (.aload_n 0, 1) := dk_42 (dk_at dksX9_init_6 3 rfl rfl)
theorem dX9_init_141 : decode cX9_init 141 = .ok (.sipush 400, 3) := dk_17 1 144 (dk_at dksX9_init_6 4 rfl rfl)
theorem dX9_init_144 : decode cX9_init 144 = .ok (.newarray .int, 2) := dk_188_10 (dk_at dksX9_init_6 7 rfl rfl)
theorem dX9_init_146 : decode cX9_init 146 = .ok (.putfield 61, 3) := dk_181 0 61 (dk_at dksX9_init_6 9 rfl rfl)
theorem dX9_init_149 : decode cX9_init 149 = .ok (.aload_n 0, 1) := dk_42 (dk_at dksX9_init_6 12 rfl rfl)
theorem dX9_init_150 : decode cX9_init 150 = .ok (.sipush 400, 3) := dk_17 1 144 (dk_at dksX9_init_6 13 rfl rfl)
theorem dX9_init_153 : decode cX9_init 153 = .ok (.newarray .int, 2) := dk_188_10 (dk_at dksX9_init_6 16 rfl rfl)
theorem dX9_init_155 : decode cX9_init 155 = .ok (.putfield 64, 3) := dk_181 0 64 (dk_at dksX9_init_6 18 rfl rfl)
theorem dX9_init_158 : decode cX9_init 158 = .ok (.aload_n 0, 1) := dk_42 (dk_at dksX9_init_6 21 rfl rfl)
theorem dX9_init_159 : decode cX9_init 159 = .ok (.iconst 3, 1) := dk_6 (dk_at dksX9_init_6 22 rfl rfl)
theorem dX9_init_160 : decode cX9_init 160 = .ok (.newarray .boolean, 2) := dk_188_4 (dk_at dksX9_init_7 0 rfl rfl)
theorem dX9_init_162 : decode cX9_init 162 = .ok (.putfield 67, 3) := dk_181 0 67 (dk_at dksX9_init_7 2 rfl rfl)
theorem dX9_init_165 : decode cX9_init 165 = .ok (.aload_n 0, 1) := dk_42 (dk_at dksX9_init_7 5 rfl rfl)
theorem dX9_init_166 : decode cX9_init 166 = .ok (.bipush 30, 2) := dk_16 30 (dk_at dksX9_init_7 6 rfl rfl)
theorem dX9_init_168 : decode cX9_init 168 = .ok (.newarray .long, 2) := dk_188_11 (dk_at dksX9_init_7 8 rfl rfl)
theorem dX9_init_170 : decode cX9_init 170 = .ok (.putfield 70, 3) := dk_181 0 70 (dk_at dksX9_init_7 10 rfl rfl)
theorem dX9_init_173 : decode cX9_init 173 = .ok (.aload_n 0, 1) := dk_42 (dk_at dksX9_init_7 13 rfl rfl)
theorem dX9_init_174 : decode cX9_init 174 = .ok (.bipush 30, 2) := dk_16 30 (dk_at dksX9_init_7 14 rfl rfl)
theorem dX9_init_176 : decode cX9_init 176 = .ok (.newarray .int, 2) := dk_188_10 (dk_at dksX9_init_7 16 rfl rfl)
theorem dX9_init_178 : decode cX9_init 178 = .ok (.putfield 73, 3) := dk_181 0 73 (dk_at dksX9_init_7 18 rfl rfl)
theorem dX9_init_181 : decode cX9_init 181 = .ok (.aload_n 0, 1) := dk_42 (dk_at dksX9_init_7 21 rfl rfl)
theorem dX9_init_182 : decode cX9_init 182 = .ok (.bipush 30, 2) := dk_16 30 (dk_at dksX9_init_7 22 rfl rfl)
theorem dX9_init_184 : decode cX9_init 184 = .ok (.newarray .int, 2) := dk_188_10 (dk_at dksX9_init_8 0 rfl rfl)
theorem dX9_init_186 : decode cX9_init 186 = .ok (.putfield 76, 3) := dk_181 0 76 (dk_at dksX9_init_8 2 rfl rfl)
theorem dX9_init_189 : decode cX9_init 189 = .ok (.aload_n 0, 1) := dk_42 (dk_at dksX9_init_8 5 rfl rfl)
theorem dX9_init_190 : decode cX9_init 190 = .ok (.sipush 500, 3) := dk_17 1 244 (dk_at dksX9_init_8 6 rfl rfl)
theorem dX9_init_193 : decode cX9_init 193 = .ok (.newarray .int, 2) := dk_188_10 (dk_at dksX9_init_8 9 rfl rfl)
theorem dX9_init_195 : decode cX9_init 195 = .ok (.putfield 79, 3) := dk_181 0 79 (dk_at dksX9_init_8 11 rfl rfl)
theorem dX9_init_198 : decode cX9_init 198 = .ok (.aload_n 0, 1) := dk_42 (dk_at dksX9_init_8 14 rfl rfl)
theorem dX9_init_199 : decode cX9_init 199 = .ok (.bipush 9, 2) := dk_16 9 (dk_at dksX9_init_8 15 rfl rfl)
theorem dX9_init_201 : decode cX9_init 201 = .ok (.newarray .int, 2) := dk_188_10 (dk_at dksX9_init_8 17 rfl rfl)
theorem dX9_init_203 : decode cX9_init 203 = .ok (.putfield 82, 3) := dk_181 0 82 (dk_at dksX9_init_8 19 rfl rfl)
theorem dX9_init_206 : decode cX9_init 206 = .ok (.aload_n 0, 1) := dk_42 (dk_at dksX9_init_8 22 rfl rfl)
theorem dX9_init_207 : decode cX9_init 207 = .ok (.sipush 500, 3) := dk_17 1 244 (dk_at dksX9_init_9 0 rfl rfl)
theorem dX9_init_210 : decode cX9_init 210 = .ok (.newarray .int, 2) := dk_188_10 (dk_at dksX9_init_9 3 rfl rfl)
theorem dX9_init_212 : decode cX9_init 212 = .ok (.putfield 85, 3) := dk_181 0 85 (dk_at dksX9_init_9 5 rfl rfl)
theorem dX9_init_215 : decode cX9_init 215 = .ok (.aload_n 0, 1) := dk_42 (dk_at dksX9_init_9 8 rfl rfl)
theorem dX9_init_216 : decode cX9_init 216 = .ok (.sipush 900, 3) := dk_17 3 132 (dk_at dksX9_init_9 9 rfl rfl)
theorem dX9_init_219 : decode cX9_init 219 = .ok (.newarray .int, 2) := dk_188_10 (dk_at dksX9_init_9 12 rfl rfl)
theorem dX9_init_221 : decode cX9_init 221 = .ok (.putfield 88, 3) := dk_181 0 88 (dk_at dksX9_init_9 14 rfl rfl)
theorem dX9_init_224 : decode cX9_init 224 = .ok (.aload_n 0, 1) := dk_42 (dk_at dksX9_init_9 17 rfl rfl)
theorem dX9_init_225 : decode cX9_init 225 = .ok (.bipush 8, 2) := dk_16 8 (dk_at dksX9_init_9 18 rfl rfl)
theorem dX9_init_227 : decode cX9_init 227 = .ok (.newarray .int, 2) := dk_188_10 (dk_at dksX9_init_9 20 rfl rfl)
theorem dX9_init_229 : decode cX9_init 229 = .ok (.putfield 91, 3) := dk_181 0 91 (dk_at dksX9_init_10 0 rfl rfl)
theorem dX9_init_232 : decode cX9_init 232 = .ok (.aload_n 0, 1) := dk_42 (dk_at dksX9_init_10 3 rfl rfl)
theorem dX9_init_233 : decode cX9_init 233 = .ok (.sipush 504, 3) := dk_17 1 248 (dk_at dksX9_init_10 4 rfl rfl)
theorem dX9_init_236 : decode cX9_init 236 = .ok (.newarray .int, 2) := dk_188_10 (dk_at dksX9_init_10 7 rfl rfl)
theorem dX9_init_238 : decode cX9_init 238 = .ok (.putfield 94, 3) := dk_181 0 94 (dk_at dksX9_init_10 9 rfl rfl)
theorem dX9_init_241 : decode cX9_init 241 = .ok (.aload_n 0, 1) := dk_42 (dk_at dksX9_init_10 12 rfl rfl)
theorem dX9_init_242 : decode cX9_init 242 = .ok (.bipush 16, 2) := dk_16 16 (dk_at dksX9_init_10 13 rfl rfl)
theorem dX9_init_244 : decode cX9_init 244 = .ok (.newarray .int, 2) := dk_188_10 (dk_at dksX9_init_10 15 rfl rfl)
theorem dX9_init_246 : decode cX9_init 246 = .ok (.putfield 97, 3) := dk_181 0 97 (dk_at dksX9_init_10 17 rfl rfl)
theorem dX9_init_249 : decode cX9_init 249 = .ok (.aload_n 0, 1) := dk_42 (dk_at dksX9_init_10 20 rfl rfl)
theorem dX9_init_250 : decode cX9_init 250 = .ok (.bipush 16, 2) := dk_16 16 (dk_at dksX9_init_10 21 rfl rfl)
theorem dX9_init_252 : decode cX9_init 252 = .ok (.newarray .int, 2) := dk_188_10 (dk_at dksX9_init_11 0 rfl rfl)
theorem dX9_init_254 : decode cX9_init 254 = .ok (.putfield 100, 3) := dk_181 0 100 (dk_at dksX9_init_11 2 rfl rfl)
theorem dX9_init_257 : decode cX9_init 257 = .ok (.aload_n 0, 1) := dk_42 (dk_at dksX9_init_11 5 rfl rfl)
theorem dX9_init_258 : decode cX9_init 258 = .ok (.sipush 256, 3) := dk_17 1 0 (dk_at dksX9_init_11 6 rfl rfl)
theorem dX9_init_261 : decode cX9_init 261 = .ok (.newarray .boolean, 2) := dk_188_4 (dk_at dksX9_init_11 9 rfl rfl)
theorem dX9_init_263 : decode cX9_init 263 = .ok (.putfield 103, 3) := dk_181 0 103 (dk_at dksX9_init_11 11 rfl rfl)
theorem dX9_init_266 : decode cX9_init 266 = .ok (.aload_n 0, 1) := dk_42 (dk_at dksX9_init_11 14 rfl rfl)
theorem dX9_init_267 : decode cX9_init 267 = .ok (.sipush 256, 3) := dk_17 1 0 (dk_at dksX9_init_11 15 rfl rfl)
theorem dX9_init_270 : decode cX9_init 270 = .ok (.newarray .int, 2) := dk_188_10 (dk_at dksX9_init_11 18 rfl rfl)
theorem dX9_init_272 : decode cX9_init 272 = .ok (.putfield 106, 3) := dk_181 0 106 (dk_at dksX9_init_11 20 rfl rfl)
theorem dX9_init_275 : decode cX9_init 275 = .ok (.aload_n 0, 1) := dk_42 (dk_at dksX9_init_11 23 rfl rfl)
theorem dX9_init_276 : decode cX9_init 276 = .ok (.bipush 16, 2) := dk_16 16 (dk_at dksX9_init_12 0 rfl rfl)
theorem dX9_init_278 : decode cX9_init 278 = .ok (.newarray .int, 2) := dk_188_10 (dk_at dksX9_init_12 2 rfl rfl)
theorem dX9_init_280 : decode cX9_init 280 = .ok (.putfield 109, 3) := dk_181 0 109 (dk_at dksX9_init_12 4 rfl rfl)
theorem dX9_init_283 : decode cX9_init 283 = .ok (.aload_n 0, 1) := dk_42 (dk_at dksX9_init_12 7 rfl rfl)
theorem dX9_init_284 : decode cX9_init 284 = .ok (.bipush 12, 2) := dk_16 12 (dk_at dksX9_init_12 8 rfl rfl)
theorem dX9_init_286 : decode cX9_init 286 = .ok (.newarray .int, 2) := dk_188_10 (dk_at dksX9_init_12 10 rfl rfl)
theorem dX9_init_288 : decode cX9_init 288 = .ok (.putfield 112, 3) := dk_181 0 112 (dk_at dksX9_init_12 12 rfl rfl)
theorem dX9_init_291 : decode cX9_init 291 = .ok (.aload_n 0, 1) := dk_42 (dk_at dksX9_init_12 15 rfl rfl)
theorem dX9_init_292 : decode cX9_init 292 = .ok (.sipush 1300, 3) := dk_17 5 20 (dk_at dksX9_init_12 16 rfl rfl)
theorem dX9_init_295 : decode cX9_init 295 = .ok (.newarray .int, 2) := dk_188_10 (dk_at dksX9_init_12 19 rfl rfl)
theorem dX9_init_297 : decode cX9_init 297 = .ok (.putfield 115, 3) := dk_181 0 115 (dk_at dksX9_init_12 21 rfl rfl)
theorem dX9_init_300 : decode cX9_init 300 = .ok (.aload_n 0, 1) := dk_42 (dk_at dksX9_init_13 0 rfl rfl)
theorem dX9_init_301 : decode cX9_init 301 = .ok (.iconst 0, 1) := dk_3 (dk_at dksX9_init_13 1 rfl rfl)
theorem dX9_init_302 : decode cX9_init 302 = .ok (.invokevirtual 118, 3) := dk_182 0 118 (dk_at dksX9_init_13 2 rfl rfl)
theorem dX9_init_305 : decode cX9_init 305 = .ok (.aload_n 0, 1) := dk_42 (dk_at dksX9_init_13 5 rfl rfl)
theorem dX9_init_306 : decode cX9_init 306 = .ok (.invokevirtual 122, 3) := dk_182 0 122 (dk_at dksX9_init_13 6 rfl rfl)
theorem dX9_init_309 : decode cX9_init 309 = .ok (.return_, 1) := dk_177 (dk_at dksX9_init_13 9 rfl rfl)
abbrev cX9_begin : ByteArray := prog_23_method_29_code
def yX9_begin : MethodName := ⟨RX9, "begin", "(I)V"⟩
def dkwX9_begin_4 : List UInt8 := [79, 42, 180, 0, 45, 27, 3, 79, 177]
abbrev dktX9_begin_4 : List UInt8 := dkwX9_begin_4 ++ []
def dkwX9_begin_3 : List UInt8 := [17, 0, 210, 27, 104, 16, 10, 96, 28, 96, 2, 79, 132, 2, 1, 167, 255, 231, 42, 180, 0, 36, 27, 3]
abbrev dktX9_begin_3 : List UInt8 := dkwX9_begin_3 ++ dktX9_begin_4
def dkwX9_begin_2 : List UInt8 := [17, 0, 210, 27, 104, 16, 7, 96, 16, 10, 79, 3, 61, 28, 16, 6, 162, 0, 25, 42, 180, 0, 30]
abbrev dktX9_begin_2 : List UInt8 := dkwX9_begin_2 ++ dktX9_begin_3
def dkwX9_begin_1 : List UInt8 := [132, 2, 1, 167, 255, 233, 42, 180, 0, 30, 17, 0, 210, 27, 104, 16, 6, 96, 5, 79, 42, 180, 0, 30]
abbrev dktX9_begin_1 : List UInt8 := dkwX9_begin_1 ++ dktX9_begin_2
def dkwX9_begin_0 : List UInt8 := [3, 61, 28, 17, 0, 210, 162, 0, 22, 42, 180, 0, 30, 17, 0, 210, 27, 104, 28, 96, 3, 79]
abbrev dktX9_begin_0 : List UInt8 := dkwX9_begin_0 ++ dktX9_begin_1
theorem dksX9_begin_0 : cX9_begin.data.toList.drop 0 = dktX9_begin_0 := by decide +kernel
theorem dksX9_begin_1 : cX9_begin.data.toList.drop 22 = dktX9_begin_1 := dk_seg dksX9_begin_0 22 rfl rfl
theorem dksX9_begin_2 : cX9_begin.data.toList.drop 46 = dktX9_begin_2 := dk_seg dksX9_begin_1 24 rfl rfl
theorem dksX9_begin_3 : cX9_begin.data.toList.drop 69 = dktX9_begin_3 := dk_seg dksX9_begin_2 23 rfl rfl
theorem dksX9_begin_4 : cX9_begin.data.toList.drop 93 = dktX9_begin_4 := dk_seg dksX9_begin_3 24 rfl rfl
theorem dX9_begin_0 : decode cX9_begin 0 = .ok (.iconst 0, 1) := dk_3 (dk_at dksX9_begin_0 0 rfl rfl)
theorem dX9_begin_1 : decode cX9_begin 1 = .ok (.istore_n 2, 1) := dk_61 (dk_at dksX9_begin_0 1 rfl rfl)
theorem dX9_begin_2 : decode cX9_begin 2 = .ok (.iload_n 2, 1) := dk_28 (dk_at dksX9_begin_0 2 rfl rfl)
theorem dX9_begin_3 : decode cX9_begin 3 = .ok (.sipush 210, 3) := dk_17 0 210 (dk_at dksX9_begin_0 3 rfl rfl)
theorem dX9_begin_6 : decode cX9_begin 6 = .ok (.if_icmp .ge 22, 3) := dk_162 0 22 (dk_at dksX9_begin_0 6 rfl rfl)
theorem dX9_begin_9 : decode cX9_begin 9 = .ok (.aload_n 0, 1) := dk_42 (dk_at dksX9_begin_0 9 rfl rfl)
theorem dX9_begin_10 : decode cX9_begin 10 = .ok (.getfield 30, 3) := dk_180 0 30 (dk_at dksX9_begin_0 10 rfl rfl)
theorem dX9_begin_13 : decode cX9_begin 13 = .ok (.sipush 210, 3) := dk_17 0 210 (dk_at dksX9_begin_0 13 rfl rfl)
theorem dX9_begin_16 : decode cX9_begin 16 = .ok (.iload_n 1, 1) := dk_27 (dk_at dksX9_begin_0 16 rfl rfl)
theorem dX9_begin_17 : decode cX9_begin 17 = .ok (.imul, 1) := dk_104 (dk_at dksX9_begin_0 17 rfl rfl)
theorem dX9_begin_18 : decode cX9_begin 18 = .ok (.iload_n 2, 1) := dk_28 (dk_at dksX9_begin_0 18 rfl rfl)
theorem dX9_begin_19 : decode cX9_begin 19 = .ok (.iadd, 1) := dk_96 (dk_at dksX9_begin_0 19 rfl rfl)
theorem dX9_begin_20 : decode cX9_begin 20 = .ok (.iconst 0, 1) := dk_3 (dk_at dksX9_begin_0 20 rfl rfl)
theorem dX9_begin_21 : decode cX9_begin 21 = .ok (.iastore, 1) := dk_79 (dk_at dksX9_begin_0 21 rfl rfl)
theorem dX9_begin_22 : decode cX9_begin 22 = .ok (.iinc 2 1, 3) := dk_132 2 1 (dk_at dksX9_begin_1 0 rfl rfl)
theorem dX9_begin_25 : decode cX9_begin 25 = .ok (.goto (-23), 3) := dk_167 255 233 (dk_at dksX9_begin_1 3 rfl rfl)
theorem dX9_begin_28 : decode cX9_begin 28 = .ok (.aload_n 0, 1) := dk_42 (dk_at dksX9_begin_1 6 rfl rfl)
theorem dX9_begin_29 : decode cX9_begin 29 = .ok (.getfield 30, 3) := dk_180 0 30 (dk_at dksX9_begin_1 7 rfl rfl)
theorem dX9_begin_32 : decode cX9_begin 32 = .ok (.sipush 210, 3) := dk_17 0 210 (dk_at dksX9_begin_1 10 rfl rfl)
theorem dX9_begin_35 : decode cX9_begin 35 = .ok (.iload_n 1, 1) := dk_27 (dk_at dksX9_begin_1 13 rfl rfl)
theorem dX9_begin_36 : decode cX9_begin 36 = .ok (.imul, 1) := dk_104 (dk_at dksX9_begin_1 14 rfl rfl)
theorem dX9_begin_37 : decode cX9_begin 37 = .ok (.bipush 6, 2) := dk_16 6 (dk_at dksX9_begin_1 15 rfl rfl)
theorem dX9_begin_39 : decode cX9_begin 39 = .ok (.iadd, 1) := dk_96 (dk_at dksX9_begin_1 17 rfl rfl)
theorem dX9_begin_40 : decode cX9_begin 40 = .ok (.iconst 2, 1) := dk_5 (dk_at dksX9_begin_1 18 rfl rfl)
theorem dX9_begin_41 : decode cX9_begin 41 = .ok (.iastore, 1) := dk_79 (dk_at dksX9_begin_1 19 rfl rfl)
theorem dX9_begin_42 : decode cX9_begin 42 = .ok (.aload_n 0, 1) := dk_42 (dk_at dksX9_begin_1 20 rfl rfl)
theorem dX9_begin_43 : decode cX9_begin 43 = .ok (.getfield 30, 3) := dk_180 0 30 (dk_at dksX9_begin_1 21 rfl rfl)
theorem dX9_begin_46 : decode cX9_begin 46 = .ok (.sipush 210, 3) := dk_17 0 210 (dk_at dksX9_begin_2 0 rfl rfl)
theorem dX9_begin_49 : decode cX9_begin 49 = .ok (.iload_n 1, 1) := dk_27 (dk_at dksX9_begin_2 3 rfl rfl)
theorem dX9_begin_50 : decode cX9_begin 50 = .ok (.imul, 1) := dk_104 (dk_at dksX9_begin_2 4 rfl rfl)
theorem dX9_begin_51 : decode cX9_begin 51 = .ok (.bipush 7, 2) := dk_16 7 (dk_at dksX9_begin_2 5 rfl rfl)
theorem dX9_begin_53 : decode cX9_begin 53 = .ok (.iadd, 1) := dk_96 (dk_at dksX9_begin_2 7 rfl rfl)
theorem dX9_begin_54 : decode cX9_begin 54 = .ok (.bipush 10, 2) := dk_16 10 (dk_at dksX9_begin_2 8 rfl rfl)
theorem dX9_begin_56 : decode cX9_begin 56 = .ok (.iastore, 1) := dk_79 (dk_at dksX9_begin_2 10 rfl rfl)
theorem dX9_begin_57 : decode cX9_begin 57 = .ok (.iconst 0, 1) := dk_3 (dk_at dksX9_begin_2 11 rfl rfl)
theorem dX9_begin_58 : decode cX9_begin 58 = .ok (.istore_n 2, 1) := dk_61 (dk_at dksX9_begin_2 12 rfl rfl)
theorem dX9_begin_59 : decode cX9_begin 59 = .ok (.iload_n 2, 1) := dk_28 (dk_at dksX9_begin_2 13 rfl rfl)
theorem dX9_begin_60 : decode cX9_begin 60 = .ok (.bipush 6, 2) := dk_16 6 (dk_at dksX9_begin_2 14 rfl rfl)
theorem dX9_begin_62 : decode cX9_begin 62 = .ok (.if_icmp .ge 25, 3) := dk_162 0 25 (dk_at dksX9_begin_2 16 rfl rfl)
theorem dX9_begin_65 : decode cX9_begin 65 = .ok (.aload_n 0, 1) := dk_42 (dk_at dksX9_begin_2 19 rfl rfl)
theorem dX9_begin_66 : decode cX9_begin 66 = .ok (.getfield 30, 3) := dk_180 0 30 (dk_at dksX9_begin_2 20 rfl rfl)
theorem dX9_begin_69 : decode cX9_begin 69 = .ok (.sipush 210, 3) := dk_17 0 210 (dk_at dksX9_begin_3 0 rfl rfl)
theorem dX9_begin_72 : decode cX9_begin 72 = .ok (.iload_n 1, 1) := dk_27 (dk_at dksX9_begin_3 3 rfl rfl)
theorem dX9_begin_73 : decode cX9_begin 73 = .ok (.imul, 1) := dk_104 (dk_at dksX9_begin_3 4 rfl rfl)
theorem dX9_begin_74 : decode cX9_begin 74 = .ok (.bipush 10, 2) := dk_16 10 (dk_at dksX9_begin_3 5 rfl rfl)
theorem dX9_begin_76 : decode cX9_begin 76 = .ok (.iadd, 1) := dk_96 (dk_at dksX9_begin_3 7 rfl rfl)
theorem dX9_begin_77 : decode cX9_begin 77 = .ok (.iload_n 2, 1) := dk_28 (dk_at dksX9_begin_3 8 rfl rfl)
theorem dX9_begin_78 : decode cX9_begin 78 = .ok (.iadd, 1) := dk_96 (dk_at dksX9_begin_3 9 rfl rfl)
theorem dX9_begin_79 : decode cX9_begin 79 = .ok (.iconst (-1), 1) := dk_2 (dk_at dksX9_begin_3 10 rfl rfl)
theorem dX9_begin_80 : decode cX9_begin 80 = .ok (.iastore, 1) := dk_79 (dk_at dksX9_begin_3 11 rfl rfl)
theorem dX9_begin_81 : decode cX9_begin 81 = .ok (.iinc 2 1, 3) := dk_132 2 1 (dk_at dksX9_begin_3 12 rfl rfl)
theorem dX9_begin_84 : decode cX9_begin 84 = .ok (.goto (-25), 3) := dk_167 255 231 (dk_at dksX9_begin_3 15 rfl rfl)
theorem dX9_begin_87 : decode cX9_begin 87 = .ok (.aload_n 0, 1) := dk_42 (dk_at dksX9_begin_3 18 rfl rfl)
theorem dX9_begin_88 : decode cX9_begin 88 = .ok (.getfield 36, 3) := dk_180 0 36 (dk_at dksX9_begin_3 19 rfl rfl)
theorem dX9_begin_91 : decode cX9_begin 91 = .ok (.iload_n 1, 1) := dk_27 (dk_at dksX9_begin_3 22 rfl rfl)
theorem dX9_begin_92 : decode cX9_begin 92 = .ok (.iconst 0, 1) := dk_3 (dk_at dksX9_begin_3 23 rfl rfl)
theorem dX9_begin_93 : decode cX9_begin 93 = .ok (.iastore, 1) := dk_79 (dk_at dksX9_begin_4 0 rfl rfl)
theorem dX9_begin_94 : decode cX9_begin 94 = .ok (.aload_n 0, 1) := dk_42 (dk_at dksX9_begin_4 1 rfl rfl)
theorem dX9_begin_95 : decode cX9_begin 95 = .ok (.getfield 45, 3) := dk_180 0 45 (dk_at dksX9_begin_4 2 rfl rfl)
theorem dX9_begin_98 : decode cX9_begin 98 = .ok (.iload_n 1, 1) := dk_27 (dk_at dksX9_begin_4 5 rfl rfl)
theorem dX9_begin_99 : decode cX9_begin 99 = .ok (.iconst 0, 1) := dk_3 (dk_at dksX9_begin_4 6 rfl rfl)
theorem dX9_begin_100 : decode cX9_begin 100 = .ok (.iastore, 1) := dk_79 (dk_at dksX9_begin_4 7 rfl rfl)
theorem dX9_begin_101 : decode cX9_begin 101 = .ok (.return_, 1) := dk_177 (dk_at dksX9_begin_4 8 rfl rfl)
abbrev cX9_settle : ByteArray := prog_23_method_31_code
def yX9_settle : MethodName := ⟨RX9, "settle", "()V"⟩
def dkwX9_settle_7 : List UInt8 := [4, 3, 84, 42, 180, 0, 67, 5, 3, 84, 177]
abbrev dktX9_settle_7 : List UInt8 := dkwX9_settle_7 ++ []
def dkwX9_settle_6 : List UInt8 := [4, 96, 46, 79, 132, 1, 1, 167, 255, 224, 42, 3, 181, 1, 24, 42, 3, 181, 1, 27, 42, 180, 0, 67]
abbrev dktX9_settle_6 : List UInt8 := dkwX9_settle_6 ++ dktX9_settle_7
def dkwX9_settle_5 : List UInt8 := [16, 8, 162, 0, 32, 42, 180, 0, 33, 16, 50, 27, 96, 42, 180, 0, 30, 17, 0, 170, 5, 27, 104, 96]
abbrev dktX9_settle_5 : List UInt8 := dkwX9_settle_5 ++ dktX9_settle_6
def dkwX9_settle_4 : List UInt8 := [180, 0, 30, 16, 90, 5, 27, 104, 96, 4, 96, 46, 182, 1, 21, 132, 1, 1, 167, 255, 215, 3, 60, 27]
abbrev dktX9_settle_4 : List UInt8 := dkwX9_settle_4 ++ dktX9_settle_5
def dkwX9_settle_3 : List UInt8 := [42, 180, 0, 30, 5, 46, 162, 0, 37, 42, 42, 180, 0, 30, 16, 90, 5, 27, 104, 96, 46, 42]
abbrev dktX9_settle_3 : List UInt8 := dkwX9_settle_3 ++ dktX9_settle_4
def dkwX9_settle_2 : List UInt8 := [4, 96, 46, 79, 42, 180, 0, 33, 16, 30, 27, 96, 16, 254, 79, 132, 1, 1, 167, 255, 214, 3, 60, 27]
abbrev dktX9_settle_2 : List UInt8 := dkwX9_settle_2 ++ dktX9_settle_3
def dkwX9_settle_1 : List UInt8 := [27, 16, 16, 162, 0, 42, 42, 180, 0, 33, 16, 10, 27, 96, 42, 180, 0, 30, 16, 20, 6, 27, 104, 96]
abbrev dktX9_settle_1 : List UInt8 := dkwX9_settle_1 ++ dktX9_settle_2
def dkwX9_settle_0 : List UInt8 := [3, 60, 27, 17, 1, 164, 162, 0, 16, 42, 180, 0, 33, 27, 3, 79, 132, 1, 1, 167, 255, 239, 3, 60]
abbrev dktX9_settle_0 : List UInt8 := dkwX9_settle_0 ++ dktX9_settle_1
theorem dksX9_settle_0 : cX9_settle.data.toList.drop 0 = dktX9_settle_0 := by decide +kernel
theorem dksX9_settle_1 : cX9_settle.data.toList.drop 24 = dktX9_settle_1 := dk_seg dksX9_settle_0 24 rfl rfl
theorem dksX9_settle_2 : cX9_settle.data.toList.drop 48 = dktX9_settle_2 := dk_seg dksX9_settle_1 24 rfl rfl
theorem dksX9_settle_3 : cX9_settle.data.toList.drop 72 = dktX9_settle_3 := dk_seg dksX9_settle_2 24 rfl rfl
theorem dksX9_settle_4 : cX9_settle.data.toList.drop 94 = dktX9_settle_4 := dk_seg dksX9_settle_3 22 rfl rfl
theorem dksX9_settle_5 : cX9_settle.data.toList.drop 118 = dktX9_settle_5 := dk_seg dksX9_settle_4 24 rfl rfl
theorem dksX9_settle_6 : cX9_settle.data.toList.drop 142 = dktX9_settle_6 := dk_seg dksX9_settle_5 24 rfl rfl
theorem dksX9_settle_7 : cX9_settle.data.toList.drop 166 = dktX9_settle_7 := dk_seg dksX9_settle_6 24 rfl rfl
theorem dX9_settle_0 : decode cX9_settle 0 = .ok (.iconst 0, 1) := dk_3 (dk_at dksX9_settle_0 0 rfl rfl)
theorem dX9_settle_1 : decode cX9_settle 1 = .ok (.istore_n 1, 1) := dk_60 (dk_at dksX9_settle_0 1 rfl rfl)
theorem dX9_settle_2 : decode cX9_settle 2 = .ok (.iload_n 1, 1) := dk_27 (dk_at dksX9_settle_0 2 rfl rfl)
theorem dX9_settle_3 : decode cX9_settle 3 = .ok (.sipush 420, 3) := dk_17 1 164 (dk_at dksX9_settle_0 3 rfl rfl)
theorem dX9_settle_6 : decode cX9_settle 6 = .ok (.if_icmp .ge 16, 3) := dk_162 0 16 (dk_at dksX9_settle_0 6 rfl rfl)
theorem dX9_settle_9 : decode cX9_settle 9 = .ok (.aload_n 0, 1) := dk_42 (dk_at dksX9_settle_0 9 rfl rfl)
theorem dX9_settle_10 : decode cX9_settle 10 = .ok (.getfield 33, 3) := dk_180 0 33 (dk_at dksX9_settle_0 10 rfl rfl)
theorem dX9_settle_13 : decode cX9_settle 13 = .ok (.iload_n 1, 1) := dk_27 (dk_at dksX9_settle_0 13 rfl rfl)
theorem dX9_settle_14 : decode cX9_settle 14 = .ok (.iconst 0, 1) := dk_3 (dk_at dksX9_settle_0 14 rfl rfl)
theorem dX9_settle_15 : decode cX9_settle 15 = .ok (.iastore, 1) := dk_79 (dk_at dksX9_settle_0 15 rfl rfl)
theorem dX9_settle_16 : decode cX9_settle 16 = .ok (.iinc 1 1, 3) := dk_132 1 1 (dk_at dksX9_settle_0 16 rfl rfl)
theorem dX9_settle_19 : decode cX9_settle 19 = .ok (.goto (-17), 3) := dk_167 255 239 (dk_at dksX9_settle_0 19 rfl rfl)
theorem dX9_settle_22 : decode cX9_settle 22 = .ok (.iconst 0, 1) := dk_3 (dk_at dksX9_settle_0 22 rfl rfl)
theorem dX9_settle_23 : decode cX9_settle 23 = .ok (.istore_n 1, 1) := dk_60 (dk_at dksX9_settle_0 23 rfl rfl)
theorem dX9_settle_24 : decode cX9_settle 24 = .ok (.iload_n 1, 1) := dk_27 (dk_at dksX9_settle_1 0 rfl rfl)
theorem dX9_settle_25 : decode cX9_settle 25 = .ok (.bipush 16, 2) := dk_16 16 (dk_at dksX9_settle_1 1 rfl rfl)
theorem dX9_settle_27 : decode cX9_settle 27 = .ok (.if_icmp .ge 42, 3) := dk_162 0 42 (dk_at dksX9_settle_1 3 rfl rfl)
theorem dX9_settle_30 : decode cX9_settle 30 = .ok (.aload_n 0, 1) := dk_42 (dk_at dksX9_settle_1 6 rfl rfl)
theorem dX9_settle_31 : decode cX9_settle 31 = .ok (.getfield 33, 3) := dk_180 0 33 (dk_at dksX9_settle_1 7 rfl rfl)
theorem dX9_settle_34 : decode cX9_settle 34 = .ok (.bipush 10, 2) := dk_16 10 (dk_at dksX9_settle_1 10 rfl rfl)
theorem dX9_settle_36 : decode cX9_settle 36 = .ok (.iload_n 1, 1) := dk_27 (dk_at dksX9_settle_1 12 rfl rfl)
theorem dX9_settle_37 : decode cX9_settle 37 = .ok (.iadd, 1) := dk_96 (dk_at dksX9_settle_1 13 rfl rfl)
theorem dX9_settle_38 : decode cX9_settle 38 = .ok (.aload_n 0, 1) := dk_42 (dk_at dksX9_settle_1 14 rfl rfl)
theorem dX9_settle_39 : decode cX9_settle 39 = .ok (.getfield 30, 3) := dk_180 0 30 (dk_at dksX9_settle_1 15 rfl rfl)
theorem dX9_settle_42 : decode cX9_settle 42 = .ok (.bipush 20, 2) := dk_16 20 (dk_at dksX9_settle_1 18 rfl rfl)
theorem dX9_settle_44 : decode cX9_settle 44 = .ok (.iconst 3, 1) := dk_6 (dk_at dksX9_settle_1 20 rfl rfl)
theorem dX9_settle_45 : decode cX9_settle 45 = .ok (.iload_n 1, 1) := dk_27 (dk_at dksX9_settle_1 21 rfl rfl)
theorem dX9_settle_46 : decode cX9_settle 46 = .ok (.imul, 1) := dk_104 (dk_at dksX9_settle_1 22 rfl rfl)
theorem dX9_settle_47 : decode cX9_settle 47 = .ok (.iadd, 1) := dk_96 (dk_at dksX9_settle_1 23 rfl rfl)
theorem dX9_settle_48 : decode cX9_settle 48 = .ok (.iconst 1, 1) := dk_4 (dk_at dksX9_settle_2 0 rfl rfl)
theorem dX9_settle_49 : decode cX9_settle 49 = .ok (.iadd, 1) := dk_96 (dk_at dksX9_settle_2 1 rfl rfl)
theorem dX9_settle_50 : decode cX9_settle 50 = .ok (.iaload, 1) := dk_46 (dk_at dksX9_settle_2 2 rfl rfl)
theorem dX9_settle_51 : decode cX9_settle 51 = .ok (.iastore, 1) := dk_79 (dk_at dksX9_settle_2 3 rfl rfl)
theorem dX9_settle_52 : decode cX9_settle 52 = .ok (.aload_n 0, 1) := dk_42 (dk_at dksX9_settle_2 4 rfl rfl)
theorem dX9_settle_53 : decode cX9_settle 53 = .ok (.getfield 33, 3) := dk_180 0 33 (dk_at dksX9_settle_2 5 rfl rfl)
theorem dX9_settle_56 : decode cX9_settle 56 = .ok (.bipush 30, 2) := dk_16 30 (dk_at dksX9_settle_2 8 rfl rfl)
theorem dX9_settle_58 : decode cX9_settle 58 = .ok (.iload_n 1, 1) := dk_27 (dk_at dksX9_settle_2 10 rfl rfl)
theorem dX9_settle_59 : decode cX9_settle 59 = .ok (.iadd, 1) := dk_96 (dk_at dksX9_settle_2 11 rfl rfl)
theorem dX9_settle_60 : decode cX9_settle 60 = .ok (.bipush (-2), 2) := dk_16 254 (dk_at dksX9_settle_2 12 rfl rfl)
theorem dX9_settle_62 : decode cX9_settle 62 = .ok (.iastore, 1) := dk_79 (dk_at dksX9_settle_2 14 rfl rfl)
theorem dX9_settle_63 : decode cX9_settle 63 = .ok (.iinc 1 1, 3) := dk_132 1 1 (dk_at dksX9_settle_2 15 rfl rfl)
theorem dX9_settle_66 : decode cX9_settle 66 = .ok (.goto (-42), 3) := dk_167 255 214 (dk_at dksX9_settle_2 18 rfl rfl)
theorem dX9_settle_69 : decode cX9_settle 69 = .ok (.iconst 0, 1) := dk_3 (dk_at dksX9_settle_2 21 rfl rfl)
theorem dX9_settle_70 : decode cX9_settle 70 = .ok (.istore_n 1, 1) := dk_60 (dk_at dksX9_settle_2 22 rfl rfl)
theorem dX9_settle_71 : decode cX9_settle 71 = .ok (.iload_n 1, 1) := dk_27 (dk_at dksX9_settle_2 23 rfl rfl)
theorem dX9_settle_72 : decode cX9_settle 72 = .ok (.aload_n 0, 1) := dk_42 (dk_at dksX9_settle_3 0 rfl rfl)
theorem dX9_settle_73 : decode cX9_settle 73 = .ok (.getfield 30, 3) := dk_180 0 30 (dk_at dksX9_settle_3 1 rfl rfl)
theorem dX9_settle_76 : decode cX9_settle 76 = .ok (.iconst 2, 1) := dk_5 (dk_at dksX9_settle_3 4 rfl rfl)
theorem dX9_settle_77 : decode cX9_settle 77 = .ok (.iaload, 1) := dk_46 (dk_at dksX9_settle_3 5 rfl rfl)
theorem dX9_settle_78 : decode cX9_settle 78 = .ok (.if_icmp .ge 37, 3) := dk_162 0 37 (dk_at dksX9_settle_3 6 rfl rfl)
theorem dX9_settle_81 : decode cX9_settle 81 = .ok (.aload_n 0, 1) := dk_42 (dk_at dksX9_settle_3 9 rfl rfl)
theorem dX9_settle_82 : decode cX9_settle 82 = .ok (.aload_n 0, 1) := dk_42 (dk_at dksX9_settle_3 10 rfl rfl)
theorem dX9_settle_83 : decode cX9_settle 83 = .ok (.getfield 30, 3) := dk_180 0 30 (dk_at dksX9_settle_3 11 rfl rfl)
theorem dX9_settle_86 : decode cX9_settle 86 = .ok (.bipush 90, 2) := dk_16 90 (dk_at dksX9_settle_3 14 rfl rfl)
theorem dX9_settle_88 : decode cX9_settle 88 = .ok (.iconst 2, 1) := dk_5 (dk_at dksX9_settle_3 16 rfl rfl)
theorem dX9_settle_89 : decode cX9_settle 89 = .ok (.iload_n 1, 1) := dk_27 (dk_at dksX9_settle_3 17 rfl rfl)
theorem dX9_settle_90 : decode cX9_settle 90 = .ok (.imul, 1) := dk_104 (dk_at dksX9_settle_3 18 rfl rfl)
theorem dX9_settle_91 : decode cX9_settle 91 = .ok (.iadd, 1) := dk_96 (dk_at dksX9_settle_3 19 rfl rfl)
theorem dX9_settle_92 : decode cX9_settle 92 = .ok (.iaload, 1) := dk_46 (dk_at dksX9_settle_3 20 rfl rfl)
theorem dX9_settle_93 : decode cX9_settle 93 = .ok (.aload_n 0, 1) := dk_42 (dk_at dksX9_settle_3 21 rfl rfl)
theorem dX9_settle_94 : decode cX9_settle 94 = .ok (.getfield 30, 3) := dk_180 0 30 (dk_at dksX9_settle_4 0 rfl rfl)
theorem dX9_settle_97 : decode cX9_settle 97 = .ok (.bipush 90, 2) := dk_16 90 (dk_at dksX9_settle_4 3 rfl rfl)
theorem dX9_settle_99 : decode cX9_settle 99 = .ok (.iconst 2, 1) := dk_5 (dk_at dksX9_settle_4 5 rfl rfl)
theorem dX9_settle_100 : decode cX9_settle 100 = .ok (.iload_n 1, 1) := dk_27 (dk_at dksX9_settle_4 6 rfl rfl)
theorem dX9_settle_101 : decode cX9_settle 101 = .ok (.imul, 1) := dk_104 (dk_at dksX9_settle_4 7 rfl rfl)
theorem dX9_settle_102 : decode cX9_settle 102 = .ok (.iadd, 1) := dk_96 (dk_at dksX9_settle_4 8 rfl rfl)
theorem dX9_settle_103 : decode cX9_settle 103 = .ok (.iconst 1, 1) := dk_4 (dk_at dksX9_settle_4 9 rfl rfl)
theorem dX9_settle_104 : decode cX9_settle 104 = .ok (.iadd, 1) := dk_96 (dk_at dksX9_settle_4 10 rfl rfl)
theorem dX9_settle_105 : decode cX9_settle 105 = .ok (.iaload, 1) := dk_46 (dk_at dksX9_settle_4 11 rfl rfl)
theorem dX9_settle_106 : decode cX9_settle 106 = .ok (.invokevirtual 277, 3) := dk_182 1 21 (dk_at dksX9_settle_4 12 rfl rfl)
theorem dX9_settle_109 : decode cX9_settle 109 = .ok (.iinc 1 1, 3) := dk_132 1 1 (dk_at dksX9_settle_4 15 rfl rfl)
theorem dX9_settle_112 : decode cX9_settle 112 = .ok (.goto (-41), 3) := dk_167 255 215 (dk_at dksX9_settle_4 18 rfl rfl)
theorem dX9_settle_115 : decode cX9_settle 115 = .ok (.iconst 0, 1) := dk_3 (dk_at dksX9_settle_4 21 rfl rfl)
theorem dX9_settle_116 : decode cX9_settle 116 = .ok (.istore_n 1, 1) := dk_60 (dk_at dksX9_settle_4 22 rfl rfl)
theorem dX9_settle_117 : decode cX9_settle 117 = .ok (.iload_n 1, 1) := dk_27 (dk_at dksX9_settle_4 23 rfl rfl)
theorem dX9_settle_118 : decode cX9_settle 118 = .ok (.bipush 8, 2) := dk_16 8 (dk_at dksX9_settle_5 0 rfl rfl)
theorem dX9_settle_120 : decode cX9_settle 120 = .ok (.if_icmp .ge 32, 3) := dk_162 0 32 (dk_at dksX9_settle_5 2 rfl rfl)
theorem dX9_settle_123 : decode cX9_settle 123 = .ok (.aload_n 0, 1) := dk_42 (dk_at dksX9_settle_5 5 rfl rfl)
theorem dX9_settle_124 : decode cX9_settle 124 = .ok (.getfield 33, 3) := dk_180 0 33 (dk_at dksX9_settle_5 6 rfl rfl)
theorem dX9_settle_127 : decode cX9_settle 127 = .ok (.bipush 50, 2) := dk_16 50 (dk_at dksX9_settle_5 9 rfl rfl)
theorem dX9_settle_129 : decode cX9_settle 129 = .ok (.iload_n 1, 1) := dk_27 (dk_at dksX9_settle_5 11 rfl rfl)
theorem dX9_settle_130 : decode cX9_settle 130 = .ok (.iadd, 1) := dk_96 (dk_at dksX9_settle_5 12 rfl rfl)
theorem dX9_settle_131 : decode cX9_settle 131 = .ok (.aload_n 0, 1) := dk_42 (dk_at dksX9_settle_5 13 rfl rfl)
theorem dX9_settle_132 : decode cX9_settle 132 = .ok (.getfield 30, 3) := dk_180 0 30 (dk_at dksX9_settle_5 14 rfl rfl)
theorem dX9_settle_135 : decode cX9_settle 135 = .ok (.sipush 170, 3) := dk_17 0 170 (dk_at dksX9_settle_5 17 rfl rfl)
theorem dX9_settle_138 : decode cX9_settle 138 = .ok (.iconst 2, 1) := dk_5 (dk_at dksX9_settle_5 20 rfl rfl)
theorem dX9_settle_139 : decode cX9_settle 139 = .ok (.iload_n 1, 1) := dk_27 (dk_at dksX9_settle_5 21 rfl rfl)
theorem dX9_settle_140 : decode cX9_settle 140 = .ok (.imul, 1) := dk_104 (dk_at dksX9_settle_5 22 rfl rfl)
theorem dX9_settle_141 : decode cX9_settle 141 = .ok (.iadd, 1) := dk_96 (dk_at dksX9_settle_5 23 rfl rfl)
theorem dX9_settle_142 : decode cX9_settle 142 = .ok (.iconst 1, 1) := dk_4 (dk_at dksX9_settle_6 0 rfl rfl)
theorem dX9_settle_143 : decode cX9_settle 143 = .ok (.iadd, 1) := dk_96 (dk_at dksX9_settle_6 1 rfl rfl)
theorem dX9_settle_144 : decode cX9_settle 144 = .ok (.iaload, 1) := dk_46 (dk_at dksX9_settle_6 2 rfl rfl)
theorem dX9_settle_145 : decode cX9_settle 145 = .ok (.iastore, 1) := dk_79 (dk_at dksX9_settle_6 3 rfl rfl)
theorem dX9_settle_146 : decode cX9_settle 146 = .ok (.iinc 1 1, 3) := dk_132 1 1 (dk_at dksX9_settle_6 4 rfl rfl)
theorem dX9_settle_149 : decode cX9_settle 149 = .ok (.goto (-32), 3) := dk_167 255 224 (dk_at dksX9_settle_6 7 rfl rfl)
theorem dX9_settle_152 : decode cX9_settle 152 = .ok (.aload_n 0, 1) := dk_42 (dk_at dksX9_settle_6 10 rfl rfl)
theorem dX9_settle_153 : decode cX9_settle 153 = .ok (.iconst 0, 1) := dk_3 (dk_at dksX9_settle_6 11 rfl rfl)
theorem dX9_settle_154 : decode cX9_settle 154 = .ok (.putfield 280, 3) := dk_181 1 24 (dk_at dksX9_settle_6 12 rfl rfl)
theorem dX9_settle_157 : decode cX9_settle 157 = .ok (.aload_n 0, 1) := dk_42 (dk_at dksX9_settle_6 15 rfl rfl)
theorem dX9_settle_158 : decode cX9_settle 158 = .ok (.iconst 0, 1) := dk_3 (dk_at dksX9_settle_6 16 rfl rfl)
theorem dX9_settle_159 : decode cX9_settle 159 = .ok (.putfield 283, 3) := dk_181 1 27 (dk_at dksX9_settle_6 17 rfl rfl)
theorem dX9_settle_162 : decode cX9_settle 162 = .ok (.aload_n 0, 1) := dk_42 (dk_at dksX9_settle_6 20 rfl rfl)
theorem dX9_settle_163 : decode cX9_settle 163 = .ok (.getfield 67, 3) := dk_180 0 67 (dk_at dksX9_settle_6 21 rfl rfl)
theorem dX9_settle_166 : decode cX9_settle 166 = .ok (.iconst 1, 1) := dk_4 (dk_at dksX9_settle_7 0 rfl rfl)
theorem dX9_settle_167 : decode cX9_settle 167 = .ok (.iconst 0, 1) := dk_3 (dk_at dksX9_settle_7 1 rfl rfl)
theorem dX9_settle_168 : decode cX9_settle 168 = .ok (.bastore, 1) := dk_84 (dk_at dksX9_settle_7 2 rfl rfl)
theorem dX9_settle_169 : decode cX9_settle 169 = .ok (.aload_n 0, 1) := dk_42 (dk_at dksX9_settle_7 3 rfl rfl)
theorem dX9_settle_170 : decode cX9_settle 170 = .ok (.getfield 67, 3) := dk_180 0 67 (dk_at dksX9_settle_7 4 rfl rfl)
theorem dX9_settle_173 : decode cX9_settle 173 = .ok (.iconst 2, 1) := dk_5 (dk_at dksX9_settle_7 7 rfl rfl)
theorem dX9_settle_174 : decode cX9_settle 174 = .ok (.iconst 0, 1) := dk_3 (dk_at dksX9_settle_7 8 rfl rfl)
theorem dX9_settle_175 : decode cX9_settle 175 = .ok (.bastore, 1) := dk_84 (dk_at dksX9_settle_7 9 rfl rfl)
theorem dX9_settle_176 : decode cX9_settle 176 = .ok (.return_, 1) := dk_177 (dk_at dksX9_settle_7 10 rfl rfl)
abbrev cX9_gives : ByteArray := prog_23_method_63_code
def yX9_gives : MethodName := ⟨RX9, "gives", "(II)V"⟩
def dkwX9_gives_1 : List UInt8 := [180, 0, 33, 16, 30, 27, 96, 28, 79, 177]
abbrev dktX9_gives_1 : List UInt8 := dkwX9_gives_1 ++ []
def dkwX9_gives_0 : List UInt8 := [42, 28, 182, 1, 130, 62, 29, 155, 0, 14, 42, 180, 0, 33, 16, 30, 29, 96, 16, 254, 79, 42]
abbrev dktX9_gives_0 : List UInt8 := dkwX9_gives_0 ++ dktX9_gives_1
theorem dksX9_gives_0 : cX9_gives.data.toList.drop 0 = dktX9_gives_0 := by decide +kernel
theorem dksX9_gives_1 : cX9_gives.data.toList.drop 22 = dktX9_gives_1 := dk_seg dksX9_gives_0 22 rfl rfl
theorem dX9_gives_0 : decode cX9_gives 0 = .ok (.aload_n 0, 1) := dk_42 (dk_at dksX9_gives_0 0 rfl rfl)
theorem dX9_gives_1 : decode cX9_gives 1 = .ok (.iload_n 2, 1) := dk_28 (dk_at dksX9_gives_0 1 rfl rfl)
theorem dX9_gives_2 : decode cX9_gives 2 = .ok (.invokevirtual 386, 3) := dk_182 1 130 (dk_at dksX9_gives_0 2 rfl rfl)
theorem dX9_gives_5 : decode cX9_gives 5 = .ok (.istore_n 3, 1) := dk_62 (dk_at dksX9_gives_0 5 rfl rfl)
theorem dX9_gives_6 : decode cX9_gives 6 = .ok (.iload_n 3, 1) := dk_29 (dk_at dksX9_gives_0 6 rfl rfl)
theorem dX9_gives_7 : decode cX9_gives 7 = .ok (.ifCond .lt 14, 3) := dk_155 0 14 (dk_at dksX9_gives_0 7 rfl rfl)
theorem dX9_gives_10 : decode cX9_gives 10 = .ok (.aload_n 0, 1) := dk_42 (dk_at dksX9_gives_0 10 rfl rfl)
theorem dX9_gives_11 : decode cX9_gives 11 = .ok (.getfield 33, 3) := dk_180 0 33 (dk_at dksX9_gives_0 11 rfl rfl)
theorem dX9_gives_14 : decode cX9_gives 14 = .ok (.bipush 30, 2) := dk_16 30 (dk_at dksX9_gives_0 14 rfl rfl)
theorem dX9_gives_16 : decode cX9_gives 16 = .ok (.iload_n 3, 1) := dk_29 (dk_at dksX9_gives_0 16 rfl rfl)
theorem dX9_gives_17 : decode cX9_gives 17 = .ok (.iadd, 1) := dk_96 (dk_at dksX9_gives_0 17 rfl rfl)
theorem dX9_gives_18 : decode cX9_gives 18 = .ok (.bipush (-2), 2) := dk_16 254 (dk_at dksX9_gives_0 18 rfl rfl)
theorem dX9_gives_20 : decode cX9_gives 20 = .ok (.iastore, 1) := dk_79 (dk_at dksX9_gives_0 20 rfl rfl)
theorem dX9_gives_21 : decode cX9_gives 21 = .ok (.aload_n 0, 1) := dk_42 (dk_at dksX9_gives_0 21 rfl rfl)
theorem dX9_gives_22 : decode cX9_gives 22 = .ok (.getfield 33, 3) := dk_180 0 33 (dk_at dksX9_gives_1 0 rfl rfl)
theorem dX9_gives_25 : decode cX9_gives 25 = .ok (.bipush 30, 2) := dk_16 30 (dk_at dksX9_gives_1 3 rfl rfl)
theorem dX9_gives_27 : decode cX9_gives 27 = .ok (.iload_n 1, 1) := dk_27 (dk_at dksX9_gives_1 5 rfl rfl)
theorem dX9_gives_28 : decode cX9_gives 28 = .ok (.iadd, 1) := dk_96 (dk_at dksX9_gives_1 6 rfl rfl)
theorem dX9_gives_29 : decode cX9_gives 29 = .ok (.iload_n 2, 1) := dk_28 (dk_at dksX9_gives_1 7 rfl rfl)
theorem dX9_gives_30 : decode cX9_gives 30 = .ok (.iastore, 1) := dk_79 (dk_at dksX9_gives_1 8 rfl rfl)
theorem dX9_gives_31 : decode cX9_gives 31 = .ok (.return_, 1) := dk_177 (dk_at dksX9_gives_1 9 rfl rfl)
abbrev cX9_holderOf : ByteArray := prog_23_method_62_code
def yX9_holderOf : MethodName := ⟨RX9, "holderOf", "(I)I"⟩
def dkwX9_holderOf_1 : List UInt8 := [160, 0, 5, 28, 172, 132, 2, 1, 167, 255, 228, 16, 254, 172]
abbrev dktX9_holderOf_1 : List UInt8 := dkwX9_holderOf_1 ++ []
def dkwX9_holderOf_0 : List UInt8 := [3, 61, 28, 42, 180, 0, 30, 3, 46, 162, 0, 24, 42, 180, 0, 33, 16, 30, 28, 96, 46, 27]
abbrev dktX9_holderOf_0 : List UInt8 := dkwX9_holderOf_0 ++ dktX9_holderOf_1
theorem dksX9_holderOf_0 : cX9_holderOf.data.toList.drop 0 = dktX9_holderOf_0 := by decide +kernel
theorem dksX9_holderOf_1 : cX9_holderOf.data.toList.drop 22 = dktX9_holderOf_1 := dk_seg dksX9_holderOf_0 22 rfl rfl
theorem dX9_holderOf_0 : decode cX9_holderOf 0 = .ok (.iconst 0, 1) := dk_3 (dk_at dksX9_holderOf_0 0 rfl rfl)
theorem dX9_holderOf_1 : decode cX9_holderOf 1 = .ok (.istore_n 2, 1) := dk_61 (dk_at dksX9_holderOf_0 1 rfl rfl)
theorem dX9_holderOf_2 : decode cX9_holderOf 2 = .ok (.iload_n 2, 1) := dk_28 (dk_at dksX9_holderOf_0 2 rfl rfl)
theorem dX9_holderOf_3 : decode cX9_holderOf 3 = .ok (.aload_n 0, 1) := dk_42 (dk_at dksX9_holderOf_0 3 rfl rfl)
theorem dX9_holderOf_4 : decode cX9_holderOf 4 = .ok (.getfield 30, 3) := dk_180 0 30 (dk_at dksX9_holderOf_0 4 rfl rfl)
theorem dX9_holderOf_7 : decode cX9_holderOf 7 = .ok (.iconst 0, 1) := dk_3 (dk_at dksX9_holderOf_0 7 rfl rfl)
theorem dX9_holderOf_8 : decode cX9_holderOf 8 = .ok (.iaload, 1) := dk_46 (dk_at dksX9_holderOf_0 8 rfl rfl)
theorem dX9_holderOf_9 : decode cX9_holderOf 9 = .ok (.if_icmp .ge 24, 3) := dk_162 0 24 (dk_at dksX9_holderOf_0 9 rfl rfl)
theorem dX9_holderOf_12 : decode cX9_holderOf 12 = .ok (.aload_n 0, 1) := dk_42 (dk_at dksX9_holderOf_0 12 rfl rfl)
theorem dX9_holderOf_13 : decode cX9_holderOf 13 = .ok (.getfield 33, 3) := dk_180 0 33 (dk_at dksX9_holderOf_0 13 rfl rfl)
theorem dX9_holderOf_16 : decode cX9_holderOf 16 = .ok (.bipush 30, 2) := dk_16 30 (dk_at dksX9_holderOf_0 16 rfl rfl)
theorem dX9_holderOf_18 : decode cX9_holderOf 18 = .ok (.iload_n 2, 1) := dk_28 (dk_at dksX9_holderOf_0 18 rfl rfl)
theorem dX9_holderOf_19 : decode cX9_holderOf 19 = .ok (.iadd, 1) := dk_96 (dk_at dksX9_holderOf_0 19 rfl rfl)
theorem dX9_holderOf_20 : decode cX9_holderOf 20 = .ok (.iaload, 1) := dk_46 (dk_at dksX9_holderOf_0 20 rfl rfl)
theorem dX9_holderOf_21 : decode cX9_holderOf 21 = .ok (.iload_n 1, 1) := dk_27 (dk_at dksX9_holderOf_0 21 rfl rfl)
theorem dX9_holderOf_22 : decode cX9_holderOf 22 = .ok (.if_icmp .ne 5, 3) := dk_160 0 5 (dk_at dksX9_holderOf_1 0 rfl rfl)
theorem dX9_holderOf_25 : decode cX9_holderOf 25 = .ok (.iload_n 2, 1) := dk_28 (dk_at dksX9_holderOf_1 3 rfl rfl)
theorem dX9_holderOf_26 : decode cX9_holderOf 26 = .ok (.ireturn, 1) := dk_172 (dk_at dksX9_holderOf_1 4 rfl rfl)
theorem dX9_holderOf_27 : decode cX9_holderOf 27 = .ok (.iinc 2 1, 3) := dk_132 2 1 (dk_at dksX9_holderOf_1 5 rfl rfl)
theorem dX9_holderOf_30 : decode cX9_holderOf 30 = .ok (.goto (-28), 3) := dk_167 255 228 (dk_at dksX9_holderOf_1 8 rfl rfl)
theorem dX9_holderOf_33 : decode cX9_holderOf 33 = .ok (.bipush (-2), 2) := dk_16 254 (dk_at dksX9_holderOf_1 11 rfl rfl)
theorem dX9_holderOf_35 : decode cX9_holderOf 35 = .ok (.ireturn, 1) := dk_172 (dk_at dksX9_holderOf_1 13 rfl rfl)
abbrev cX9_feed : ByteArray := prog_23_method_2_code
def yX9_feed : MethodName := ⟨RX9, "feed", "(IIIII)I"⟩
def dkwX9_feed_2 : List UInt8 := [172]
abbrev dktX9_feed_2 : List UInt8 := dkwX9_feed_2 ++ []
def dkwX9_feed_1 : List UInt8 := [182, 0, 128, 42, 29, 182, 0, 128, 42, 21, 4, 182, 0, 128, 42, 21, 5, 182, 0, 128, 42, 180, 0, 125]
abbrev dktX9_feed_1 : List UInt8 := dkwX9_feed_1 ++ dktX9_feed_2
def dkwX9_feed_0 : List UInt8 := [42, 180, 0, 125, 16, 20, 96, 17, 7, 208, 164, 0, 5, 2, 172, 42, 27, 182, 0, 128, 42, 28]
abbrev dktX9_feed_0 : List UInt8 := dkwX9_feed_0 ++ dktX9_feed_1
theorem dksX9_feed_0 : cX9_feed.data.toList.drop 0 = dktX9_feed_0 := by decide +kernel
theorem dksX9_feed_1 : cX9_feed.data.toList.drop 22 = dktX9_feed_1 := dk_seg dksX9_feed_0 22 rfl rfl
theorem dksX9_feed_2 : cX9_feed.data.toList.drop 46 = dktX9_feed_2 := dk_seg dksX9_feed_1 24 rfl rfl
theorem dX9_feed_0 : decode cX9_feed 0 = .ok (.aload_n 0, 1) := dk_42 (dk_at dksX9_feed_0 0 rfl rfl)
theorem dX9_feed_1 : decode cX9_feed 1 = .ok (.getfield 125, 3) := dk_180 0 125 (dk_at dksX9_feed_0 1 rfl rfl)
theorem dX9_feed_4 : decode cX9_feed 4 = .ok (.bipush 20, 2) := dk_16 20 (dk_at dksX9_feed_0 4 rfl rfl)
theorem dX9_feed_6 : decode cX9_feed 6 = .ok (.iadd, 1) := dk_96 (dk_at dksX9_feed_0 6 rfl rfl)
theorem dX9_feed_7 : decode cX9_feed 7 = .ok (.sipush 2000, 3) := dk_17 7 208 (dk_at dksX9_feed_0 7 rfl rfl)
theorem dX9_feed_10 : decode cX9_feed 10 = .ok (.if_icmp .le 5, 3) := dk_164 0 5 (dk_at dksX9_feed_0 10 rfl rfl)
theorem dX9_feed_13 : decode cX9_feed 13 = .ok (.iconst (-1), 1) := dk_2 (dk_at dksX9_feed_0 13 rfl rfl)
theorem dX9_feed_14 : decode cX9_feed 14 = .ok (.ireturn, 1) := dk_172 (dk_at dksX9_feed_0 14 rfl rfl)
theorem dX9_feed_15 : decode cX9_feed 15 = .ok (.aload_n 0, 1) := dk_42 (dk_at dksX9_feed_0 15 rfl rfl)
theorem dX9_feed_16 : decode cX9_feed 16 = .ok (.iload_n 1, 1) := dk_27 (dk_at dksX9_feed_0 16 rfl rfl)
theorem dX9_feed_17 : decode cX9_feed 17 = .ok (.invokevirtual 128, 3) := dk_182 0 128 (dk_at dksX9_feed_0 17 rfl rfl)
theorem dX9_feed_20 : decode cX9_feed 20 = .ok (.aload_n 0, 1) := dk_42 (dk_at dksX9_feed_0 20 rfl rfl)
theorem dX9_feed_21 : decode cX9_feed 21 = .ok (.iload_n 2, 1) := dk_28 (dk_at dksX9_feed_0 21 rfl rfl)
theorem dX9_feed_22 : decode cX9_feed 22 = .ok (.invokevirtual 128, 3) := dk_182 0 128 (dk_at dksX9_feed_1 0 rfl rfl)
theorem dX9_feed_25 : decode cX9_feed 25 = .ok (.aload_n 0, 1) := dk_42 (dk_at dksX9_feed_1 3 rfl rfl)
theorem dX9_feed_26 : decode cX9_feed 26 = .ok (.iload_n 3, 1) := dk_29 (dk_at dksX9_feed_1 4 rfl rfl)
theorem dX9_feed_27 : decode cX9_feed 27 = .ok (.invokevirtual 128, 3) := dk_182 0 128 (dk_at dksX9_feed_1 5 rfl rfl)
theorem dX9_feed_30 : decode cX9_feed 30 = .ok (.aload_n 0, 1) := dk_42 (dk_at dksX9_feed_1 8 rfl rfl)
theorem dX9_feed_31 : decode cX9_feed 31 = .ok (.iload 4, 2) := dk_21 4 (dk_at dksX9_feed_1 9 rfl rfl)
theorem dX9_feed_33 : decode cX9_feed 33 = .ok (.invokevirtual 128, 3) := dk_182 0 128 (dk_at dksX9_feed_1 11 rfl rfl)
theorem dX9_feed_36 : decode cX9_feed 36 = .ok (.aload_n 0, 1) := dk_42 (dk_at dksX9_feed_1 14 rfl rfl)
theorem dX9_feed_37 : decode cX9_feed 37 = .ok (.iload 5, 2) := dk_21 5 (dk_at dksX9_feed_1 15 rfl rfl)
theorem dX9_feed_39 : decode cX9_feed 39 = .ok (.invokevirtual 128, 3) := dk_182 0 128 (dk_at dksX9_feed_1 17 rfl rfl)
theorem dX9_feed_42 : decode cX9_feed 42 = .ok (.aload_n 0, 1) := dk_42 (dk_at dksX9_feed_1 20 rfl rfl)
theorem dX9_feed_43 : decode cX9_feed 43 = .ok (.getfield 125, 3) := dk_180 0 125 (dk_at dksX9_feed_1 21 rfl rfl)
theorem dX9_feed_46 : decode cX9_feed 46 = .ok (.ireturn, 1) := dk_172 (dk_at dksX9_feed_2 0 rfl rfl)
abbrev cX9_typed : ByteArray := prog_23_method_3_code
def yX9_typed : MethodName := ⟨RX9, "typed", "(I)V"⟩
def dkwX9_typed_1 : List UInt8 := [17, 0, 255, 126, 79, 42, 89, 180, 0, 125, 4, 96, 181, 0, 125, 132, 2, 1, 167, 255, 216, 177]
abbrev dktX9_typed_1 : List UInt8 := dkwX9_typed_1 ++ []
def dkwX9_typed_0 : List UInt8 := [3, 61, 28, 7, 162, 0, 41, 42, 180, 0, 7, 42, 180, 0, 125, 27, 16, 24, 16, 8, 28, 104, 100, 122]
abbrev dktX9_typed_0 : List UInt8 := dkwX9_typed_0 ++ dktX9_typed_1
theorem dksX9_typed_0 : cX9_typed.data.toList.drop 0 = dktX9_typed_0 := by decide +kernel
theorem dksX9_typed_1 : cX9_typed.data.toList.drop 24 = dktX9_typed_1 := dk_seg dksX9_typed_0 24 rfl rfl
theorem dX9_typed_0 : decode cX9_typed 0 = .ok (.iconst 0, 1) := dk_3 (dk_at dksX9_typed_0 0 rfl rfl)
theorem dX9_typed_1 : decode cX9_typed 1 = .ok (.istore_n 2, 1) := dk_61 (dk_at dksX9_typed_0 1 rfl rfl)
theorem dX9_typed_2 : decode cX9_typed 2 = .ok (.iload_n 2, 1) := dk_28 (dk_at dksX9_typed_0 2 rfl rfl)
theorem dX9_typed_3 : decode cX9_typed 3 = .ok (.iconst 4, 1) := dk_7 (dk_at dksX9_typed_0 3 rfl rfl)
theorem dX9_typed_4 : decode cX9_typed 4 = .ok (.if_icmp .ge 41, 3) := dk_162 0 41 (dk_at dksX9_typed_0 4 rfl rfl)
theorem dX9_typed_7 : decode cX9_typed 7 = .ok (.aload_n 0, 1) := dk_42 (dk_at dksX9_typed_0 7 rfl rfl)
theorem dX9_typed_8 : decode cX9_typed 8 = .ok (.getfield 7, 3) := dk_180 0 7 (dk_at dksX9_typed_0 8 rfl rfl)
theorem dX9_typed_11 : decode cX9_typed 11 = .ok (.aload_n 0, 1) := dk_42 (dk_at dksX9_typed_0 11 rfl rfl)
theorem dX9_typed_12 : decode cX9_typed 12 = .ok (.getfield 125, 3) := dk_180 0 125 (dk_at dksX9_typed_0 12 rfl rfl)
theorem dX9_typed_15 : decode cX9_typed 15 = .ok (.iload_n 1, 1) := dk_27 (dk_at dksX9_typed_0 15 rfl rfl)
theorem dX9_typed_16 : decode cX9_typed 16 = .ok (.bipush 24, 2) := dk_16 24 (dk_at dksX9_typed_0 16 rfl rfl)
theorem dX9_typed_18 : decode cX9_typed 18 = .ok (.bipush 8, 2) := dk_16 8 (dk_at dksX9_typed_0 18 rfl rfl)
theorem dX9_typed_20 : decode cX9_typed 20 = .ok (.iload_n 2, 1) := dk_28 (dk_at dksX9_typed_0 20 rfl rfl)
theorem dX9_typed_21 : decode cX9_typed 21 = .ok (.imul, 1) := dk_104 (dk_at dksX9_typed_0 21 rfl rfl)
theorem dX9_typed_22 : decode cX9_typed 22 = .ok (.isub, 1) := dk_100 (dk_at dksX9_typed_0 22 rfl rfl)
theorem dX9_typed_23 : decode cX9_typed 23 = .ok (.ishr, 1) := dk_122 (dk_at dksX9_typed_0 23 rfl rfl)
theorem dX9_typed_24 : decode cX9_typed 24 = .ok (.sipush 255, 3) := dk_17 0 255 (dk_at dksX9_typed_1 0 rfl rfl)
theorem dX9_typed_27 : decode cX9_typed 27 = .ok (.iand, 1) := dk_126 (dk_at dksX9_typed_1 3 rfl rfl)
theorem dX9_typed_28 : decode cX9_typed 28 = .ok (.iastore, 1) := dk_79 (dk_at dksX9_typed_1 4 rfl rfl)
theorem dX9_typed_29 : decode cX9_typed 29 = .ok (.aload_n 0, 1) := dk_42 (dk_at dksX9_typed_1 5 rfl rfl)
theorem dX9_typed_30 : decode cX9_typed 30 = .ok (.dup, 1) := dk_89 (dk_at dksX9_typed_1 6 rfl rfl)
theorem dX9_typed_31 : decode cX9_typed 31 = .ok (.getfield 125, 3) := dk_180 0 125 (dk_at dksX9_typed_1 7 rfl rfl)
theorem dX9_typed_34 : decode cX9_typed 34 = .ok (.iconst 1, 1) := dk_4 (dk_at dksX9_typed_1 10 rfl rfl)
theorem dX9_typed_35 : decode cX9_typed 35 = .ok (.iadd, 1) := dk_96 (dk_at dksX9_typed_1 11 rfl rfl)
theorem dX9_typed_36 : decode cX9_typed 36 = .ok (.putfield 125, 3) := dk_181 0 125 (dk_at dksX9_typed_1 12 rfl rfl)
theorem dX9_typed_39 : decode cX9_typed 39 = .ok (.iinc 2 1, 3) := dk_132 2 1 (dk_at dksX9_typed_1 15 rfl rfl)
theorem dX9_typed_42 : decode cX9_typed 42 = .ok (.goto (-40), 3) := dk_167 255 216 (dk_at dksX9_typed_1 18 rfl rfl)
theorem dX9_typed_45 : decode cX9_typed 45 = .ok (.return_, 1) := dk_177 (dk_at dksX9_typed_1 21 rfl rfl)
abbrev cX9_back : ByteArray := prog_23_method_4_code
def yX9_back : MethodName := ⟨RX9, "back", "(I)I"⟩
def dkwX9_back_1 : List UInt8 := [42, 180, 0, 125, 172]
abbrev dktX9_back_1 : List UInt8 := dkwX9_back_1 ++ []
def dkwX9_back_0 : List UInt8 := [27, 155, 0, 11, 27, 42, 180, 0, 125, 164, 0, 5, 2, 172, 42, 42, 180, 0, 125, 27, 100, 181, 0, 125]
abbrev dktX9_back_0 : List UInt8 := dkwX9_back_0 ++ dktX9_back_1
theorem dksX9_back_0 : cX9_back.data.toList.drop 0 = dktX9_back_0 := by decide +kernel
theorem dksX9_back_1 : cX9_back.data.toList.drop 24 = dktX9_back_1 := dk_seg dksX9_back_0 24 rfl rfl
theorem dX9_back_0 : decode cX9_back 0 = .ok (.iload_n 1, 1) := dk_27 (dk_at dksX9_back_0 0 rfl rfl)
theorem dX9_back_1 : decode cX9_back 1 = .ok (.ifCond .lt 11, 3) := dk_155 0 11 (dk_at dksX9_back_0 1 rfl rfl)
theorem dX9_back_4 : decode cX9_back 4 = .ok (.iload_n 1, 1) := dk_27 (dk_at dksX9_back_0 4 rfl rfl)
theorem dX9_back_5 : decode cX9_back 5 = .ok (.aload_n 0, 1) := dk_42 (dk_at dksX9_back_0 5 rfl rfl)
theorem dX9_back_6 : decode cX9_back 6 = .ok (.getfield 125, 3) := dk_180 0 125 (dk_at dksX9_back_0 6 rfl rfl)
theorem dX9_back_9 : decode cX9_back 9 = .ok (.if_icmp .le 5, 3) := dk_164 0 5 (dk_at dksX9_back_0 9 rfl rfl)
theorem dX9_back_12 : decode cX9_back 12 = .ok (.iconst (-1), 1) := dk_2 (dk_at dksX9_back_0 12 rfl rfl)
theorem dX9_back_13 : decode cX9_back 13 = .ok (.ireturn, 1) := dk_172 (dk_at dksX9_back_0 13 rfl rfl)
theorem dX9_back_14 : decode cX9_back 14 = .ok (.aload_n 0, 1) := dk_42 (dk_at dksX9_back_0 14 rfl rfl)
theorem dX9_back_15 : decode cX9_back 15 = .ok (.aload_n 0, 1) := dk_42 (dk_at dksX9_back_0 15 rfl rfl)
theorem dX9_back_16 : decode cX9_back 16 = .ok (.getfield 125, 3) := dk_180 0 125 (dk_at dksX9_back_0 16 rfl rfl)
theorem dX9_back_19 : decode cX9_back 19 = .ok (.iload_n 1, 1) := dk_27 (dk_at dksX9_back_0 19 rfl rfl)
theorem dX9_back_20 : decode cX9_back 20 = .ok (.isub, 1) := dk_100 (dk_at dksX9_back_0 20 rfl rfl)
theorem dX9_back_21 : decode cX9_back 21 = .ok (.putfield 125, 3) := dk_181 0 125 (dk_at dksX9_back_0 21 rfl rfl)
theorem dX9_back_24 : decode cX9_back 24 = .ok (.aload_n 0, 1) := dk_42 (dk_at dksX9_back_1 0 rfl rfl)
theorem dX9_back_25 : decode cX9_back 25 = .ok (.getfield 125, 3) := dk_180 0 125 (dk_at dksX9_back_1 1 rfl rfl)
theorem dX9_back_28 : decode cX9_back 28 = .ok (.ireturn, 1) := dk_172 (dk_at dksX9_back_1 4 rfl rfl)
abbrev cX9_read : ByteArray := prog_23_method_46_code
def yX9_read : MethodName := ⟨RX9, "read", "()I"⟩
def dkwX9_read_3 : List UInt8 := [180, 0, 215, 172]
abbrev dktX9_read_3 : List UInt8 := dkwX9_read_3 ++ []
def dkwX9_read_2 : List UInt8 := [180, 0, 224, 181, 0, 26, 42, 3, 181, 0, 125, 42, 180, 0, 215, 154, 0, 7, 42, 182, 1, 91, 42]
abbrev dktX9_read_2 : List UInt8 := dkwX9_read_2 ++ dktX9_read_3
def dkwX9_read_1 : List UInt8 := [42, 182, 1, 88, 153, 0, 26, 42, 180, 0, 221, 153, 0, 19, 42, 42, 180, 0, 221, 181, 0, 215, 42, 42]
abbrev dktX9_read_1 : List UInt8 := dkwX9_read_1 ++ dktX9_read_2
def dkwX9_read_0 : List UInt8 := [42, 182, 1, 85, 42, 3, 181, 0, 215, 42, 2, 181, 0, 26, 42, 3, 181, 0, 221, 42, 4, 182, 0, 118]
abbrev dktX9_read_0 : List UInt8 := dkwX9_read_0 ++ dktX9_read_1
theorem dksX9_read_0 : cX9_read.data.toList.drop 0 = dktX9_read_0 := by decide +kernel
theorem dksX9_read_1 : cX9_read.data.toList.drop 24 = dktX9_read_1 := dk_seg dksX9_read_0 24 rfl rfl
theorem dksX9_read_2 : cX9_read.data.toList.drop 48 = dktX9_read_2 := dk_seg dksX9_read_1 24 rfl rfl
theorem dksX9_read_3 : cX9_read.data.toList.drop 71 = dktX9_read_3 := dk_seg dksX9_read_2 23 rfl rfl
theorem dX9_read_0 : decode cX9_read 0 = .ok (.aload_n 0, 1) := dk_42 (dk_at dksX9_read_0 0 rfl rfl)
theorem dX9_read_1 : decode cX9_read 1 = .ok (.invokevirtual 341, 3) := dk_182 1 85 (dk_at dksX9_read_0 1 rfl rfl)
theorem dX9_read_4 : decode cX9_read 4 = .ok (.aload_n 0, 1) := dk_42 (dk_at dksX9_read_0 4 rfl rfl)
theorem dX9_read_5 : decode cX9_read 5 = .ok (.iconst 0, 1) := dk_3 (dk_at dksX9_read_0 5 rfl rfl)
theorem dX9_read_6 : decode cX9_read 6 = .ok (.putfield 215, 3) := dk_181 0 215 (dk_at dksX9_read_0 6 rfl rfl)
theorem dX9_read_9 : decode cX9_read 9 = .ok (.aload_n 0, 1) := dk_42 (dk_at dksX9_read_0 9 rfl rfl)
theorem dX9_read_10 : decode cX9_read 10 = .ok (.iconst (-1), 1) := dk_2 (dk_at dksX9_read_0 10 rfl rfl)
theorem dX9_read_11 : decode cX9_read 11 = .ok (.putfield 26, 3) := dk_181 0 26 (dk_at dksX9_read_0 11 rfl rfl)
theorem dX9_read_14 : decode cX9_read 14 = .ok (.aload_n 0, 1) := dk_42 (dk_at dksX9_read_0 14 rfl rfl)
theorem dX9_read_15 : decode cX9_read 15 = .ok (.iconst 0, 1) := dk_3 (dk_at dksX9_read_0 15 rfl rfl)
theorem dX9_read_16 : decode cX9_read 16 = .ok (.putfield 221, 3) := dk_181 0 221 (dk_at dksX9_read_0 16 rfl rfl)
theorem dX9_read_19 : decode cX9_read 19 = .ok (.aload_n 0, 1) := dk_42 (dk_at dksX9_read_0 19 rfl rfl)
theorem dX9_read_20 : decode cX9_read 20 = .ok (.iconst 1, 1) := dk_4 (dk_at dksX9_read_0 20 rfl rfl)
theorem dX9_read_21 : decode cX9_read 21 = .ok (.invokevirtual 118, 3) := dk_182 0 118 (dk_at dksX9_read_0 21 rfl rfl)
theorem dX9_read_24 : decode cX9_read 24 = .ok (.aload_n 0, 1) := dk_42 (dk_at dksX9_read_1 0 rfl rfl)
theorem dX9_read_25 : decode cX9_read 25 = .ok (.invokevirtual 344, 3) := dk_182 1 88 (dk_at dksX9_read_1 1 rfl rfl)
theorem dX9_read_28 : decode cX9_read 28 = .ok (.ifCond .eq 26, 3) := dk_153 0 26 (dk_at dksX9_read_1 4 rfl rfl)
theorem dX9_read_31 : decode cX9_read 31 = .ok (.aload_n 0, 1) := dk_42 (dk_at dksX9_read_1 7 rfl rfl)
theorem dX9_read_32 : decode cX9_read 32 = .ok (.getfield 221, 3) := dk_180 0 221 (dk_at dksX9_read_1 8 rfl rfl)
theorem dX9_read_35 : decode cX9_read 35 = .ok (.ifCond .eq 19, 3) := dk_153 0 19 (dk_at dksX9_read_1 11 rfl rfl)
theorem dX9_read_38 : decode cX9_read 38 = .ok (.aload_n 0, 1) := dk_42 (dk_at dksX9_read_1 14 rfl rfl)
theorem dX9_read_39 : decode cX9_read 39 = .ok (.aload_n 0, 1) := dk_42 (dk_at dksX9_read_1 15 rfl rfl)
theorem dX9_read_40 : decode cX9_read 40 = .ok (.getfield 221, 3) := dk_180 0 221 (dk_at dksX9_read_1 16 rfl rfl)
theorem dX9_read_43 : decode cX9_read 43 = .ok (.putfield 215, 3) := dk_181 0 215 (dk_at dksX9_read_1 19 rfl rfl)
theorem dX9_read_46 : decode cX9_read 46 = .ok (.aload_n 0, 1) := dk_42 (dk_at dksX9_read_1 22 rfl rfl)
theorem dX9_read_47 : decode cX9_read 47 = .ok (.aload_n 0, 1) := dk_42 (dk_at dksX9_read_1 23 rfl rfl)
theorem dX9_read_48 : decode cX9_read 48 = .ok (.getfield 224, 3) := dk_180 0 224 (dk_at dksX9_read_2 0 rfl rfl)
theorem dX9_read_51 : decode cX9_read 51 = .ok (.putfield 26, 3) := dk_181 0 26 (dk_at dksX9_read_2 3 rfl rfl)
theorem dX9_read_54 : decode cX9_read 54 = .ok (.aload_n 0, 1) := dk_42 (dk_at dksX9_read_2 6 rfl rfl)
theorem dX9_read_55 : decode cX9_read 55 = .ok (.iconst 0, 1) := dk_3 (dk_at dksX9_read_2 7 rfl rfl)
theorem dX9_read_56 : decode cX9_read 56 = .ok (.putfield 125, 3) := dk_181 0 125 (dk_at dksX9_read_2 8 rfl rfl)
theorem dX9_read_59 : decode cX9_read 59 = .ok (.aload_n 0, 1) := dk_42 (dk_at dksX9_read_2 11 rfl rfl)
theorem dX9_read_60 : decode cX9_read 60 = .ok (.getfield 215, 3) := dk_180 0 215 (dk_at dksX9_read_2 12 rfl rfl)
theorem dX9_read_63 : decode cX9_read 63 = .ok (.ifCond .ne 7, 3) := dk_154 0 7 (dk_at dksX9_read_2 15 rfl rfl)
theorem dX9_read_66 : decode cX9_read 66 = .ok (.aload_n 0, 1) := dk_42 (dk_at dksX9_read_2 18 rfl rfl)
theorem dX9_read_67 : decode cX9_read 67 = .ok (.invokevirtual 347, 3) := dk_182 1 91 (dk_at dksX9_read_2 19 rfl rfl)
theorem dX9_read_70 : decode cX9_read 70 = .ok (.aload_n 0, 1) := dk_42 (dk_at dksX9_read_2 22 rfl rfl)
theorem dX9_read_71 : decode cX9_read 71 = .ok (.getfield 215, 3) := dk_180 0 215 (dk_at dksX9_read_3 0 rfl rfl)
theorem dX9_read_74 : decode cX9_read 74 = .ok (.ireturn, 1) := dk_172 (dk_at dksX9_read_3 3 rfl rfl)
abbrev cX9_scanAll : ByteArray := prog_23_method_12_code
def yX9_scanAll : MethodName := ⟨RX9, "scanAll", "()V"⟩
def dkwX9_scanAll_4 : List UInt8 := [7, 42, 180, 0, 125, 3, 182, 0, 202, 177]
abbrev dktX9_scanAll_4 : List UInt8 := dkwX9_scanAll_4 ++ []
def dkwX9_scanAll_3 : List UInt8 := [180, 0, 135, 4, 100, 46, 8, 159, 0, 7, 4, 167, 0, 4, 3, 61, 167, 255, 181, 28, 153, 0, 13, 42]
abbrev dktX9_scanAll_3 : List UInt8 := dkwX9_scanAll_3 ++ dktX9_scanAll_4
def dkwX9_scanAll_2 : List UInt8 := [16, 13, 160, 0, 9, 132, 1, 1, 167, 255, 211, 42, 27, 182, 0, 212, 60, 42, 180, 0, 13, 42]
abbrev dktX9_scanAll_2 : List UInt8 := dkwX9_scanAll_2 ++ dktX9_scanAll_3
def dkwX9_scanAll_1 : List UInt8 := [182, 0, 131, 62, 29, 16, 32, 159, 0, 21, 29, 16, 9, 159, 0, 15, 29, 16, 10, 159, 0, 9, 29]
abbrev dktX9_scanAll_1 : List UInt8 := dkwX9_scanAll_1 ++ dktX9_scanAll_2
def dkwX9_scanAll_0 : List UInt8 := [42, 3, 181, 0, 135, 3, 60, 4, 61, 27, 42, 180, 0, 125, 162, 0, 73, 28, 153, 0, 69, 42, 27]
abbrev dktX9_scanAll_0 : List UInt8 := dkwX9_scanAll_0 ++ dktX9_scanAll_1
theorem dksX9_scanAll_0 : cX9_scanAll.data.toList.drop 0 = dktX9_scanAll_0 := by decide +kernel
theorem dksX9_scanAll_1 : cX9_scanAll.data.toList.drop 23 = dktX9_scanAll_1 := dk_seg dksX9_scanAll_0 23 rfl rfl
theorem dksX9_scanAll_2 : cX9_scanAll.data.toList.drop 46 = dktX9_scanAll_2 := dk_seg dksX9_scanAll_1 23 rfl rfl
theorem dksX9_scanAll_3 : cX9_scanAll.data.toList.drop 68 = dktX9_scanAll_3 := dk_seg dksX9_scanAll_2 22 rfl rfl
theorem dksX9_scanAll_4 : cX9_scanAll.data.toList.drop 92 = dktX9_scanAll_4 := dk_seg dksX9_scanAll_3 24 rfl rfl
theorem dX9_scanAll_0 : decode cX9_scanAll 0 = .ok (.aload_n 0, 1) := dk_42 (dk_at dksX9_scanAll_0 0 rfl rfl)
theorem dX9_scanAll_1 : decode cX9_scanAll 1 = .ok (.iconst 0, 1) := dk_3 (dk_at dksX9_scanAll_0 1 rfl rfl)
theorem dX9_scanAll_2 : decode cX9_scanAll 2 = .ok (.putfield 135, 3) := dk_181 0 135 (dk_at dksX9_scanAll_0 2 rfl rfl)
theorem dX9_scanAll_5 : decode cX9_scanAll 5 = .ok (.iconst 0, 1) := dk_3 (dk_at dksX9_scanAll_0 5 rfl rfl)
theorem dX9_scanAll_6 : decode cX9_scanAll 6 = .ok (.istore_n 1, 1) := dk_60 (dk_at dksX9_scanAll_0 6 rfl rfl)
theorem dX9_scanAll_7 : decode cX9_scanAll 7 = .ok (.iconst 1, 1) := dk_4 (dk_at dksX9_scanAll_0 7 rfl rfl)
theorem dX9_scanAll_8 : decode cX9_scanAll 8 = .ok (.istore_n 2, 1) := dk_61 (dk_at dksX9_scanAll_0 8 rfl rfl)
theorem dX9_scanAll_9 : decode cX9_scanAll 9 = .ok (.iload_n 1, 1) := dk_27 (dk_at dksX9_scanAll_0 9 rfl rfl)
theorem dX9_scanAll_10 : decode cX9_scanAll 10 = .ok (.aload_n 0, 1) := dk_42 (dk_at dksX9_scanAll_0 10 rfl rfl)
theorem dX9_scanAll_11 : decode cX9_scanAll 11 = .ok (.getfield 125, 3) := dk_180 0 125 (dk_at dksX9_scanAll_0 11 rfl rfl)
theorem dX9_scanAll_14 : decode cX9_scanAll 14 = .ok (.if_icmp .ge 73, 3) := dk_162 0 73 (dk_at dksX9_scanAll_0 14 rfl rfl)
theorem dX9_scanAll_17 : decode cX9_scanAll 17 = .ok (.iload_n 2, 1) := dk_28 (dk_at dksX9_scanAll_0 17 rfl rfl)
theorem dX9_scanAll_18 : decode cX9_scanAll 18 = .ok (.ifCond .eq 69, 3) := dk_153 0 69 (dk_at dksX9_scanAll_0 18 rfl rfl)
theorem dX9_scanAll_21 : decode cX9_scanAll 21 = .ok (.aload_n 0, 1) := dk_42 (dk_at dksX9_scanAll_0 21 rfl rfl)
theorem dX9_scanAll_22 : decode cX9_scanAll 22 = .ok (.iload_n 1, 1) := dk_27 (dk_at dksX9_scanAll_0 22 rfl rfl)
theorem dX9_scanAll_23 : decode cX9_scanAll 23 = .ok (.invokevirtual 131, 3) := dk_182 0 131 (dk_at dksX9_scanAll_1 0 rfl rfl)
theorem dX9_scanAll_26 : decode cX9_scanAll 26 = .ok (.istore_n 3, 1) := dk_62 (dk_at dksX9_scanAll_1 3 rfl rfl)
theorem dX9_scanAll_27 : decode cX9_scanAll 27 = .ok (.iload_n 3, 1) := dk_29 (dk_at dksX9_scanAll_1 4 rfl rfl)
theorem dX9_scanAll_28 : decode cX9_scanAll 28 = .ok (.bipush 32, 2) := dk_16 32 (dk_at dksX9_scanAll_1 5 rfl rfl)
theorem dX9_scanAll_30 : decode cX9_scanAll 30 = .ok (.if_icmp .eq 21, 3) := dk_159 0 21 (dk_at dksX9_scanAll_1 7 rfl rfl)
theorem dX9_scanAll_33 : decode cX9_scanAll 33 = .ok (.iload_n 3, 1) := dk_29 (dk_at dksX9_scanAll_1 10 rfl rfl)
theorem dX9_scanAll_34 : decode cX9_scanAll 34 = .ok (.bipush 9, 2) := dk_16 9 (dk_at dksX9_scanAll_1 11 rfl rfl)
theorem dX9_scanAll_36 : decode cX9_scanAll 36 = .ok (.if_icmp .eq 15, 3) := dk_159 0 15 (dk_at dksX9_scanAll_1 13 rfl rfl)
theorem dX9_scanAll_39 : decode cX9_scanAll 39 = .ok (.iload_n 3, 1) := dk_29 (dk_at dksX9_scanAll_1 16 rfl rfl)
theorem dX9_scanAll_40 : decode cX9_scanAll 40 = .ok (.bipush 10, 2) := dk_16 10 (dk_at dksX9_scanAll_1 17 rfl rfl)
theorem dX9_scanAll_42 : decode cX9_scanAll 42 = .ok (.if_icmp .eq 9, 3) := dk_159 0 9 (dk_at dksX9_scanAll_1 19 rfl rfl)
theorem dX9_scanAll_45 : decode cX9_scanAll 45 = .ok (.iload_n 3, 1) := dk_29 (dk_at dksX9_scanAll_1 22 rfl rfl)
theorem dX9_scanAll_46 : decode cX9_scanAll 46 = .ok (.bipush 13, 2) := dk_16 13 (dk_at dksX9_scanAll_2 0 rfl rfl)
theorem dX9_scanAll_48 : decode cX9_scanAll 48 = .ok (.if_icmp .ne 9, 3) := dk_160 0 9 (dk_at dksX9_scanAll_2 2 rfl rfl)
theorem dX9_scanAll_51 : decode cX9_scanAll 51 = .ok (.iinc 1 1, 3) := dk_132 1 1 (dk_at dksX9_scanAll_2 5 rfl rfl)
theorem dX9_scanAll_54 : decode cX9_scanAll 54 = .ok (.goto (-45), 3) := dk_167 255 211 (dk_at dksX9_scanAll_2 8 rfl rfl)
theorem dX9_scanAll_57 : decode cX9_scanAll 57 = .ok (.aload_n 0, 1) := dk_42 (dk_at dksX9_scanAll_2 11 rfl rfl)
theorem dX9_scanAll_58 : decode cX9_scanAll 58 = .ok (.iload_n 1, 1) := dk_27 (dk_at dksX9_scanAll_2 12 rfl rfl)
theorem dX9_scanAll_59 : decode cX9_scanAll 59 = .ok (.invokevirtual 212, 3) := dk_182 0 212 (dk_at dksX9_scanAll_2 13 rfl rfl)
theorem dX9_scanAll_62 : decode cX9_scanAll 62 = .ok (.istore_n 1, 1) := dk_60 (dk_at dksX9_scanAll_2 16 rfl rfl)
theorem dX9_scanAll_63 : decode cX9_scanAll 63 = .ok (.aload_n 0, 1) := dk_42 (dk_at dksX9_scanAll_2 17 rfl rfl)
theorem dX9_scanAll_64 : decode cX9_scanAll 64 = .ok (.getfield 13, 3) := dk_180 0 13 (dk_at dksX9_scanAll_2 18 rfl rfl)
theorem dX9_scanAll_67 : decode cX9_scanAll 67 = .ok (.aload_n 0, 1) := dk_42 (dk_at dksX9_scanAll_2 21 rfl rfl)
theorem dX9_scanAll_68 : decode cX9_scanAll 68 = .ok (.getfield 135, 3) := dk_180 0 135 (dk_at dksX9_scanAll_3 0 rfl rfl)
theorem dX9_scanAll_71 : decode cX9_scanAll 71 = .ok (.iconst 1, 1) := dk_4 (dk_at dksX9_scanAll_3 3 rfl rfl)
theorem dX9_scanAll_72 : decode cX9_scanAll 72 = .ok (.isub, 1) := dk_100 (dk_at dksX9_scanAll_3 4 rfl rfl)
theorem dX9_scanAll_73 : decode cX9_scanAll 73 = .ok (.iaload, 1) := dk_46 (dk_at dksX9_scanAll_3 5 rfl rfl)
theorem dX9_scanAll_74 : decode cX9_scanAll 74 = .ok (.iconst 5, 1) := dk_8 (dk_at dksX9_scanAll_3 6 rfl rfl)
theorem dX9_scanAll_75 : decode cX9_scanAll 75 = .ok (.if_icmp .eq 7, 3) := dk_159 0 7 (dk_at dksX9_scanAll_3 7 rfl rfl)
theorem dX9_scanAll_78 : decode cX9_scanAll 78 = .ok (.iconst 1, 1) := dk_4 (dk_at dksX9_scanAll_3 10 rfl rfl)
theorem dX9_scanAll_79 : decode cX9_scanAll 79 = .ok (.goto 4, 3) := dk_167 0 4 (dk_at dksX9_scanAll_3 11 rfl rfl)
theorem dX9_scanAll_82 : decode cX9_scanAll 82 = .ok (.iconst 0, 1) := dk_3 (dk_at dksX9_scanAll_3 14 rfl rfl)
theorem dX9_scanAll_83 : decode cX9_scanAll 83 = .ok (.istore_n 2, 1) := dk_61 (dk_at dksX9_scanAll_3 15 rfl rfl)
theorem dX9_scanAll_84 : decode cX9_scanAll 84 = .ok (.goto (-75), 3) := dk_167 255 181 (dk_at dksX9_scanAll_3 16 rfl rfl)
theorem dX9_scanAll_87 : decode cX9_scanAll 87 = .ok (.iload_n 2, 1) := dk_28 (dk_at dksX9_scanAll_3 19 rfl rfl)
theorem dX9_scanAll_88 : decode cX9_scanAll 88 = .ok (.ifCond .eq 13, 3) := dk_153 0 13 (dk_at dksX9_scanAll_3 20 rfl rfl)
theorem dX9_scanAll_91 : decode cX9_scanAll 91 = .ok (.aload_n 0, 1) := dk_42 (dk_at dksX9_scanAll_3 23 rfl rfl)
theorem dX9_scanAll_92 : decode cX9_scanAll 92 = .ok (.iconst 4, 1) := dk_7 (dk_at dksX9_scanAll_4 0 rfl rfl)
theorem dX9_scanAll_93 : decode cX9_scanAll 93 = .ok (.aload_n 0, 1) := dk_42 (dk_at dksX9_scanAll_4 1 rfl rfl)
theorem dX9_scanAll_94 : decode cX9_scanAll 94 = .ok (.getfield 125, 3) := dk_180 0 125 (dk_at dksX9_scanAll_4 2 rfl rfl)
theorem dX9_scanAll_97 : decode cX9_scanAll 97 = .ok (.iconst 0, 1) := dk_3 (dk_at dksX9_scanAll_4 5 rfl rfl)
theorem dX9_scanAll_98 : decode cX9_scanAll 98 = .ok (.invokevirtual 202, 3) := dk_182 0 202 (dk_at dksX9_scanAll_4 6 rfl rfl)
theorem dX9_scanAll_101 : decode cX9_scanAll 101 = .ok (.return_, 1) := dk_177 (dk_at dksX9_scanAll_4 9 rfl rfl)
abbrev cX9_byteAt : ByteArray := prog_23_method_5_code
def yX9_byteAt : MethodName := ⟨RX9, "byteAt", "(I)I"⟩
def dkwX9_byteAt_0 : List UInt8 := [27, 42, 180, 0, 125, 162, 0, 12, 42, 180, 0, 7, 27, 46, 167, 0, 4, 3, 172]
abbrev dktX9_byteAt_0 : List UInt8 := dkwX9_byteAt_0 ++ []
theorem dksX9_byteAt_0 : cX9_byteAt.data.toList.drop 0 = dktX9_byteAt_0 := by decide +kernel
theorem dX9_byteAt_0 : decode cX9_byteAt 0 = .ok (.iload_n 1, 1) := dk_27 (dk_at dksX9_byteAt_0 0 rfl rfl)
theorem dX9_byteAt_1 : decode cX9_byteAt 1 = .ok (.aload_n 0, 1) := dk_42 (dk_at dksX9_byteAt_0 1 rfl rfl)
theorem dX9_byteAt_2 : decode cX9_byteAt 2 = .ok (.getfield 125, 3) := dk_180 0 125 (dk_at dksX9_byteAt_0 2 rfl rfl)
theorem dX9_byteAt_5 : decode cX9_byteAt 5 = .ok (.if_icmp .ge 12, 3) := dk_162 0 12 (dk_at dksX9_byteAt_0 5 rfl rfl)
theorem dX9_byteAt_8 : decode cX9_byteAt 8 = .ok (.aload_n 0, 1) := dk_42 (dk_at dksX9_byteAt_0 8 rfl rfl)
theorem dX9_byteAt_9 : decode cX9_byteAt 9 = .ok (.getfield 7, 3) := dk_180 0 7 (dk_at dksX9_byteAt_0 9 rfl rfl)
theorem dX9_byteAt_12 : decode cX9_byteAt 12 = .ok (.iload_n 1, 1) := dk_27 (dk_at dksX9_byteAt_0 12 rfl rfl)
theorem dX9_byteAt_13 : decode cX9_byteAt 13 = .ok (.iaload, 1) := dk_46 (dk_at dksX9_byteAt_0 13 rfl rfl)
theorem dX9_byteAt_14 : decode cX9_byteAt 14 = .ok (.goto 4, 3) := dk_167 0 4 (dk_at dksX9_byteAt_0 14 rfl rfl)
theorem dX9_byteAt_17 : decode cX9_byteAt 17 = .ok (.iconst 0, 1) := dk_3 (dk_at dksX9_byteAt_0 17 rfl rfl)
theorem dX9_byteAt_18 : decode cX9_byteAt 18 = .ok (.ireturn, 1) := dk_172 (dk_at dksX9_byteAt_0 18 rfl rfl)
abbrev cX9_scan : ByteArray := prog_23_method_11_code
def yX9_scan : MethodName := ⟨RX9, "scan", "(I)I"⟩
def dkwX9_scan_8 : List UInt8 := [167, 0, 4, 5, 27, 29, 182, 0, 202, 27, 29, 17, 1, 44, 161, 0, 7, 5, 167, 0, 4, 4, 96, 172]
abbrev dktX9_scan_8 : List UInt8 := dkwX9_scan_8 ++ []
def dkwX9_scan_7 : List UInt8 := [8, 167, 0, 4, 4, 27, 29, 182, 0, 202, 28, 172, 42, 27, 182, 0, 209, 62, 42, 29, 154, 0, 7, 8]
abbrev dktX9_scan_7 : List UInt8 := dkwX9_scan_7 ++ dktX9_scan_8
def dkwX9_scan_6 : List UInt8 := [42, 28, 182, 0, 131, 96, 16, 48, 100, 62, 132, 2, 1, 167, 255, 224, 42, 28, 27, 100, 7, 164, 0, 7]
abbrev dktX9_scan_6 : List UInt8 := dkwX9_scan_6 ++ dktX9_scan_7
def dkwX9_scan_5 : List UInt8 := [153, 0, 60, 3, 62, 42, 28, 182, 0, 206, 153, 0, 30, 28, 27, 100, 7, 162, 0, 17, 16, 10, 29, 104]
abbrev dktX9_scan_5 : List UInt8 := dkwX9_scan_5 ++ dktX9_scan_6
def dkwX9_scan_4 : List UInt8 := [21, 5, 155, 0, 7, 6, 167, 0, 4, 3, 27, 21, 5, 182, 0, 202, 28, 172, 42, 27, 182, 0, 206]
abbrev dktX9_scan_4 : List UInt8 := dkwX9_scan_4 ++ dktX9_scan_5
def dkwX9_scan_3 : List UInt8 := [42, 180, 0, 22, 42, 180, 0, 135, 33, 80, 42, 28, 27, 100, 16, 8, 164, 0, 7, 8, 167, 0, 13]
abbrev dktX9_scan_3 : List UInt8 := dkwX9_scan_3 ++ dktX9_scan_4
def dkwX9_scan_2 : List UInt8 := [132, 2, 1, 167, 255, 220, 28, 27, 100, 16, 8, 164, 0, 7, 2, 167, 0, 7, 33, 184, 0, 198, 54, 5]
abbrev dktX9_scan_2 : List UInt8 := dkwX9_scan_2 ++ dktX9_scan_3
def dkwX9_scan_1 : List UInt8 := [16, 8, 162, 0, 20, 33, 20, 0, 194, 105, 42, 28, 182, 0, 131, 133, 97, 20, 0, 196, 101, 66]
abbrev dktX9_scan_1 : List UInt8 := dkwX9_scan_1 ++ dktX9_scan_2
def dkwX9_scan_0 : List UInt8 := [27, 61, 42, 27, 182, 0, 190, 153, 0, 103, 9, 66, 42, 28, 182, 0, 190, 153, 0, 34, 28, 27, 100]
abbrev dktX9_scan_0 : List UInt8 := dkwX9_scan_0 ++ dktX9_scan_1
theorem dksX9_scan_0 : cX9_scan.data.toList.drop 0 = dktX9_scan_0 := by decide +kernel
theorem dksX9_scan_1 : cX9_scan.data.toList.drop 23 = dktX9_scan_1 := dk_seg dksX9_scan_0 23 rfl rfl
theorem dksX9_scan_2 : cX9_scan.data.toList.drop 45 = dktX9_scan_2 := dk_seg dksX9_scan_1 22 rfl rfl
theorem dksX9_scan_3 : cX9_scan.data.toList.drop 69 = dktX9_scan_3 := dk_seg dksX9_scan_2 24 rfl rfl
theorem dksX9_scan_4 : cX9_scan.data.toList.drop 92 = dktX9_scan_4 := dk_seg dksX9_scan_3 23 rfl rfl
theorem dksX9_scan_5 : cX9_scan.data.toList.drop 115 = dktX9_scan_5 := dk_seg dksX9_scan_4 23 rfl rfl
theorem dksX9_scan_6 : cX9_scan.data.toList.drop 139 = dktX9_scan_6 := dk_seg dksX9_scan_5 24 rfl rfl
theorem dksX9_scan_7 : cX9_scan.data.toList.drop 163 = dktX9_scan_7 := dk_seg dksX9_scan_6 24 rfl rfl
theorem dksX9_scan_8 : cX9_scan.data.toList.drop 187 = dktX9_scan_8 := dk_seg dksX9_scan_7 24 rfl rfl
theorem dX9_scan_0 : decode cX9_scan 0 = .ok (.iload_n 1, 1) := dk_27 (dk_at dksX9_scan_0 0 rfl rfl)
theorem dX9_scan_1 : decode cX9_scan 1 = .ok (.istore_n 2, 1) := dk_61 (dk_at dksX9_scan_0 1 rfl rfl)
theorem dX9_scan_2 : decode cX9_scan 2 = .ok (.aload_n 0, 1) := dk_42 (dk_at dksX9_scan_0 2 rfl rfl)
theorem dX9_scan_3 : decode cX9_scan 3 = .ok (.iload_n 1, 1) := dk_27 (dk_at dksX9_scan_0 3 rfl rfl)
theorem dX9_scan_4 : decode cX9_scan 4 = .ok (.invokevirtual 190, 3) := dk_182 0 190 (dk_at dksX9_scan_0 4 rfl rfl)
theorem dX9_scan_7 : decode cX9_scan 7 = .ok (.ifCond .eq 103, 3) := dk_153 0 103 (dk_at dksX9_scan_0 7 rfl rfl)
theorem dX9_scan_10 : decode cX9_scan 10 = .ok (.lconst 0, 1) := dk_9 (dk_at dksX9_scan_0 10 rfl rfl)
theorem dX9_scan_11 : decode cX9_scan 11 = .ok (.lstore_n 3, 1) := dk_66 (dk_at dksX9_scan_0 11 rfl rfl)
theorem dX9_scan_12 : decode cX9_scan 12 = .ok (.aload_n 0, 1) := dk_42 (dk_at dksX9_scan_0 12 rfl rfl)
theorem dX9_scan_13 : decode cX9_scan 13 = .ok (.iload_n 2, 1) := dk_28 (dk_at dksX9_scan_0 13 rfl rfl)
theorem dX9_scan_14 : decode cX9_scan 14 = .ok (.invokevirtual 190, 3) := dk_182 0 190 (dk_at dksX9_scan_0 14 rfl rfl)
theorem dX9_scan_17 : decode cX9_scan 17 = .ok (.ifCond .eq 34, 3) := dk_153 0 34 (dk_at dksX9_scan_0 17 rfl rfl)
theorem dX9_scan_20 : decode cX9_scan 20 = .ok (.iload_n 2, 1) := dk_28 (dk_at dksX9_scan_0 20 rfl rfl)
theorem dX9_scan_21 : decode cX9_scan 21 = .ok (.iload_n 1, 1) := dk_27 (dk_at dksX9_scan_0 21 rfl rfl)
theorem dX9_scan_22 : decode cX9_scan 22 = .ok (.isub, 1) := dk_100 (dk_at dksX9_scan_0 22 rfl rfl)
theorem dX9_scan_23 : decode cX9_scan 23 = .ok (.bipush 8, 2) := dk_16 8 (dk_at dksX9_scan_1 0 rfl rfl)
theorem dX9_scan_25 : decode cX9_scan 25 = .ok (.if_icmp .ge 20, 3) := dk_162 0 20 (dk_at dksX9_scan_1 2 rfl rfl)
theorem dX9_scan_28 : decode cX9_scan 28 = .ok (.lload_n 3, 1) := dk_33 (dk_at dksX9_scan_1 5 rfl rfl)
theorem dX9_scan_29 : decode cX9_scan 29 = .ok (.ldc2_w 194, 3) := dk_20 0 194 (dk_at dksX9_scan_1 6 rfl rfl)
theorem dX9_scan_32 : decode cX9_scan 32 = .ok (.lmul, 1) := dk_105 (dk_at dksX9_scan_1 9 rfl rfl)
theorem dX9_scan_33 : decode cX9_scan 33 = .ok (.aload_n 0, 1) := dk_42 (dk_at dksX9_scan_1 10 rfl rfl)
theorem dX9_scan_34 : decode cX9_scan 34 = .ok (.iload_n 2, 1) := dk_28 (dk_at dksX9_scan_1 11 rfl rfl)
theorem dX9_scan_35 : decode cX9_scan 35 = .ok (.invokevirtual 131, 3) := dk_182 0 131 (dk_at dksX9_scan_1 12 rfl rfl)
theorem dX9_scan_38 : decode cX9_scan 38 = .ok (.i2l, 1) := dk_133 (dk_at dksX9_scan_1 15 rfl rfl)
theorem dX9_scan_39 : decode cX9_scan 39 = .ok (.ladd, 1) := dk_97 (dk_at dksX9_scan_1 16 rfl rfl)
theorem dX9_scan_40 : decode cX9_scan 40 = .ok (.ldc2_w 196, 3) := dk_20 0 196 (dk_at dksX9_scan_1 17 rfl rfl)
theorem dX9_scan_43 : decode cX9_scan 43 = .ok (.lsub, 1) := dk_101 (dk_at dksX9_scan_1 20 rfl rfl)
theorem dX9_scan_44 : decode cX9_scan 44 = .ok (.lstore_n 3, 1) := dk_66 (dk_at dksX9_scan_1 21 rfl rfl)
theorem dX9_scan_45 : decode cX9_scan 45 = .ok (.iinc 2 1, 3) := dk_132 2 1 (dk_at dksX9_scan_2 0 rfl rfl)
theorem dX9_scan_48 : decode cX9_scan 48 = .ok (.goto (-36), 3) := dk_167 255 220 (dk_at dksX9_scan_2 3 rfl rfl)
theorem dX9_scan_51 : decode cX9_scan 51 = .ok (.iload_n 2, 1) := dk_28 (dk_at dksX9_scan_2 6 rfl rfl)
theorem dX9_scan_52 : decode cX9_scan 52 = .ok (.iload_n 1, 1) := dk_27 (dk_at dksX9_scan_2 7 rfl rfl)
theorem dX9_scan_53 : decode cX9_scan 53 = .ok (.isub, 1) := dk_100 (dk_at dksX9_scan_2 8 rfl rfl)
theorem dX9_scan_54 : decode cX9_scan 54 = .ok (.bipush 8, 2) := dk_16 8 (dk_at dksX9_scan_2 9 rfl rfl)
theorem dX9_scan_56 : decode cX9_scan 56 = .ok (.if_icmp .le 7, 3) := dk_164 0 7 (dk_at dksX9_scan_2 11 rfl rfl)
theorem dX9_scan_59 : decode cX9_scan 59 = .ok (.iconst (-1), 1) := dk_2 (dk_at dksX9_scan_2 14 rfl rfl)
theorem dX9_scan_60 : decode cX9_scan 60 = .ok (.goto 7, 3) := dk_167 0 7 (dk_at dksX9_scan_2 15 rfl rfl)
theorem dX9_scan_63 : decode cX9_scan 63 = .ok (.lload_n 3, 1) := dk_33 (dk_at dksX9_scan_2 18 rfl rfl)
theorem dX9_scan_64 : decode cX9_scan 64 = .ok (.invokestatic 198, 3) := dk_184 0 198 (dk_at dksX9_scan_2 19 rfl rfl)
theorem dX9_scan_67 : decode cX9_scan 67 = .ok (.istore 5, 2) := dk_54 5 (dk_at dksX9_scan_2 22 rfl rfl)
theorem dX9_scan_69 : decode cX9_scan 69 = .ok (.aload_n 0, 1) := dk_42 (dk_at dksX9_scan_3 0 rfl rfl)
theorem dX9_scan_70 : decode cX9_scan 70 = .ok (.getfield 22, 3) := dk_180 0 22 (dk_at dksX9_scan_3 1 rfl rfl)
theorem dX9_scan_73 : decode cX9_scan 73 = .ok (.aload_n 0, 1) := dk_42 (dk_at dksX9_scan_3 4 rfl rfl)
theorem dX9_scan_74 : decode cX9_scan 74 = .ok (.getfield 135, 3) := dk_180 0 135 (dk_at dksX9_scan_3 5 rfl rfl)
theorem dX9_scan_77 : decode cX9_scan 77 = .ok (.lload_n 3, 1) := dk_33 (dk_at dksX9_scan_3 8 rfl rfl)
theorem dX9_scan_78 : decode cX9_scan 78 = .ok (.lastore, 1) := dk_80 (dk_at dksX9_scan_3 9 rfl rfl)
theorem dX9_scan_79 : decode cX9_scan 79 = .ok (.aload_n 0, 1) := dk_42 (dk_at dksX9_scan_3 10 rfl rfl)
theorem dX9_scan_80 : decode cX9_scan 80 = .ok (.iload_n 2, 1) := dk_28 (dk_at dksX9_scan_3 11 rfl rfl)
theorem dX9_scan_81 : decode cX9_scan 81 = .ok (.iload_n 1, 1) := dk_27 (dk_at dksX9_scan_3 12 rfl rfl)
theorem dX9_scan_82 : decode cX9_scan 82 = .ok (.isub, 1) := dk_100 (dk_at dksX9_scan_3 13 rfl rfl)
theorem dX9_scan_83 : decode cX9_scan 83 = .ok (.bipush 8, 2) := dk_16 8 (dk_at dksX9_scan_3 14 rfl rfl)
theorem dX9_scan_85 : decode cX9_scan 85 = .ok (.if_icmp .le 7, 3) := dk_164 0 7 (dk_at dksX9_scan_3 16 rfl rfl)
theorem dX9_scan_88 : decode cX9_scan 88 = .ok (.iconst 5, 1) := dk_8 (dk_at dksX9_scan_3 19 rfl rfl)
theorem dX9_scan_89 : decode cX9_scan 89 = .ok (.goto 13, 3) := dk_167 0 13 (dk_at dksX9_scan_3 20 rfl rfl)
theorem dX9_scan_92 : decode cX9_scan 92 = .ok (.iload 5, 2) := dk_21 5 (dk_at dksX9_scan_4 0 rfl rfl)
theorem dX9_scan_94 : decode cX9_scan 94 = .ok (.ifCond .lt 7, 3) := dk_155 0 7 (dk_at dksX9_scan_4 2 rfl rfl)
theorem dX9_scan_97 : decode cX9_scan 97 = .ok (.iconst 3, 1) := dk_6 (dk_at dksX9_scan_4 5 rfl rfl)
theorem dX9_scan_98 : decode cX9_scan 98 = .ok (.goto 4, 3) := dk_167 0 4 (dk_at dksX9_scan_4 6 rfl rfl)
theorem dX9_scan_101 : decode cX9_scan 101 = .ok (.iconst 0, 1) := dk_3 (dk_at dksX9_scan_4 9 rfl rfl)
theorem dX9_scan_102 : decode cX9_scan 102 = .ok (.iload_n 1, 1) := dk_27 (dk_at dksX9_scan_4 10 rfl rfl)
theorem dX9_scan_103 : decode cX9_scan 103 = .ok (.iload 5, 2) := dk_21 5 (dk_at dksX9_scan_4 11 rfl rfl)
theorem dX9_scan_105 : decode cX9_scan 105 = .ok (.invokevirtual 202, 3) := dk_182 0 202 (dk_at dksX9_scan_4 13 rfl rfl)
theorem dX9_scan_108 : decode cX9_scan 108 = .ok (.iload_n 2, 1) := dk_28 (dk_at dksX9_scan_4 16 rfl rfl)
theorem dX9_scan_109 : decode cX9_scan 109 = .ok (.ireturn, 1) := dk_172 (dk_at dksX9_scan_4 17 rfl rfl)
theorem dX9_scan_110 : decode cX9_scan 110 = .ok (.aload_n 0, 1) := dk_42 (dk_at dksX9_scan_4 18 rfl rfl)
theorem dX9_scan_111 : decode cX9_scan 111 = .ok (.iload_n 1, 1) := dk_27 (dk_at dksX9_scan_4 19 rfl rfl)
theorem dX9_scan_112 : decode cX9_scan 112 = .ok (.invokevirtual 206, 3) := dk_182 0 206 (dk_at dksX9_scan_4 20 rfl rfl)
theorem dX9_scan_115 : decode cX9_scan 115 = .ok (.ifCond .eq 60, 3) := dk_153 0 60 (dk_at dksX9_scan_5 0 rfl rfl)
theorem dX9_scan_118 : decode cX9_scan 118 = .ok (.iconst 0, 1) := dk_3 (dk_at dksX9_scan_5 3 rfl rfl)
theorem dX9_scan_119 : decode cX9_scan 119 = .ok (.istore_n 3, 1) := dk_62 (dk_at dksX9_scan_5 4 rfl rfl)
theorem dX9_scan_120 : decode cX9_scan 120 = .ok (.aload_n 0, 1) := dk_42 (dk_at dksX9_scan_5 5 rfl rfl)
theorem dX9_scan_121 : decode cX9_scan 121 = .ok (.iload_n 2, 1) := dk_28 (dk_at dksX9_scan_5 6 rfl rfl)
theorem dX9_scan_122 : decode cX9_scan 122 = .ok (.invokevirtual 206, 3) := dk_182 0 206 (dk_at dksX9_scan_5 7 rfl rfl)
theorem dX9_scan_125 : decode cX9_scan 125 = .ok (.ifCond .eq 30, 3) := dk_153 0 30 (dk_at dksX9_scan_5 10 rfl rfl)
theorem dX9_scan_128 : decode cX9_scan 128 = .ok (.iload_n 2, 1) := dk_28 (dk_at dksX9_scan_5 13 rfl rfl)
theorem dX9_scan_129 : decode cX9_scan 129 = .ok (.iload_n 1, 1) := dk_27 (dk_at dksX9_scan_5 14 rfl rfl)
theorem dX9_scan_130 : decode cX9_scan 130 = .ok (.isub, 1) := dk_100 (dk_at dksX9_scan_5 15 rfl rfl)
theorem dX9_scan_131 : decode cX9_scan 131 = .ok (.iconst 4, 1) := dk_7 (dk_at dksX9_scan_5 16 rfl rfl)
theorem dX9_scan_132 : decode cX9_scan 132 = .ok (.if_icmp .ge 17, 3) := dk_162 0 17 (dk_at dksX9_scan_5 17 rfl rfl)
theorem dX9_scan_135 : decode cX9_scan 135 = .ok (.bipush 10, 2) := dk_16 10 (dk_at dksX9_scan_5 20 rfl rfl)
theorem dX9_scan_137 : decode cX9_scan 137 = .ok (.iload_n 3, 1) := dk_29 (dk_at dksX9_scan_5 22 rfl rfl)
theorem dX9_scan_138 : decode cX9_scan 138 = .ok (.imul, 1) := dk_104 (dk_at dksX9_scan_5 23 rfl rfl)
theorem dX9_scan_139 : decode cX9_scan 139 = .ok (.aload_n 0, 1) := dk_42 (dk_at dksX9_scan_6 0 rfl rfl)
theorem dX9_scan_140 : decode cX9_scan 140 = .ok (.iload_n 2, 1) := dk_28 (dk_at dksX9_scan_6 1 rfl rfl)
theorem dX9_scan_141 : decode cX9_scan 141 = .ok (.invokevirtual 131, 3) := dk_182 0 131 (dk_at dksX9_scan_6 2 rfl rfl)
theorem dX9_scan_144 : decode cX9_scan 144 = .ok (.iadd, 1) := dk_96 (dk_at dksX9_scan_6 5 rfl rfl)
theorem dX9_scan_145 : decode cX9_scan 145 = .ok (.bipush 48, 2) := dk_16 48 (dk_at dksX9_scan_6 6 rfl rfl)
theorem dX9_scan_147 : decode cX9_scan 147 = .ok (.isub, 1) := dk_100 (dk_at dksX9_scan_6 8 rfl rfl)
theorem dX9_scan_148 : decode cX9_scan 148 = .ok (.istore_n 3, 1) := dk_62 (dk_at dksX9_scan_6 9 rfl rfl)
theorem dX9_scan_149 : decode cX9_scan 149 = .ok (.iinc 2 1, 3) := dk_132 2 1 (dk_at dksX9_scan_6 10 rfl rfl)
theorem dX9_scan_152 : decode cX9_scan 152 = .ok (.goto (-32), 3) := dk_167 255 224 (dk_at dksX9_scan_6 13 rfl rfl)
theorem dX9_scan_155 : decode cX9_scan 155 = .ok (.aload_n 0, 1) := dk_42 (dk_at dksX9_scan_6 16 rfl rfl)
theorem dX9_scan_156 : decode cX9_scan 156 = .ok (.iload_n 2, 1) := dk_28 (dk_at dksX9_scan_6 17 rfl rfl)
theorem dX9_scan_157 : decode cX9_scan 157 = .ok (.iload_n 1, 1) := dk_27 (dk_at dksX9_scan_6 18 rfl rfl)
theorem dX9_scan_158 : decode cX9_scan 158 = .ok (.isub, 1) := dk_100 (dk_at dksX9_scan_6 19 rfl rfl)
theorem dX9_scan_159 : decode cX9_scan 159 = .ok (.iconst 4, 1) := dk_7 (dk_at dksX9_scan_6 20 rfl rfl)
theorem dX9_scan_160 : decode cX9_scan 160 = .ok (.if_icmp .le 7, 3) := dk_164 0 7 (dk_at dksX9_scan_6 21 rfl rfl)
theorem dX9_scan_163 : decode cX9_scan 163 = .ok (.iconst 5, 1) := dk_8 (dk_at dksX9_scan_7 0 rfl rfl)
theorem dX9_scan_164 : decode cX9_scan 164 = .ok (.goto 4, 3) := dk_167 0 4 (dk_at dksX9_scan_7 1 rfl rfl)
theorem dX9_scan_167 : decode cX9_scan 167 = .ok (.iconst 1, 1) := dk_4 (dk_at dksX9_scan_7 4 rfl rfl)
theorem dX9_scan_168 : decode cX9_scan 168 = .ok (.iload_n 1, 1) := dk_27 (dk_at dksX9_scan_7 5 rfl rfl)
theorem dX9_scan_169 : decode cX9_scan 169 = .ok (.iload_n 3, 1) := dk_29 (dk_at dksX9_scan_7 6 rfl rfl)
theorem dX9_scan_170 : decode cX9_scan 170 = .ok (.invokevirtual 202, 3) := dk_182 0 202 (dk_at dksX9_scan_7 7 rfl rfl)
theorem dX9_scan_173 : decode cX9_scan 173 = .ok (.iload_n 2, 1) := dk_28 (dk_at dksX9_scan_7 10 rfl rfl)
theorem dX9_scan_174 : decode cX9_scan 174 = .ok (.ireturn, 1) := dk_172 (dk_at dksX9_scan_7 11 rfl rfl)
theorem dX9_scan_175 : decode cX9_scan 175 = .ok (.aload_n 0, 1) := dk_42 (dk_at dksX9_scan_7 12 rfl rfl)
theorem dX9_scan_176 : decode cX9_scan 176 = .ok (.iload_n 1, 1) := dk_27 (dk_at dksX9_scan_7 13 rfl rfl)
theorem dX9_scan_177 : decode cX9_scan 177 = .ok (.invokevirtual 209, 3) := dk_182 0 209 (dk_at dksX9_scan_7 14 rfl rfl)
theorem dX9_scan_180 : decode cX9_scan 180 = .ok (.istore_n 3, 1) := dk_62 (dk_at dksX9_scan_7 17 rfl rfl)
theorem dX9_scan_181 : decode cX9_scan 181 = .ok (.aload_n 0, 1) := dk_42 (dk_at dksX9_scan_7 18 rfl rfl)
theorem dX9_scan_182 : decode cX9_scan 182 = .ok (.iload_n 3, 1) := dk_29 (dk_at dksX9_scan_7 19 rfl rfl)
theorem dX9_scan_183 : decode cX9_scan 183 = .ok (.ifCond .ne 7, 3) := dk_154 0 7 (dk_at dksX9_scan_7 20 rfl rfl)
theorem dX9_scan_186 : decode cX9_scan 186 = .ok (.iconst 5, 1) := dk_8 (dk_at dksX9_scan_7 23 rfl rfl)
theorem dX9_scan_187 : decode cX9_scan 187 = .ok (.goto 4, 3) := dk_167 0 4 (dk_at dksX9_scan_8 0 rfl rfl)
theorem dX9_scan_190 : decode cX9_scan 190 = .ok (.iconst 2, 1) := dk_5 (dk_at dksX9_scan_8 3 rfl rfl)
theorem dX9_scan_191 : decode cX9_scan 191 = .ok (.iload_n 1, 1) := dk_27 (dk_at dksX9_scan_8 4 rfl rfl)
theorem dX9_scan_192 : decode cX9_scan 192 = .ok (.iload_n 3, 1) := dk_29 (dk_at dksX9_scan_8 5 rfl rfl)
theorem dX9_scan_193 : decode cX9_scan 193 = .ok (.invokevirtual 202, 3) := dk_182 0 202 (dk_at dksX9_scan_8 6 rfl rfl)
theorem dX9_scan_196 : decode cX9_scan 196 = .ok (.iload_n 1, 1) := dk_27 (dk_at dksX9_scan_8 9 rfl rfl)
theorem dX9_scan_197 : decode cX9_scan 197 = .ok (.iload_n 3, 1) := dk_29 (dk_at dksX9_scan_8 10 rfl rfl)
theorem dX9_scan_198 : decode cX9_scan 198 = .ok (.sipush 300, 3) := dk_17 1 44 (dk_at dksX9_scan_8 11 rfl rfl)
theorem dX9_scan_201 : decode cX9_scan 201 = .ok (.if_icmp .lt 7, 3) := dk_161 0 7 (dk_at dksX9_scan_8 14 rfl rfl)
theorem dX9_scan_204 : decode cX9_scan 204 = .ok (.iconst 2, 1) := dk_5 (dk_at dksX9_scan_8 17 rfl rfl)
theorem dX9_scan_205 : decode cX9_scan 205 = .ok (.goto 4, 3) := dk_167 0 4 (dk_at dksX9_scan_8 18 rfl rfl)
theorem dX9_scan_208 : decode cX9_scan 208 = .ok (.iconst 1, 1) := dk_4 (dk_at dksX9_scan_8 21 rfl rfl)
theorem dX9_scan_209 : decode cX9_scan 209 = .ok (.iadd, 1) := dk_96 (dk_at dksX9_scan_8 22 rfl rfl)
theorem dX9_scan_210 : decode cX9_scan 210 = .ok (.ireturn, 1) := dk_172 (dk_at dksX9_scan_8 23 rfl rfl)
abbrev cX9_isLetter : ByteArray := prog_23_method_6_code
def yX9_isLetter : MethodName := ⟨RX9, "isLetter", "(I)Z"⟩
def dkwX9_isLetter_1 : List UInt8 := [3, 172]
abbrev dktX9_isLetter_1 : List UInt8 := dkwX9_isLetter_1 ++ []
def dkwX9_isLetter_0 : List UInt8 := [42, 27, 182, 0, 131, 16, 97, 161, 0, 17, 42, 27, 182, 0, 131, 16, 122, 163, 0, 7, 4, 167, 0, 4]
abbrev dktX9_isLetter_0 : List UInt8 := dkwX9_isLetter_0 ++ dktX9_isLetter_1
theorem dksX9_isLetter_0 : cX9_isLetter.data.toList.drop 0 = dktX9_isLetter_0 := by decide +kernel
theorem dksX9_isLetter_1 : cX9_isLetter.data.toList.drop 24 = dktX9_isLetter_1 := dk_seg dksX9_isLetter_0 24 rfl rfl
theorem dX9_isLetter_0 : decode cX9_isLetter 0 = .ok (.aload_n 0, 1) := dk_42 (dk_at dksX9_isLetter_0 0 rfl rfl)
theorem dX9_isLetter_1 : decode cX9_isLetter 1 = .ok (.iload_n 1, 1) := dk_27 (dk_at dksX9_isLetter_0 1 rfl rfl)
theorem dX9_isLetter_2 : decode cX9_isLetter 2 = .ok (.invokevirtual 131, 3) := dk_182 0 131 (dk_at dksX9_isLetter_0 2 rfl rfl)
theorem dX9_isLetter_5 : decode cX9_isLetter 5 = .ok (.bipush 97, 2) := dk_16 97 (dk_at dksX9_isLetter_0 5 rfl rfl)
theorem dX9_isLetter_7 : decode cX9_isLetter 7 = .ok (.if_icmp .lt 17, 3) := dk_161 0 17 (dk_at dksX9_isLetter_0 7 rfl rfl)
theorem dX9_isLetter_10 : decode cX9_isLetter 10 = .ok (.aload_n 0, 1) := dk_42 (dk_at dksX9_isLetter_0 10 rfl rfl)
theorem dX9_isLetter_11 : decode cX9_isLetter 11 = .ok (.iload_n 1, 1) := dk_27 (dk_at dksX9_isLetter_0 11 rfl rfl)
theorem dX9_isLetter_12 : decode cX9_isLetter 12 = .ok (.invokevirtual 131, 3) := dk_182 0 131 (dk_at dksX9_isLetter_0 12 rfl rfl)
theorem dX9_isLetter_15 : decode cX9_isLetter 15 = .ok (.bipush 122, 2) := dk_16 122 (dk_at dksX9_isLetter_0 15 rfl rfl)
theorem dX9_isLetter_17 : decode cX9_isLetter 17 = .ok (.if_icmp .gt 7, 3) := dk_163 0 7 (dk_at dksX9_isLetter_0 17 rfl rfl)
theorem dX9_isLetter_20 : decode cX9_isLetter 20 = .ok (.iconst 1, 1) := dk_4 (dk_at dksX9_isLetter_0 20 rfl rfl)
theorem dX9_isLetter_21 : decode cX9_isLetter 21 = .ok (.goto 4, 3) := dk_167 0 4 (dk_at dksX9_isLetter_0 21 rfl rfl)
theorem dX9_isLetter_24 : decode cX9_isLetter 24 = .ok (.iconst 0, 1) := dk_3 (dk_at dksX9_isLetter_1 0 rfl rfl)
theorem dX9_isLetter_25 : decode cX9_isLetter 25 = .ok (.ireturn, 1) := dk_172 (dk_at dksX9_isLetter_1 1 rfl rfl)
abbrev cX9_wordOf : ByteArray := prog_23_method_9_code
def yX9_wordOf : MethodName := ⟨RX9, "wordOf", "(J)I"⟩
def dkwX9_wordOf_12 : List UInt8 := [20, 0, 188, 148, 154, 0, 6, 16, 33, 172, 2, 172]
abbrev dktX9_wordOf_12 : List UInt8 := dkwX9_wordOf_12 ++ []
def dkwX9_wordOf_11 : List UInt8 := [20, 0, 184, 148, 154, 0, 6, 16, 31, 172, 30, 20, 0, 186, 148, 154, 0, 6, 16, 32, 172, 30]
abbrev dktX9_wordOf_11 : List UInt8 := dkwX9_wordOf_11 ++ dktX9_wordOf_12
def dkwX9_wordOf_10 : List UInt8 := [20, 0, 180, 148, 154, 0, 6, 16, 21, 172, 30, 20, 0, 182, 148, 154, 0, 6, 16, 30, 172, 30]
abbrev dktX9_wordOf_10 : List UInt8 := dkwX9_wordOf_10 ++ dktX9_wordOf_11
def dkwX9_wordOf_9 : List UInt8 := [20, 0, 176, 148, 154, 0, 6, 16, 19, 172, 30, 20, 0, 178, 148, 154, 0, 6, 16, 20, 172, 30]
abbrev dktX9_wordOf_9 : List UInt8 := dkwX9_wordOf_9 ++ dktX9_wordOf_10
def dkwX9_wordOf_8 : List UInt8 := [20, 0, 172, 148, 154, 0, 6, 16, 17, 172, 30, 20, 0, 174, 148, 154, 0, 6, 16, 18, 172, 30]
abbrev dktX9_wordOf_8 : List UInt8 := dkwX9_wordOf_8 ++ dktX9_wordOf_9
def dkwX9_wordOf_7 : List UInt8 := [20, 0, 168, 148, 154, 0, 6, 16, 15, 172, 30, 20, 0, 170, 148, 154, 0, 6, 16, 16, 172, 30]
abbrev dktX9_wordOf_7 : List UInt8 := dkwX9_wordOf_7 ++ dktX9_wordOf_8
def dkwX9_wordOf_6 : List UInt8 := [20, 0, 164, 148, 154, 0, 6, 16, 13, 172, 30, 20, 0, 166, 148, 154, 0, 6, 16, 14, 172, 30]
abbrev dktX9_wordOf_6 : List UInt8 := dkwX9_wordOf_6 ++ dktX9_wordOf_7
def dkwX9_wordOf_5 : List UInt8 := [20, 0, 160, 148, 154, 0, 6, 16, 11, 172, 30, 20, 0, 162, 148, 154, 0, 6, 16, 12, 172, 30]
abbrev dktX9_wordOf_5 : List UInt8 := dkwX9_wordOf_5 ++ dktX9_wordOf_6
def dkwX9_wordOf_4 : List UInt8 := [20, 0, 156, 148, 154, 0, 6, 16, 9, 172, 30, 20, 0, 158, 148, 154, 0, 6, 16, 10, 172, 30]
abbrev dktX9_wordOf_4 : List UInt8 := dkwX9_wordOf_4 ++ dktX9_wordOf_5
def dkwX9_wordOf_3 : List UInt8 := [20, 0, 152, 148, 154, 0, 6, 16, 7, 172, 30, 20, 0, 154, 148, 154, 0, 6, 16, 8, 172, 30]
abbrev dktX9_wordOf_3 : List UInt8 := dkwX9_wordOf_3 ++ dktX9_wordOf_4
def dkwX9_wordOf_2 : List UInt8 := [7, 172, 30, 20, 0, 148, 148, 154, 0, 5, 8, 172, 30, 20, 0, 150, 148, 154, 0, 6, 16, 6, 172, 30]
abbrev dktX9_wordOf_2 : List UInt8 := dkwX9_wordOf_2 ++ dktX9_wordOf_3
def dkwX9_wordOf_1 : List UInt8 := [148, 154, 0, 5, 5, 172, 30, 20, 0, 144, 148, 154, 0, 5, 6, 172, 30, 20, 0, 146, 148, 154, 0, 5]
abbrev dktX9_wordOf_1 : List UInt8 := dkwX9_wordOf_1 ++ dktX9_wordOf_2
def dkwX9_wordOf_0 : List UInt8 := [30, 20, 0, 138, 148, 154, 0, 5, 3, 172, 30, 20, 0, 140, 148, 154, 0, 5, 4, 172, 30, 20, 0, 142]
abbrev dktX9_wordOf_0 : List UInt8 := dkwX9_wordOf_0 ++ dktX9_wordOf_1
theorem dksX9_wordOf_0 : cX9_wordOf.data.toList.drop 0 = dktX9_wordOf_0 := by decide +kernel
theorem dksX9_wordOf_1 : cX9_wordOf.data.toList.drop 24 = dktX9_wordOf_1 := dk_seg dksX9_wordOf_0 24 rfl rfl
theorem dksX9_wordOf_2 : cX9_wordOf.data.toList.drop 48 = dktX9_wordOf_2 := dk_seg dksX9_wordOf_1 24 rfl rfl
theorem dksX9_wordOf_3 : cX9_wordOf.data.toList.drop 72 = dktX9_wordOf_3 := dk_seg dksX9_wordOf_2 24 rfl rfl
theorem dksX9_wordOf_4 : cX9_wordOf.data.toList.drop 94 = dktX9_wordOf_4 := dk_seg dksX9_wordOf_3 22 rfl rfl
theorem dksX9_wordOf_5 : cX9_wordOf.data.toList.drop 116 = dktX9_wordOf_5 := dk_seg dksX9_wordOf_4 22 rfl rfl
theorem dksX9_wordOf_6 : cX9_wordOf.data.toList.drop 138 = dktX9_wordOf_6 := dk_seg dksX9_wordOf_5 22 rfl rfl
theorem dksX9_wordOf_7 : cX9_wordOf.data.toList.drop 160 = dktX9_wordOf_7 := dk_seg dksX9_wordOf_6 22 rfl rfl
theorem dksX9_wordOf_8 : cX9_wordOf.data.toList.drop 182 = dktX9_wordOf_8 := dk_seg dksX9_wordOf_7 22 rfl rfl
theorem dksX9_wordOf_9 : cX9_wordOf.data.toList.drop 204 = dktX9_wordOf_9 := dk_seg dksX9_wordOf_8 22 rfl rfl
theorem dksX9_wordOf_10 : cX9_wordOf.data.toList.drop 226 = dktX9_wordOf_10 := dk_seg dksX9_wordOf_9 22 rfl rfl
theorem dksX9_wordOf_11 : cX9_wordOf.data.toList.drop 248 = dktX9_wordOf_11 := dk_seg dksX9_wordOf_10 22 rfl rfl
theorem dksX9_wordOf_12 : cX9_wordOf.data.toList.drop 270 = dktX9_wordOf_12 := dk_seg dksX9_wordOf_11 22 rfl rfl
theorem dX9_wordOf_0 : decode cX9_wordOf 0 = .ok (.lload_n 0, 1) := dk_30 (dk_at dksX9_wordOf_0 0 rfl rfl)
theorem dX9_wordOf_1 : decode cX9_wordOf 1 = .ok (.ldc2_w 138, 3) := dk_20 0 138 (dk_at dksX9_wordOf_0 1 rfl rfl)
theorem dX9_wordOf_4 : decode cX9_wordOf 4 = .ok (.lcmp, 1) := dk_148 (dk_at dksX9_wordOf_0 4 rfl rfl)
theorem dX9_wordOf_5 : decode cX9_wordOf 5 = .ok (.ifCond .ne 5, 3) := dk_154 0 5 (dk_at dksX9_wordOf_0 5 rfl rfl)
theorem dX9_wordOf_8 : decode cX9_wordOf 8 = .ok (.iconst 0, 1) := dk_3 (dk_at dksX9_wordOf_0 8 rfl rfl)
theorem dX9_wordOf_9 : decode cX9_wordOf 9 = .ok (.ireturn, 1) := dk_172 (dk_at dksX9_wordOf_0 9 rfl rfl)
theorem dX9_wordOf_10 : decode cX9_wordOf 10 = .ok (.lload_n 0, 1) := dk_30 (dk_at dksX9_wordOf_0 10 rfl rfl)
theorem dX9_wordOf_11 : decode cX9_wordOf 11 = .ok (.ldc2_w 140, 3) := dk_20 0 140 (dk_at dksX9_wordOf_0 11 rfl rfl)
theorem dX9_wordOf_14 : decode cX9_wordOf 14 = .ok (.lcmp, 1) := dk_148 (dk_at dksX9_wordOf_0 14 rfl rfl)
theorem dX9_wordOf_15 : decode cX9_wordOf 15 = .ok (.ifCond .ne 5, 3) := dk_154 0 5 (dk_at dksX9_wordOf_0 15 rfl rfl)
theorem dX9_wordOf_18 : decode cX9_wordOf 18 = .ok (.iconst 1, 1) := dk_4 (dk_at dksX9_wordOf_0 18 rfl rfl)
theorem dX9_wordOf_19 : decode cX9_wordOf 19 = .ok (.ireturn, 1) := dk_172 (dk_at dksX9_wordOf_0 19 rfl rfl)
theorem dX9_wordOf_20 : decode cX9_wordOf 20 = .ok (.lload_n 0, 1) := dk_30 (dk_at dksX9_wordOf_0 20 rfl rfl)
theorem dX9_wordOf_21 : decode cX9_wordOf 21 = .ok (.ldc2_w 142, 3) := dk_20 0 142 (dk_at dksX9_wordOf_0 21 rfl rfl)
theorem dX9_wordOf_24 : decode cX9_wordOf 24 = .ok (.lcmp, 1) := dk_148 (dk_at dksX9_wordOf_1 0 rfl rfl)
theorem dX9_wordOf_25 : decode cX9_wordOf 25 = .ok (.ifCond .ne 5, 3) := dk_154 0 5 (dk_at dksX9_wordOf_1 1 rfl rfl)
theorem dX9_wordOf_28 : decode cX9_wordOf 28 = .ok (.iconst 2, 1) := dk_5 (dk_at dksX9_wordOf_1 4 rfl rfl)
theorem dX9_wordOf_29 : decode cX9_wordOf 29 = .ok (.ireturn, 1) := dk_172 (dk_at dksX9_wordOf_1 5 rfl rfl)
theorem dX9_wordOf_30 : decode cX9_wordOf 30 = .ok (.lload_n 0, 1) := dk_30 (dk_at dksX9_wordOf_1 6 rfl rfl)
theorem dX9_wordOf_31 : decode cX9_wordOf 31 = .ok (.ldc2_w 144, 3) := dk_20 0 144 (dk_at dksX9_wordOf_1 7 rfl rfl)
theorem dX9_wordOf_34 : decode cX9_wordOf 34 = .ok (.lcmp, 1) := dk_148 (dk_at dksX9_wordOf_1 10 rfl rfl)
theorem dX9_wordOf_35 : decode cX9_wordOf 35 = .ok (.ifCond .ne 5, 3) := dk_154 0 5 (dk_at dksX9_wordOf_1 11 rfl rfl)
theorem dX9_wordOf_38 : decode cX9_wordOf 38 = .ok (.iconst 3, 1) := dk_6 (dk_at dksX9_wordOf_1 14 rfl rfl)
theorem dX9_wordOf_39 : decode cX9_wordOf 39 = .ok (.ireturn, 1) := dk_172 (dk_at dksX9_wordOf_1 15 rfl rfl)
theorem dX9_wordOf_40 : decode cX9_wordOf 40 = .ok (.lload_n 0, 1) := dk_30 (dk_at dksX9_wordOf_1 16 rfl rfl)
theorem dX9_wordOf_41 : decode cX9_wordOf 41 = .ok (.ldc2_w 146, 3) := dk_20 0 146 (dk_at dksX9_wordOf_1 17 rfl rfl)
theorem dX9_wordOf_44 : decode cX9_wordOf 44 = .ok (.lcmp, 1) := dk_148 (dk_at dksX9_wordOf_1 20 rfl rfl)
theorem dX9_wordOf_45 : decode cX9_wordOf 45 = .ok (.ifCond .ne 5, 3) := dk_154 0 5 (dk_at dksX9_wordOf_1 21 rfl rfl)
theorem dX9_wordOf_48 : decode cX9_wordOf 48 = .ok (.iconst 4, 1) := dk_7 (dk_at dksX9_wordOf_2 0 rfl rfl)
theorem dX9_wordOf_49 : decode cX9_wordOf 49 = .ok (.ireturn, 1) := dk_172 (dk_at dksX9_wordOf_2 1 rfl rfl)
theorem dX9_wordOf_50 : decode cX9_wordOf 50 = .ok (.lload_n 0, 1) := dk_30 (dk_at dksX9_wordOf_2 2 rfl rfl)
theorem dX9_wordOf_51 : decode cX9_wordOf 51 = .ok (.ldc2_w 148, 3) := dk_20 0 148 (dk_at dksX9_wordOf_2 3 rfl rfl)
theorem dX9_wordOf_54 : decode cX9_wordOf 54 = .ok (.lcmp, 1) := dk_148 (dk_at dksX9_wordOf_2 6 rfl rfl)
theorem dX9_wordOf_55 : decode cX9_wordOf 55 = .ok (.ifCond .ne 5, 3) := dk_154 0 5 (dk_at dksX9_wordOf_2 7 rfl rfl)
theorem dX9_wordOf_58 : decode cX9_wordOf 58 = .ok (.iconst 5, 1) := dk_8 (dk_at dksX9_wordOf_2 10 rfl rfl)
theorem dX9_wordOf_59 : decode cX9_wordOf 59 = .ok (.ireturn, 1) := dk_172 (dk_at dksX9_wordOf_2 11 rfl rfl)
theorem dX9_wordOf_60 : decode cX9_wordOf 60 = .ok (.lload_n 0, 1) := dk_30 (dk_at dksX9_wordOf_2 12 rfl rfl)
theorem dX9_wordOf_61 : decode cX9_wordOf 61 = .ok (.ldc2_w 150, 3) := dk_20 0 150 (dk_at dksX9_wordOf_2 13 rfl rfl)
theorem dX9_wordOf_64 : decode cX9_wordOf 64 = .ok (.lcmp, 1) := dk_148 (dk_at dksX9_wordOf_2 16 rfl rfl)
theorem dX9_wordOf_65 : decode cX9_wordOf 65 = .ok (.ifCond .ne 6, 3) := dk_154 0 6 (dk_at dksX9_wordOf_2 17 rfl rfl)
theorem dX9_wordOf_68 : decode cX9_wordOf 68 = .ok (.bipush 6, 2) := dk_16 6 (dk_at dksX9_wordOf_2 20 rfl rfl)
theorem dX9_wordOf_70 : decode cX9_wordOf 70 = .ok (.ireturn, 1) := dk_172 (dk_at dksX9_wordOf_2 22 rfl rfl)
theorem dX9_wordOf_71 : decode cX9_wordOf 71 = .ok (.lload_n 0, 1) := dk_30 (dk_at dksX9_wordOf_2 23 rfl rfl)
theorem dX9_wordOf_72 : decode cX9_wordOf 72 = .ok (.ldc2_w 152, 3) := dk_20 0 152 (dk_at dksX9_wordOf_3 0 rfl rfl)
theorem dX9_wordOf_75 : decode cX9_wordOf 75 = .ok (.lcmp, 1) := dk_148 (dk_at dksX9_wordOf_3 3 rfl rfl)
theorem dX9_wordOf_76 : decode cX9_wordOf 76 = .ok (.ifCond .ne 6, 3) := dk_154 0 6 (dk_at dksX9_wordOf_3 4 rfl rfl)
theorem dX9_wordOf_79 : decode cX9_wordOf 79 = .ok (.bipush 7, 2) := dk_16 7 (dk_at dksX9_wordOf_3 7 rfl rfl)
theorem dX9_wordOf_81 : decode cX9_wordOf 81 = .ok (.ireturn, 1) := dk_172 (dk_at dksX9_wordOf_3 9 rfl rfl)
theorem dX9_wordOf_82 : decode cX9_wordOf 82 = .ok (.lload_n 0, 1) := dk_30 (dk_at dksX9_wordOf_3 10 rfl rfl)
theorem dX9_wordOf_83 : decode cX9_wordOf 83 = .ok (.ldc2_w 154, 3) := dk_20 0 154 (dk_at dksX9_wordOf_3 11 rfl rfl)
theorem dX9_wordOf_86 : decode cX9_wordOf 86 = .ok (.lcmp, 1) := dk_148 (dk_at dksX9_wordOf_3 14 rfl rfl)
theorem dX9_wordOf_87 : decode cX9_wordOf 87 = .ok (.ifCond .ne 6, 3) := dk_154 0 6 (dk_at dksX9_wordOf_3 15 rfl rfl)
theorem dX9_wordOf_90 : decode cX9_wordOf 90 = .ok (.bipush 8, 2) := dk_16 8 (dk_at dksX9_wordOf_3 18 rfl rfl)
theorem dX9_wordOf_92 : decode cX9_wordOf 92 = .ok (.ireturn, 1) := dk_172 (dk_at dksX9_wordOf_3 20 rfl rfl)
theorem dX9_wordOf_93 : decode cX9_wordOf 93 = .ok (.lload_n 0, 1) := dk_30 (dk_at dksX9_wordOf_3 21 rfl rfl)
theorem dX9_wordOf_94 : decode cX9_wordOf 94 = .ok (.ldc2_w 156, 3) := dk_20 0 156 (dk_at dksX9_wordOf_4 0 rfl rfl)
theorem dX9_wordOf_97 : decode cX9_wordOf 97 = .ok (.lcmp, 1) := dk_148 (dk_at dksX9_wordOf_4 3 rfl rfl)
theorem dX9_wordOf_98 : decode cX9_wordOf 98 = .ok (.ifCond .ne 6, 3) := dk_154 0 6 (dk_at dksX9_wordOf_4 4 rfl rfl)
theorem dX9_wordOf_101 : decode cX9_wordOf 101 = .ok (.bipush 9, 2) := dk_16 9 (dk_at dksX9_wordOf_4 7 rfl rfl)
theorem dX9_wordOf_103 : decode cX9_wordOf 103 = .ok (.ireturn, 1) := dk_172 (dk_at dksX9_wordOf_4 9 rfl rfl)
theorem dX9_wordOf_104 : decode cX9_wordOf 104 = .ok (.lload_n 0, 1) := dk_30 (dk_at dksX9_wordOf_4 10 rfl rfl)
theorem dX9_wordOf_105 : decode cX9_wordOf 105 = .ok (.ldc2_w 158, 3) := dk_20 0 158 (dk_at dksX9_wordOf_4 11 rfl rfl)
theorem dX9_wordOf_108 : decode cX9_wordOf 108 = .ok (.lcmp, 1) := dk_148 (dk_at dksX9_wordOf_4 14 rfl rfl)
theorem dX9_wordOf_109 : decode cX9_wordOf 109 = .ok (.ifCond .ne 6, 3) := dk_154 0 6 (dk_at dksX9_wordOf_4 15 rfl rfl)
theorem dX9_wordOf_112 : decode cX9_wordOf 112 = .ok (.bipush 10, 2) := dk_16 10 (dk_at dksX9_wordOf_4 18 rfl rfl)
theorem dX9_wordOf_114 : decode cX9_wordOf 114 = .ok (.ireturn, 1) := dk_172 (dk_at dksX9_wordOf_4 20 rfl rfl)
theorem dX9_wordOf_115 : decode cX9_wordOf 115 = .ok (.lload_n 0, 1) := dk_30 (dk_at dksX9_wordOf_4 21 rfl rfl)
theorem dX9_wordOf_116 : decode cX9_wordOf 116 = .ok (.ldc2_w 160, 3) := dk_20 0 160 (dk_at dksX9_wordOf_5 0 rfl rfl)
theorem dX9_wordOf_119 : decode cX9_wordOf 119 = .ok (.lcmp, 1) := dk_148 (dk_at dksX9_wordOf_5 3 rfl rfl)
theorem dX9_wordOf_120 : decode cX9_wordOf 120 = .ok (.ifCond .ne 6, 3) := dk_154 0 6 (dk_at dksX9_wordOf_5 4 rfl rfl)
theorem dX9_wordOf_123 : decode cX9_wordOf 123 = .ok (.bipush 11, 2) := dk_16 11 (dk_at dksX9_wordOf_5 7 rfl rfl)
theorem dX9_wordOf_125 : decode cX9_wordOf 125 = .ok (.ireturn, 1) := dk_172 (dk_at dksX9_wordOf_5 9 rfl rfl)
theorem dX9_wordOf_126 : decode cX9_wordOf 126 = .ok (.lload_n 0, 1) := dk_30 (dk_at dksX9_wordOf_5 10 rfl rfl)
theorem dX9_wordOf_127 : decode cX9_wordOf 127 = .ok (.ldc2_w 162, 3) := dk_20 0 162 (dk_at dksX9_wordOf_5 11 rfl rfl)
theorem dX9_wordOf_130 : decode cX9_wordOf 130 = .ok (.lcmp, 1) := dk_148 (dk_at dksX9_wordOf_5 14 rfl rfl)
theorem dX9_wordOf_131 : decode cX9_wordOf 131 = .ok (.ifCond .ne 6, 3) := dk_154 0 6 (dk_at dksX9_wordOf_5 15 rfl rfl)
theorem dX9_wordOf_134 : decode cX9_wordOf 134 = .ok (.bipush 12, 2) := dk_16 12 (dk_at dksX9_wordOf_5 18 rfl rfl)
theorem dX9_wordOf_136 : decode cX9_wordOf 136 = .ok (.ireturn, 1) := dk_172 (dk_at dksX9_wordOf_5 20 rfl rfl)
theorem dX9_wordOf_137 : decode cX9_wordOf 137 = .ok (.lload_n 0, 1) := dk_30 (dk_at dksX9_wordOf_5 21 rfl rfl)
theorem dX9_wordOf_138 : decode cX9_wordOf 138 = .ok (.ldc2_w 164, 3) := dk_20 0 164 (dk_at dksX9_wordOf_6 0 rfl rfl)
theorem dX9_wordOf_141 : decode cX9_wordOf 141 = .ok (.lcmp, 1) := dk_148 (dk_at dksX9_wordOf_6 3 rfl rfl)
theorem dX9_wordOf_142 : decode cX9_wordOf 142 = .ok (.ifCond .ne 6, 3) := dk_154 0 6 (dk_at dksX9_wordOf_6 4 rfl rfl)
theorem dX9_wordOf_145 : decode cX9_wordOf 145 = .ok (.bipush 13, 2) := dk_16 13 (dk_at dksX9_wordOf_6 7 rfl rfl)
theorem dX9_wordOf_147 : decode cX9_wordOf 147 = .ok (.ireturn, 1) := dk_172 (dk_at dksX9_wordOf_6 9 rfl rfl)
theorem dX9_wordOf_148 : decode cX9_wordOf 148 = .ok (.lload_n 0, 1) := dk_30 (dk_at dksX9_wordOf_6 10 rfl rfl)
theorem dX9_wordOf_149 : decode cX9_wordOf 149 = .ok (.ldc2_w 166, 3) := dk_20 0 166 (dk_at dksX9_wordOf_6 11 rfl rfl)
theorem dX9_wordOf_152 : decode cX9_wordOf 152 = .ok (.lcmp, 1) := dk_148 (dk_at dksX9_wordOf_6 14 rfl rfl)
theorem dX9_wordOf_153 : decode cX9_wordOf 153 = .ok (.ifCond .ne 6, 3) := dk_154 0 6 (dk_at dksX9_wordOf_6 15 rfl rfl)
theorem dX9_wordOf_156 : decode cX9_wordOf 156 = .ok (.bipush 14, 2) := dk_16 14 (dk_at dksX9_wordOf_6 18 rfl rfl)
theorem dX9_wordOf_158 : decode cX9_wordOf 158 = .ok (.ireturn, 1) := dk_172 (dk_at dksX9_wordOf_6 20 rfl rfl)
theorem dX9_wordOf_159 : decode cX9_wordOf 159 = .ok (.lload_n 0, 1) := dk_30 (dk_at dksX9_wordOf_6 21 rfl rfl)
theorem dX9_wordOf_160 : decode cX9_wordOf 160 = .ok (.ldc2_w 168, 3) := dk_20 0 168 (dk_at dksX9_wordOf_7 0 rfl rfl)
theorem dX9_wordOf_163 : decode cX9_wordOf 163 = .ok (.lcmp, 1) := dk_148 (dk_at dksX9_wordOf_7 3 rfl rfl)
theorem dX9_wordOf_164 : decode cX9_wordOf 164 = .ok (.ifCond .ne 6, 3) := dk_154 0 6 (dk_at dksX9_wordOf_7 4 rfl rfl)
theorem dX9_wordOf_167 : decode cX9_wordOf 167 = .ok (.bipush 15, 2) := dk_16 15 (dk_at dksX9_wordOf_7 7 rfl rfl)
theorem dX9_wordOf_169 : decode cX9_wordOf 169 = .ok (.ireturn, 1) := dk_172 (dk_at dksX9_wordOf_7 9 rfl rfl)
theorem dX9_wordOf_170 : decode cX9_wordOf 170 = .ok (.lload_n 0, 1) := dk_30 (dk_at dksX9_wordOf_7 10 rfl rfl)
theorem dX9_wordOf_171 : decode cX9_wordOf 171 = .ok (.ldc2_w 170, 3) := dk_20 0 170 (dk_at dksX9_wordOf_7 11 rfl rfl)
theorem dX9_wordOf_174 : decode cX9_wordOf 174 = .ok (.lcmp, 1) := dk_148 (dk_at dksX9_wordOf_7 14 rfl rfl)
theorem dX9_wordOf_175 : decode cX9_wordOf 175 = .ok (.ifCond .ne 6, 3) := dk_154 0 6 (dk_at dksX9_wordOf_7 15 rfl rfl)
theorem dX9_wordOf_178 : decode cX9_wordOf 178 = .ok (.bipush 16, 2) := dk_16 16 (dk_at dksX9_wordOf_7 18 rfl rfl)
theorem dX9_wordOf_180 : decode cX9_wordOf 180 = .ok (.ireturn, 1) := dk_172 (dk_at dksX9_wordOf_7 20 rfl rfl)
theorem dX9_wordOf_181 : decode cX9_wordOf 181 = .ok (.lload_n 0, 1) := dk_30 (dk_at dksX9_wordOf_7 21 rfl rfl)
theorem dX9_wordOf_182 : decode cX9_wordOf 182 = .ok (.ldc2_w 172, 3) := dk_20 0 172 (dk_at dksX9_wordOf_8 0 rfl rfl)
theorem dX9_wordOf_185 : decode cX9_wordOf 185 = .ok (.lcmp, 1) := dk_148 (dk_at dksX9_wordOf_8 3 rfl rfl)
theorem dX9_wordOf_186 : decode cX9_wordOf 186 = .ok (.ifCond .ne 6, 3) := dk_154 0 6 (dk_at dksX9_wordOf_8 4 rfl rfl)
theorem dX9_wordOf_189 : decode cX9_wordOf 189 = .ok (.bipush 17, 2) := dk_16 17 (dk_at dksX9_wordOf_8 7 rfl rfl)
theorem dX9_wordOf_191 : decode cX9_wordOf 191 = .ok (.ireturn, 1) := dk_172 (dk_at dksX9_wordOf_8 9 rfl rfl)
theorem dX9_wordOf_192 : decode cX9_wordOf 192 = .ok (.lload_n 0, 1) := dk_30 (dk_at dksX9_wordOf_8 10 rfl rfl)
theorem dX9_wordOf_193 : decode cX9_wordOf 193 = .ok (.ldc2_w 174, 3) := dk_20 0 174 (dk_at dksX9_wordOf_8 11 rfl rfl)
theorem dX9_wordOf_196 : decode cX9_wordOf 196 = .ok (.lcmp, 1) := dk_148 (dk_at dksX9_wordOf_8 14 rfl rfl)
theorem dX9_wordOf_197 : decode cX9_wordOf 197 = .ok (.ifCond .ne 6, 3) := dk_154 0 6 (dk_at dksX9_wordOf_8 15 rfl rfl)
theorem dX9_wordOf_200 : decode cX9_wordOf 200 = .ok (.bipush 18, 2) := dk_16 18 (dk_at dksX9_wordOf_8 18 rfl rfl)
theorem dX9_wordOf_202 : decode cX9_wordOf 202 = .ok (.ireturn, 1) := dk_172 (dk_at dksX9_wordOf_8 20 rfl rfl)
theorem dX9_wordOf_203 : decode cX9_wordOf 203 = .ok (.lload_n 0, 1) := dk_30 (dk_at dksX9_wordOf_8 21 rfl rfl)
theorem dX9_wordOf_204 : decode cX9_wordOf 204 = .ok (.ldc2_w 176, 3) := dk_20 0 176 (dk_at dksX9_wordOf_9 0 rfl rfl)
theorem dX9_wordOf_207 : decode cX9_wordOf 207 = .ok (.lcmp, 1) := dk_148 (dk_at dksX9_wordOf_9 3 rfl rfl)
theorem dX9_wordOf_208 : decode cX9_wordOf 208 = .ok (.ifCond .ne 6, 3) := dk_154 0 6 (dk_at dksX9_wordOf_9 4 rfl rfl)
theorem dX9_wordOf_211 : decode cX9_wordOf 211 = .ok (.bipush 19, 2) := dk_16 19 (dk_at dksX9_wordOf_9 7 rfl rfl)
theorem dX9_wordOf_213 : decode cX9_wordOf 213 = .ok (.ireturn, 1) := dk_172 (dk_at dksX9_wordOf_9 9 rfl rfl)
theorem dX9_wordOf_214 : decode cX9_wordOf 214 = .ok (.lload_n 0, 1) := dk_30 (dk_at dksX9_wordOf_9 10 rfl rfl)
theorem dX9_wordOf_215 : decode cX9_wordOf 215 = .ok (.ldc2_w 178, 3) := dk_20 0 178 (dk_at dksX9_wordOf_9 11 rfl rfl)
theorem dX9_wordOf_218 : decode cX9_wordOf 218 = .ok (.lcmp, 1) := dk_148 (dk_at dksX9_wordOf_9 14 rfl rfl)
theorem dX9_wordOf_219 : decode cX9_wordOf 219 = .ok (.ifCond .ne 6, 3) := dk_154 0 6 (dk_at dksX9_wordOf_9 15 rfl rfl)
theorem dX9_wordOf_222 : decode cX9_wordOf 222 = .ok (.bipush 20, 2) := dk_16 20 (dk_at dksX9_wordOf_9 18 rfl rfl)
theorem dX9_wordOf_224 : decode cX9_wordOf 224 = .ok (.ireturn, 1) := dk_172 (dk_at dksX9_wordOf_9 20 rfl rfl)
theorem dX9_wordOf_225 : decode cX9_wordOf 225 = .ok (.lload_n 0, 1) := dk_30 (dk_at dksX9_wordOf_9 21 rfl rfl)
theorem dX9_wordOf_226 : decode cX9_wordOf 226 = .ok (.ldc2_w 180, 3) := dk_20 0 180 (dk_at dksX9_wordOf_10 0 rfl rfl)
theorem dX9_wordOf_229 : decode cX9_wordOf 229 = .ok (.lcmp, 1) := dk_148 (dk_at dksX9_wordOf_10 3 rfl rfl)
theorem dX9_wordOf_230 : decode cX9_wordOf 230 = .ok (.ifCond .ne 6, 3) := dk_154 0 6 (dk_at dksX9_wordOf_10 4 rfl rfl)
theorem dX9_wordOf_233 : decode cX9_wordOf 233 = .ok (.bipush 21, 2) := dk_16 21 (dk_at dksX9_wordOf_10 7 rfl rfl)
theorem dX9_wordOf_235 : decode cX9_wordOf 235 = .ok (.ireturn, 1) := dk_172 (dk_at dksX9_wordOf_10 9 rfl rfl)
theorem dX9_wordOf_236 : decode cX9_wordOf 236 = .ok (.lload_n 0, 1) := dk_30 (dk_at dksX9_wordOf_10 10 rfl rfl)
theorem dX9_wordOf_237 : decode cX9_wordOf 237 = .ok (.ldc2_w 182, 3) := dk_20 0 182 (dk_at dksX9_wordOf_10 11 rfl rfl)
theorem dX9_wordOf_240 : decode cX9_wordOf 240 = .ok (.lcmp, 1) := dk_148 (dk_at dksX9_wordOf_10 14 rfl rfl)
theorem dX9_wordOf_241 : decode cX9_wordOf 241 = .ok (.ifCond .ne 6, 3) := dk_154 0 6 (dk_at dksX9_wordOf_10 15 rfl rfl)
theorem dX9_wordOf_244 : decode cX9_wordOf 244 = .ok (.bipush 30, 2) := dk_16 30 (dk_at dksX9_wordOf_10 18 rfl rfl)
theorem dX9_wordOf_246 : decode cX9_wordOf 246 = .ok (.ireturn, 1) := dk_172 (dk_at dksX9_wordOf_10 20 rfl rfl)
theorem dX9_wordOf_247 : decode cX9_wordOf 247 = .ok (.lload_n 0, 1) := dk_30 (dk_at dksX9_wordOf_10 21 rfl rfl)
theorem dX9_wordOf_248 : decode cX9_wordOf 248 = .ok (.ldc2_w 184, 3) := dk_20 0 184 (dk_at dksX9_wordOf_11 0 rfl rfl)
theorem dX9_wordOf_251 : decode cX9_wordOf 251 = .ok (.lcmp, 1) := dk_148 (dk_at dksX9_wordOf_11 3 rfl rfl)
theorem dX9_wordOf_252 : decode cX9_wordOf 252 = .ok (.ifCond .ne 6, 3) := dk_154 0 6 (dk_at dksX9_wordOf_11 4 rfl rfl)
theorem dX9_wordOf_255 : decode cX9_wordOf 255 = .ok (.bipush 31, 2) := dk_16 31 (dk_at dksX9_wordOf_11 7 rfl rfl)
theorem dX9_wordOf_257 : decode cX9_wordOf 257 = .ok (.ireturn, 1) := dk_172 (dk_at dksX9_wordOf_11 9 rfl rfl)
theorem dX9_wordOf_258 : decode cX9_wordOf 258 = .ok (.lload_n 0, 1) := dk_30 (dk_at dksX9_wordOf_11 10 rfl rfl)
theorem dX9_wordOf_259 : decode cX9_wordOf 259 = .ok (.ldc2_w 186, 3) := dk_20 0 186 (dk_at dksX9_wordOf_11 11 rfl rfl)
theorem dX9_wordOf_262 : decode cX9_wordOf 262 = .ok (.lcmp, 1) := dk_148 (dk_at dksX9_wordOf_11 14 rfl rfl)
theorem dX9_wordOf_263 : decode cX9_wordOf 263 = .ok (.ifCond .ne 6, 3) := dk_154 0 6 (dk_at dksX9_wordOf_11 15 rfl rfl)
theorem dX9_wordOf_266 : decode cX9_wordOf 266 = .ok (.bipush 32, 2) := dk_16 32 (dk_at dksX9_wordOf_11 18 rfl rfl)
theorem dX9_wordOf_268 : decode cX9_wordOf 268 = .ok (.ireturn, 1) := dk_172 (dk_at dksX9_wordOf_11 20 rfl rfl)
theorem dX9_wordOf_269 : decode cX9_wordOf 269 = .ok (.lload_n 0, 1) := dk_30 (dk_at dksX9_wordOf_11 21 rfl rfl)
theorem dX9_wordOf_270 : decode cX9_wordOf 270 = .ok (.ldc2_w 188, 3) := dk_20 0 188 (dk_at dksX9_wordOf_12 0 rfl rfl)
theorem dX9_wordOf_273 : decode cX9_wordOf 273 = .ok (.lcmp, 1) := dk_148 (dk_at dksX9_wordOf_12 3 rfl rfl)
theorem dX9_wordOf_274 : decode cX9_wordOf 274 = .ok (.ifCond .ne 6, 3) := dk_154 0 6 (dk_at dksX9_wordOf_12 4 rfl rfl)
theorem dX9_wordOf_277 : decode cX9_wordOf 277 = .ok (.bipush 33, 2) := dk_16 33 (dk_at dksX9_wordOf_12 7 rfl rfl)
theorem dX9_wordOf_279 : decode cX9_wordOf 279 = .ok (.ireturn, 1) := dk_172 (dk_at dksX9_wordOf_12 9 rfl rfl)
theorem dX9_wordOf_280 : decode cX9_wordOf 280 = .ok (.iconst (-1), 1) := dk_2 (dk_at dksX9_wordOf_12 10 rfl rfl)
theorem dX9_wordOf_281 : decode cX9_wordOf 281 = .ok (.ireturn, 1) := dk_172 (dk_at dksX9_wordOf_12 11 rfl rfl)
abbrev cX9_token : ByteArray := prog_23_method_8_code
def yX9_token : MethodName := ⟨RX9, "token", "(III)V"⟩
def dkwX9_token_1 : List UInt8 := [42, 180, 0, 135, 29, 79, 42, 89, 180, 0, 135, 4, 96, 181, 0, 135, 177]
abbrev dktX9_token_1 : List UInt8 := dkwX9_token_1 ++ []
def dkwX9_token_0 : List UInt8 := [42, 180, 0, 13, 42, 180, 0, 135, 27, 79, 42, 180, 0, 16, 42, 180, 0, 135, 28, 79, 42, 180, 0, 19]
abbrev dktX9_token_0 : List UInt8 := dkwX9_token_0 ++ dktX9_token_1
theorem dksX9_token_0 : cX9_token.data.toList.drop 0 = dktX9_token_0 := by decide +kernel
theorem dksX9_token_1 : cX9_token.data.toList.drop 24 = dktX9_token_1 := dk_seg dksX9_token_0 24 rfl rfl
theorem dX9_token_0 : decode cX9_token 0 = .ok (.aload_n 0, 1) := dk_42 (dk_at dksX9_token_0 0 rfl rfl)
theorem dX9_token_1 : decode cX9_token 1 = .ok (.getfield 13, 3) := dk_180 0 13 (dk_at dksX9_token_0 1 rfl rfl)
theorem dX9_token_4 : decode cX9_token 4 = .ok (.aload_n 0, 1) := dk_42 (dk_at dksX9_token_0 4 rfl rfl)
theorem dX9_token_5 : decode cX9_token 5 = .ok (.getfield 135, 3) := dk_180 0 135 (dk_at dksX9_token_0 5 rfl rfl)
theorem dX9_token_8 : decode cX9_token 8 = .ok (.iload_n 1, 1) := dk_27 (dk_at dksX9_token_0 8 rfl rfl)
theorem dX9_token_9 : decode cX9_token 9 = .ok (.iastore, 1) := dk_79 (dk_at dksX9_token_0 9 rfl rfl)
theorem dX9_token_10 : decode cX9_token 10 = .ok (.aload_n 0, 1) := dk_42 (dk_at dksX9_token_0 10 rfl rfl)
theorem dX9_token_11 : decode cX9_token 11 = .ok (.getfield 16, 3) := dk_180 0 16 (dk_at dksX9_token_0 11 rfl rfl)
theorem dX9_token_14 : decode cX9_token 14 = .ok (.aload_n 0, 1) := dk_42 (dk_at dksX9_token_0 14 rfl rfl)
theorem dX9_token_15 : decode cX9_token 15 = .ok (.getfield 135, 3) := dk_180 0 135 (dk_at dksX9_token_0 15 rfl rfl)
theorem dX9_token_18 : decode cX9_token 18 = .ok (.iload_n 2, 1) := dk_28 (dk_at dksX9_token_0 18 rfl rfl)
theorem dX9_token_19 : decode cX9_token 19 = .ok (.iastore, 1) := dk_79 (dk_at dksX9_token_0 19 rfl rfl)
theorem dX9_token_20 : decode cX9_token 20 = .ok (.aload_n 0, 1) := dk_42 (dk_at dksX9_token_0 20 rfl rfl)
theorem dX9_token_21 : decode cX9_token 21 = .ok (.getfield 19, 3) := dk_180 0 19 (dk_at dksX9_token_0 21 rfl rfl)
theorem dX9_token_24 : decode cX9_token 24 = .ok (.aload_n 0, 1) := dk_42 (dk_at dksX9_token_1 0 rfl rfl)
theorem dX9_token_25 : decode cX9_token 25 = .ok (.getfield 135, 3) := dk_180 0 135 (dk_at dksX9_token_1 1 rfl rfl)
theorem dX9_token_28 : decode cX9_token 28 = .ok (.iload_n 3, 1) := dk_29 (dk_at dksX9_token_1 4 rfl rfl)
theorem dX9_token_29 : decode cX9_token 29 = .ok (.iastore, 1) := dk_79 (dk_at dksX9_token_1 5 rfl rfl)
theorem dX9_token_30 : decode cX9_token 30 = .ok (.aload_n 0, 1) := dk_42 (dk_at dksX9_token_1 6 rfl rfl)
theorem dX9_token_31 : decode cX9_token 31 = .ok (.dup, 1) := dk_89 (dk_at dksX9_token_1 7 rfl rfl)
theorem dX9_token_32 : decode cX9_token 32 = .ok (.getfield 135, 3) := dk_180 0 135 (dk_at dksX9_token_1 8 rfl rfl)
theorem dX9_token_35 : decode cX9_token 35 = .ok (.iconst 1, 1) := dk_4 (dk_at dksX9_token_1 11 rfl rfl)
theorem dX9_token_36 : decode cX9_token 36 = .ok (.iadd, 1) := dk_96 (dk_at dksX9_token_1 12 rfl rfl)
theorem dX9_token_37 : decode cX9_token 37 = .ok (.putfield 135, 3) := dk_181 0 135 (dk_at dksX9_token_1 13 rfl rfl)
theorem dX9_token_40 : decode cX9_token 40 = .ok (.return_, 1) := dk_177 (dk_at dksX9_token_1 16 rfl rfl)
abbrev cX9_isDigit : ByteArray := prog_23_method_7_code
def yX9_isDigit : MethodName := ⟨RX9, "isDigit", "(I)Z"⟩
def dkwX9_isDigit_1 : List UInt8 := [3, 172]
abbrev dktX9_isDigit_1 : List UInt8 := dkwX9_isDigit_1 ++ []
def dkwX9_isDigit_0 : List UInt8 := [42, 27, 182, 0, 131, 16, 48, 161, 0, 17, 42, 27, 182, 0, 131, 16, 57, 163, 0, 7, 4, 167, 0, 4]
abbrev dktX9_isDigit_0 : List UInt8 := dkwX9_isDigit_0 ++ dktX9_isDigit_1
theorem dksX9_isDigit_0 : cX9_isDigit.data.toList.drop 0 = dktX9_isDigit_0 := by decide +kernel
theorem dksX9_isDigit_1 : cX9_isDigit.data.toList.drop 24 = dktX9_isDigit_1 := dk_seg dksX9_isDigit_0 24 rfl rfl
theorem dX9_isDigit_0 : decode cX9_isDigit 0 = .ok (.aload_n 0, 1) := dk_42 (dk_at dksX9_isDigit_0 0 rfl rfl)
theorem dX9_isDigit_1 : decode cX9_isDigit 1 = .ok (.iload_n 1, 1) := dk_27 (dk_at dksX9_isDigit_0 1 rfl rfl)
theorem dX9_isDigit_2 : decode cX9_isDigit 2 = .ok (.invokevirtual 131, 3) := dk_182 0 131 (dk_at dksX9_isDigit_0 2 rfl rfl)
theorem dX9_isDigit_5 : decode cX9_isDigit 5 = .ok (.bipush 48, 2) := dk_16 48 (dk_at dksX9_isDigit_0 5 rfl rfl)
theorem dX9_isDigit_7 : decode cX9_isDigit 7 = .ok (.if_icmp .lt 17, 3) := dk_161 0 17 (dk_at dksX9_isDigit_0 7 rfl rfl)
theorem dX9_isDigit_10 : decode cX9_isDigit 10 = .ok (.aload_n 0, 1) := dk_42 (dk_at dksX9_isDigit_0 10 rfl rfl)
theorem dX9_isDigit_11 : decode cX9_isDigit 11 = .ok (.iload_n 1, 1) := dk_27 (dk_at dksX9_isDigit_0 11 rfl rfl)
theorem dX9_isDigit_12 : decode cX9_isDigit 12 = .ok (.invokevirtual 131, 3) := dk_182 0 131 (dk_at dksX9_isDigit_0 12 rfl rfl)
theorem dX9_isDigit_15 : decode cX9_isDigit 15 = .ok (.bipush 57, 2) := dk_16 57 (dk_at dksX9_isDigit_0 15 rfl rfl)
theorem dX9_isDigit_17 : decode cX9_isDigit 17 = .ok (.if_icmp .gt 7, 3) := dk_163 0 7 (dk_at dksX9_isDigit_0 17 rfl rfl)
theorem dX9_isDigit_20 : decode cX9_isDigit 20 = .ok (.iconst 1, 1) := dk_4 (dk_at dksX9_isDigit_0 20 rfl rfl)
theorem dX9_isDigit_21 : decode cX9_isDigit 21 = .ok (.goto 4, 3) := dk_167 0 4 (dk_at dksX9_isDigit_0 21 rfl rfl)
theorem dX9_isDigit_24 : decode cX9_isDigit 24 = .ok (.iconst 0, 1) := dk_3 (dk_at dksX9_isDigit_1 0 rfl rfl)
theorem dX9_isDigit_25 : decode cX9_isDigit 25 = .ok (.ireturn, 1) := dk_172 (dk_at dksX9_isDigit_1 1 rfl rfl)
abbrev cX9_signAt : ByteArray := prog_23_method_10_code
def yX9_signAt : MethodName := ⟨RX9, "signAt", "(I)I"⟩
def dkwX9_signAt_5 : List UInt8 := [160, 0, 7, 28, 167, 0, 4, 3, 172]
abbrev dktX9_signAt_5 : List UInt8 := dkwX9_signAt_5 ++ []
def dkwX9_signAt_4 : List UInt8 := [159, 0, 27, 28, 16, 42, 159, 0, 21, 28, 16, 47, 159, 0, 15, 28, 16, 40, 159, 0, 9, 28, 16, 41]
abbrev dktX9_signAt_4 : List UInt8 := dkwX9_signAt_4 ++ dktX9_signAt_5
def dkwX9_signAt_3 : List UInt8 := [17, 1, 46, 167, 0, 4, 28, 172, 28, 16, 59, 159, 0, 39, 28, 16, 43, 159, 0, 33, 28, 16, 45]
abbrev dktX9_signAt_3 : List UInt8 := dkwX9_signAt_3 ++ dktX9_signAt_4
def dkwX9_signAt_2 : List UInt8 := [29, 153, 0, 9, 17, 1, 45, 167, 0, 4, 3, 172, 28, 16, 60, 160, 0, 15, 29, 153, 0, 9]
abbrev dktX9_signAt_2 : List UInt8 := dkwX9_signAt_2 ++ dktX9_signAt_3
def dkwX9_signAt_1 : List UInt8 := [28, 16, 61, 160, 0, 15, 29, 153, 0, 9, 17, 1, 44, 167, 0, 4, 28, 172, 28, 16, 33, 160, 0, 15]
abbrev dktX9_signAt_1 : List UInt8 := dkwX9_signAt_1 ++ dktX9_signAt_2
def dkwX9_signAt_0 : List UInt8 := [42, 27, 182, 0, 131, 61, 42, 27, 4, 96, 182, 0, 131, 16, 61, 160, 0, 7, 4, 167, 0, 4, 3, 62]
abbrev dktX9_signAt_0 : List UInt8 := dkwX9_signAt_0 ++ dktX9_signAt_1
theorem dksX9_signAt_0 : cX9_signAt.data.toList.drop 0 = dktX9_signAt_0 := by decide +kernel
theorem dksX9_signAt_1 : cX9_signAt.data.toList.drop 24 = dktX9_signAt_1 := dk_seg dksX9_signAt_0 24 rfl rfl
theorem dksX9_signAt_2 : cX9_signAt.data.toList.drop 48 = dktX9_signAt_2 := dk_seg dksX9_signAt_1 24 rfl rfl
theorem dksX9_signAt_3 : cX9_signAt.data.toList.drop 70 = dktX9_signAt_3 := dk_seg dksX9_signAt_2 22 rfl rfl
theorem dksX9_signAt_4 : cX9_signAt.data.toList.drop 93 = dktX9_signAt_4 := dk_seg dksX9_signAt_3 23 rfl rfl
theorem dksX9_signAt_5 : cX9_signAt.data.toList.drop 117 = dktX9_signAt_5 := dk_seg dksX9_signAt_4 24 rfl rfl
theorem dX9_signAt_0 : decode cX9_signAt 0 = .ok (.aload_n 0, 1) := dk_42 (dk_at dksX9_signAt_0 0 rfl rfl)
theorem dX9_signAt_1 : decode cX9_signAt 1 = .ok (.iload_n 1, 1) := dk_27 (dk_at dksX9_signAt_0 1 rfl rfl)
theorem dX9_signAt_2 : decode cX9_signAt 2 = .ok (.invokevirtual 131, 3) := dk_182 0 131 (dk_at dksX9_signAt_0 2 rfl rfl)
theorem dX9_signAt_5 : decode cX9_signAt 5 = .ok (.istore_n 2, 1) := dk_61 (dk_at dksX9_signAt_0 5 rfl rfl)
theorem dX9_signAt_6 : decode cX9_signAt 6 = .ok (.aload_n 0, 1) := dk_42 (dk_at dksX9_signAt_0 6 rfl rfl)
theorem dX9_signAt_7 : decode cX9_signAt 7 = .ok (.iload_n 1, 1) := dk_27 (dk_at dksX9_signAt_0 7 rfl rfl)
theorem dX9_signAt_8 : decode cX9_signAt 8 = .ok (.iconst 1, 1) := dk_4 (dk_at dksX9_signAt_0 8 rfl rfl)
theorem dX9_signAt_9 : decode cX9_signAt 9 = .ok (.iadd, 1) := dk_96 (dk_at dksX9_signAt_0 9 rfl rfl)
theorem dX9_signAt_10 : decode cX9_signAt 10 = .ok (.invokevirtual 131, 3) := dk_182 0 131 (dk_at dksX9_signAt_0 10 rfl rfl)
theorem dX9_signAt_13 : decode cX9_signAt 13 = .ok (.bipush 61, 2) := dk_16 61 (dk_at dksX9_signAt_0 13 rfl rfl)
theorem dX9_signAt_15 : decode cX9_signAt 15 = .ok (.if_icmp .ne 7, 3) := dk_160 0 7 (dk_at dksX9_signAt_0 15 rfl rfl)
theorem dX9_signAt_18 : decode cX9_signAt 18 = .ok (.iconst 1, 1) := dk_4 (dk_at dksX9_signAt_0 18 rfl rfl)
theorem dX9_signAt_19 : decode cX9_signAt 19 = .ok (.goto 4, 3) := dk_167 0 4 (dk_at dksX9_signAt_0 19 rfl rfl)
theorem dX9_signAt_22 : decode cX9_signAt 22 = .ok (.iconst 0, 1) := dk_3 (dk_at dksX9_signAt_0 22 rfl rfl)
theorem dX9_signAt_23 : decode cX9_signAt 23 = .ok (.istore_n 3, 1) := dk_62 (dk_at dksX9_signAt_0 23 rfl rfl)
theorem dX9_signAt_24 : decode cX9_signAt 24 = .ok (.iload_n 2, 1) := dk_28 (dk_at dksX9_signAt_1 0 rfl rfl)
theorem dX9_signAt_25 : decode cX9_signAt 25 = .ok (.bipush 61, 2) := dk_16 61 (dk_at dksX9_signAt_1 1 rfl rfl)
theorem dX9_signAt_27 : decode cX9_signAt 27 = .ok (.if_icmp .ne 15, 3) := dk_160 0 15 (dk_at dksX9_signAt_1 3 rfl rfl)
theorem dX9_signAt_30 : decode cX9_signAt 30 = .ok (.iload_n 3, 1) := dk_29 (dk_at dksX9_signAt_1 6 rfl rfl)
theorem dX9_signAt_31 : decode cX9_signAt 31 = .ok (.ifCond .eq 9, 3) := dk_153 0 9 (dk_at dksX9_signAt_1 7 rfl rfl)
theorem dX9_signAt_34 : decode cX9_signAt 34 = .ok (.sipush 300, 3) := dk_17 1 44 (dk_at dksX9_signAt_1 10 rfl rfl)
theorem dX9_signAt_37 : decode cX9_signAt 37 = .ok (.goto 4, 3) := dk_167 0 4 (dk_at dksX9_signAt_1 13 rfl rfl)
theorem dX9_signAt_40 : decode cX9_signAt 40 = .ok (.iload_n 2, 1) := dk_28 (dk_at dksX9_signAt_1 16 rfl rfl)
theorem dX9_signAt_41 : decode cX9_signAt 41 = .ok (.ireturn, 1) := dk_172 (dk_at dksX9_signAt_1 17 rfl rfl)
theorem dX9_signAt_42 : decode cX9_signAt 42 = .ok (.iload_n 2, 1) := dk_28 (dk_at dksX9_signAt_1 18 rfl rfl)
theorem dX9_signAt_43 : decode cX9_signAt 43 = .ok (.bipush 33, 2) := dk_16 33 (dk_at dksX9_signAt_1 19 rfl rfl)
theorem dX9_signAt_45 : decode cX9_signAt 45 = .ok (.if_icmp .ne 15, 3) := dk_160 0 15 (dk_at dksX9_signAt_1 21 rfl rfl)
theorem dX9_signAt_48 : decode cX9_signAt 48 = .ok (.iload_n 3, 1) := dk_29 (dk_at dksX9_signAt_2 0 rfl rfl)
theorem dX9_signAt_49 : decode cX9_signAt 49 = .ok (.ifCond .eq 9, 3) := dk_153 0 9 (dk_at dksX9_signAt_2 1 rfl rfl)
theorem dX9_signAt_52 : decode cX9_signAt 52 = .ok (.sipush 301, 3) := dk_17 1 45 (dk_at dksX9_signAt_2 4 rfl rfl)
theorem dX9_signAt_55 : decode cX9_signAt 55 = .ok (.goto 4, 3) := dk_167 0 4 (dk_at dksX9_signAt_2 7 rfl rfl)
theorem dX9_signAt_58 : decode cX9_signAt 58 = .ok (.iconst 0, 1) := dk_3 (dk_at dksX9_signAt_2 10 rfl rfl)
theorem dX9_signAt_59 : decode cX9_signAt 59 = .ok (.ireturn, 1) := dk_172 (dk_at dksX9_signAt_2 11 rfl rfl)
theorem dX9_signAt_60 : decode cX9_signAt 60 = .ok (.iload_n 2, 1) := dk_28 (dk_at dksX9_signAt_2 12 rfl rfl)
theorem dX9_signAt_61 : decode cX9_signAt 61 = .ok (.bipush 60, 2) := dk_16 60 (dk_at dksX9_signAt_2 13 rfl rfl)
theorem dX9_signAt_63 : decode cX9_signAt 63 = .ok (.if_icmp .ne 15, 3) := dk_160 0 15 (dk_at dksX9_signAt_2 15 rfl rfl)
theorem dX9_signAt_66 : decode cX9_signAt 66 = .ok (.iload_n 3, 1) := dk_29 (dk_at dksX9_signAt_2 18 rfl rfl)
theorem dX9_signAt_67 : decode cX9_signAt 67 = .ok (.ifCond .eq 9, 3) := dk_153 0 9 (dk_at dksX9_signAt_2 19 rfl rfl)
theorem dX9_signAt_70 : decode cX9_signAt 70 = .ok (.sipush 302, 3) := dk_17 1 46 (dk_at dksX9_signAt_3 0 rfl rfl)
theorem dX9_signAt_73 : decode cX9_signAt 73 = .ok (.goto 4, 3) := dk_167 0 4 (dk_at dksX9_signAt_3 3 rfl rfl)
theorem dX9_signAt_76 : decode cX9_signAt 76 = .ok (.iload_n 2, 1) := dk_28 (dk_at dksX9_signAt_3 6 rfl rfl)
theorem dX9_signAt_77 : decode cX9_signAt 77 = .ok (.ireturn, 1) := dk_172 (dk_at dksX9_signAt_3 7 rfl rfl)
theorem dX9_signAt_78 : decode cX9_signAt 78 = .ok (.iload_n 2, 1) := dk_28 (dk_at dksX9_signAt_3 8 rfl rfl)
theorem dX9_signAt_79 : decode cX9_signAt 79 = .ok (.bipush 59, 2) := dk_16 59 (dk_at dksX9_signAt_3 9 rfl rfl)
theorem dX9_signAt_81 : decode cX9_signAt 81 = .ok (.if_icmp .eq 39, 3) := dk_159 0 39 (dk_at dksX9_signAt_3 11 rfl rfl)
theorem dX9_signAt_84 : decode cX9_signAt 84 = .ok (.iload_n 2, 1) := dk_28 (dk_at dksX9_signAt_3 14 rfl rfl)
theorem dX9_signAt_85 : decode cX9_signAt 85 = .ok (.bipush 43, 2) := dk_16 43 (dk_at dksX9_signAt_3 15 rfl rfl)
theorem dX9_signAt_87 : decode cX9_signAt 87 = .ok (.if_icmp .eq 33, 3) := dk_159 0 33 (dk_at dksX9_signAt_3 17 rfl rfl)
theorem dX9_signAt_90 : decode cX9_signAt 90 = .ok (.iload_n 2, 1) := dk_28 (dk_at dksX9_signAt_3 20 rfl rfl)
theorem dX9_signAt_91 : decode cX9_signAt 91 = .ok (.bipush 45, 2) := dk_16 45 (dk_at dksX9_signAt_3 21 rfl rfl)
theorem dX9_signAt_93 : decode cX9_signAt 93 = .ok (.if_icmp .eq 27, 3) := dk_159 0 27 (dk_at dksX9_signAt_4 0 rfl rfl)
theorem dX9_signAt_96 : decode cX9_signAt 96 = .ok (.iload_n 2, 1) := dk_28 (dk_at dksX9_signAt_4 3 rfl rfl)
theorem dX9_signAt_97 : decode cX9_signAt 97 = .ok (.bipush 42, 2) := dk_16 42 (dk_at dksX9_signAt_4 4 rfl rfl)
theorem dX9_signAt_99 : decode cX9_signAt 99 = .ok (.if_icmp .eq 21, 3) := dk_159 0 21 (dk_at dksX9_signAt_4 6 rfl rfl)
theorem dX9_signAt_102 : decode cX9_signAt 102 = .ok (.iload_n 2, 1) := dk_28 (dk_at dksX9_signAt_4 9 rfl rfl)
theorem dX9_signAt_103 : decode cX9_signAt 103 = .ok (.bipush 47, 2) := dk_16 47 (dk_at dksX9_signAt_4 10 rfl rfl)
theorem dX9_signAt_105 : decode cX9_signAt 105 = .ok (.if_icmp .eq 15, 3) := dk_159 0 15 (dk_at dksX9_signAt_4 12 rfl rfl)
theorem dX9_signAt_108 : decode cX9_signAt 108 = .ok (.iload_n 2, 1) := dk_28 (dk_at dksX9_signAt_4 15 rfl rfl)
theorem dX9_signAt_109 : decode cX9_signAt 109 = .ok (.bipush 40, 2) := dk_16 40 (dk_at dksX9_signAt_4 16 rfl rfl)
theorem dX9_signAt_111 : decode cX9_signAt 111 = .ok (.if_icmp .eq 9, 3) := dk_159 0 9 (dk_at dksX9_signAt_4 18 rfl rfl)
theorem dX9_signAt_114 : decode cX9_signAt 114 = .ok (.iload_n 2, 1) := dk_28 (dk_at dksX9_signAt_4 21 rfl rfl)
theorem dX9_signAt_115 : decode cX9_signAt 115 = .ok (.bipush 41, 2) := dk_16 41 (dk_at dksX9_signAt_4 22 rfl rfl)
theorem dX9_signAt_117 : decode cX9_signAt 117 = .ok (.if_icmp .ne 7, 3) := dk_160 0 7 (dk_at dksX9_signAt_5 0 rfl rfl)
theorem dX9_signAt_120 : decode cX9_signAt 120 = .ok (.iload_n 2, 1) := dk_28 (dk_at dksX9_signAt_5 3 rfl rfl)
theorem dX9_signAt_121 : decode cX9_signAt 121 = .ok (.goto 4, 3) := dk_167 0 4 (dk_at dksX9_signAt_5 4 rfl rfl)
theorem dX9_signAt_124 : decode cX9_signAt 124 = .ok (.iconst 0, 1) := dk_3 (dk_at dksX9_signAt_5 7 rfl rfl)
theorem dX9_signAt_125 : decode cX9_signAt 125 = .ok (.ireturn, 1) := dk_172 (dk_at dksX9_signAt_5 8 rfl rfl)
abbrev cX9_parses : ByteArray := prog_23_method_45_code
def yX9_parses : MethodName := ⟨RX9, "parses", "()Z"⟩
def dkwX9_parses_2 : List UInt8 := [182, 0, 230, 154, 255, 215, 3, 172, 4, 172]
abbrev dktX9_parses_2 : List UInt8 := dkwX9_parses_2 ++ []
def dkwX9_parses_1 : List UInt8 := [182, 1, 82, 154, 0, 5, 3, 172, 42, 16, 59, 182, 1, 0, 154, 0, 9, 42, 4, 182, 0, 227, 172, 42]
abbrev dktX9_parses_1 : List UInt8 := dkwX9_parses_1 ++ dktX9_parses_2
def dkwX9_parses_0 : List UInt8 := [42, 3, 181, 0, 218, 42, 3, 181, 1, 30, 42, 180, 0, 13, 42, 180, 0, 218, 46, 7, 159, 0, 36, 42]
abbrev dktX9_parses_0 : List UInt8 := dkwX9_parses_0 ++ dktX9_parses_1
theorem dksX9_parses_0 : cX9_parses.data.toList.drop 0 = dktX9_parses_0 := by decide +kernel
theorem dksX9_parses_1 : cX9_parses.data.toList.drop 24 = dktX9_parses_1 := dk_seg dksX9_parses_0 24 rfl rfl
theorem dksX9_parses_2 : cX9_parses.data.toList.drop 48 = dktX9_parses_2 := dk_seg dksX9_parses_1 24 rfl rfl
theorem dX9_parses_0 : decode cX9_parses 0 = .ok (.aload_n 0, 1) := dk_42 (dk_at dksX9_parses_0 0 rfl rfl)
theorem dX9_parses_1 : decode cX9_parses 1 = .ok (.iconst 0, 1) := dk_3 (dk_at dksX9_parses_0 1 rfl rfl)
theorem dX9_parses_2 : decode cX9_parses 2 = .ok (.putfield 218, 3) := dk_181 0 218 (dk_at dksX9_parses_0 2 rfl rfl)
theorem dX9_parses_5 : decode cX9_parses 5 = .ok (.aload_n 0, 1) := dk_42 (dk_at dksX9_parses_0 5 rfl rfl)
theorem dX9_parses_6 : decode cX9_parses 6 = .ok (.iconst 0, 1) := dk_3 (dk_at dksX9_parses_0 6 rfl rfl)
theorem dX9_parses_7 : decode cX9_parses 7 = .ok (.putfield 286, 3) := dk_181 1 30 (dk_at dksX9_parses_0 7 rfl rfl)
theorem dX9_parses_10 : decode cX9_parses 10 = .ok (.aload_n 0, 1) := dk_42 (dk_at dksX9_parses_0 10 rfl rfl)
theorem dX9_parses_11 : decode cX9_parses 11 = .ok (.getfield 13, 3) := dk_180 0 13 (dk_at dksX9_parses_0 11 rfl rfl)
theorem dX9_parses_14 : decode cX9_parses 14 = .ok (.aload_n 0, 1) := dk_42 (dk_at dksX9_parses_0 14 rfl rfl)
theorem dX9_parses_15 : decode cX9_parses 15 = .ok (.getfield 218, 3) := dk_180 0 218 (dk_at dksX9_parses_0 15 rfl rfl)
theorem dX9_parses_18 : decode cX9_parses 18 = .ok (.iaload, 1) := dk_46 (dk_at dksX9_parses_0 18 rfl rfl)
theorem dX9_parses_19 : decode cX9_parses 19 = .ok (.iconst 4, 1) := dk_7 (dk_at dksX9_parses_0 19 rfl rfl)
theorem dX9_parses_20 : decode cX9_parses 20 = .ok (.if_icmp .eq 36, 3) := dk_159 0 36 (dk_at dksX9_parses_0 20 rfl rfl)
theorem dX9_parses_23 : decode cX9_parses 23 = .ok (.aload_n 0, 1) := dk_42 (dk_at dksX9_parses_0 23 rfl rfl)
theorem dX9_parses_24 : decode cX9_parses 24 = .ok (.invokevirtual 338, 3) := dk_182 1 82 (dk_at dksX9_parses_1 0 rfl rfl)
theorem dX9_parses_27 : decode cX9_parses 27 = .ok (.ifCond .ne 5, 3) := dk_154 0 5 (dk_at dksX9_parses_1 3 rfl rfl)
theorem dX9_parses_30 : decode cX9_parses 30 = .ok (.iconst 0, 1) := dk_3 (dk_at dksX9_parses_1 6 rfl rfl)
theorem dX9_parses_31 : decode cX9_parses 31 = .ok (.ireturn, 1) := dk_172 (dk_at dksX9_parses_1 7 rfl rfl)
theorem dX9_parses_32 : decode cX9_parses 32 = .ok (.aload_n 0, 1) := dk_42 (dk_at dksX9_parses_1 8 rfl rfl)
theorem dX9_parses_33 : decode cX9_parses 33 = .ok (.bipush 59, 2) := dk_16 59 (dk_at dksX9_parses_1 9 rfl rfl)
theorem dX9_parses_35 : decode cX9_parses 35 = .ok (.invokevirtual 256, 3) := dk_182 1 0 (dk_at dksX9_parses_1 11 rfl rfl)
theorem dX9_parses_38 : decode cX9_parses 38 = .ok (.ifCond .ne 9, 3) := dk_154 0 9 (dk_at dksX9_parses_1 14 rfl rfl)
theorem dX9_parses_41 : decode cX9_parses 41 = .ok (.aload_n 0, 1) := dk_42 (dk_at dksX9_parses_1 17 rfl rfl)
theorem dX9_parses_42 : decode cX9_parses 42 = .ok (.iconst 1, 1) := dk_4 (dk_at dksX9_parses_1 18 rfl rfl)
theorem dX9_parses_43 : decode cX9_parses 43 = .ok (.invokevirtual 227, 3) := dk_182 0 227 (dk_at dksX9_parses_1 19 rfl rfl)
theorem dX9_parses_46 : decode cX9_parses 46 = .ok (.ireturn, 1) := dk_172 (dk_at dksX9_parses_1 22 rfl rfl)
theorem dX9_parses_47 : decode cX9_parses 47 = .ok (.aload_n 0, 1) := dk_42 (dk_at dksX9_parses_1 23 rfl rfl)
theorem dX9_parses_48 : decode cX9_parses 48 = .ok (.invokevirtual 230, 3) := dk_182 0 230 (dk_at dksX9_parses_2 0 rfl rfl)
theorem dX9_parses_51 : decode cX9_parses 51 = .ok (.ifCond .ne (-41), 3) := dk_154 255 215 (dk_at dksX9_parses_2 3 rfl rfl)
theorem dX9_parses_54 : decode cX9_parses 54 = .ok (.iconst 0, 1) := dk_3 (dk_at dksX9_parses_2 6 rfl rfl)
theorem dX9_parses_55 : decode cX9_parses 55 = .ok (.ireturn, 1) := dk_172 (dk_at dksX9_parses_2 7 rfl rfl)
theorem dX9_parses_56 : decode cX9_parses 56 = .ok (.iconst 1, 1) := dk_4 (dk_at dksX9_parses_2 8 rfl rfl)
theorem dX9_parses_57 : decode cX9_parses 57 = .ok (.ireturn, 1) := dk_172 (dk_at dksX9_parses_2 9 rfl rfl)
abbrev cX9_tellOne : ByteArray := prog_23_method_44_code
def yX9_tellOne : MethodName := ⟨RX9, "tellOne", "()Z"⟩
def dkwX9_tellOne_8 : List UInt8 := [167, 0, 8, 42, 4, 182, 0, 227, 172]
abbrev dktX9_tellOne_8 : List UInt8 := dkwX9_tellOne_8 ++ []
def dkwX9_tellOne_7 : List UInt8 := [17, 0, 190, 182, 1, 79, 172, 27, 16, 33, 160, 0, 15, 42, 16, 9, 17, 0, 200, 182, 1, 79]
abbrev dktX9_tellOne_7 : List UInt8 := dkwX9_tellOne_7 ++ dktX9_tellOne_8
def dkwX9_tellOne_6 : List UInt8 := [172, 27, 16, 21, 160, 0, 9, 42, 5, 182, 1, 76, 172, 27, 16, 32, 160, 0, 13, 42, 16, 8]
abbrev dktX9_tellOne_6 : List UInt8 := dkwX9_tellOne_6 ++ dktX9_tellOne_7
def dkwX9_tellOne_5 : List UInt8 := [182, 1, 73, 172, 27, 16, 30, 159, 0, 9, 27, 16, 31, 160, 0, 12, 42, 27, 16, 30, 100, 182, 1, 76]
abbrev dktX9_tellOne_5 : List UInt8 := dkwX9_tellOne_5 ++ dktX9_tellOne_6
def dkwX9_tellOne_4 : List UInt8 := [160, 0, 12, 42, 16, 6, 16, 9, 182, 1, 73, 172, 27, 16, 9, 160, 0, 12, 42, 16, 7, 16, 99]
abbrev dktX9_tellOne_4 : List UInt8 := dkwX9_tellOne_4 ++ dktX9_tellOne_5
def dkwX9_tellOne_3 : List UInt8 := [160, 0, 8, 42, 182, 1, 67, 172, 27, 16, 6, 160, 0, 8, 42, 182, 1, 70, 172, 27, 16, 7]
abbrev dktX9_tellOne_3 : List UInt8 := dkwX9_tellOne_3 ++ dktX9_tellOne_4
def dkwX9_tellOne_2 : List UInt8 := [27, 5, 160, 0, 8, 42, 182, 1, 61, 172, 27, 6, 160, 0, 8, 42, 182, 1, 64, 172, 27, 8]
abbrev dktX9_tellOne_2 : List UInt8 := dkwX9_tellOne_2 ++ dktX9_tellOne_3
def dkwX9_tellOne_1 : List UInt8 := [167, 0, 4, 2, 60, 27, 154, 0, 8, 42, 182, 1, 55, 172, 27, 4, 160, 0, 8, 42, 182, 1, 58, 172]
abbrev dktX9_tellOne_1 : List UInt8 := dkwX9_tellOne_1 ++ dktX9_tellOne_2
def dkwX9_tellOne_0 : List UInt8 := [42, 180, 0, 13, 42, 180, 0, 218, 46, 6, 160, 0, 15, 42, 180, 0, 19, 42, 180, 0, 218, 46]
abbrev dktX9_tellOne_0 : List UInt8 := dkwX9_tellOne_0 ++ dktX9_tellOne_1
theorem dksX9_tellOne_0 : cX9_tellOne.data.toList.drop 0 = dktX9_tellOne_0 := by decide +kernel
theorem dksX9_tellOne_1 : cX9_tellOne.data.toList.drop 22 = dktX9_tellOne_1 := dk_seg dksX9_tellOne_0 22 rfl rfl
theorem dksX9_tellOne_2 : cX9_tellOne.data.toList.drop 46 = dktX9_tellOne_2 := dk_seg dksX9_tellOne_1 24 rfl rfl
theorem dksX9_tellOne_3 : cX9_tellOne.data.toList.drop 68 = dktX9_tellOne_3 := dk_seg dksX9_tellOne_2 22 rfl rfl
theorem dksX9_tellOne_4 : cX9_tellOne.data.toList.drop 90 = dktX9_tellOne_4 := dk_seg dksX9_tellOne_3 22 rfl rfl
theorem dksX9_tellOne_5 : cX9_tellOne.data.toList.drop 113 = dktX9_tellOne_5 := dk_seg dksX9_tellOne_4 23 rfl rfl
theorem dksX9_tellOne_6 : cX9_tellOne.data.toList.drop 137 = dktX9_tellOne_6 := dk_seg dksX9_tellOne_5 24 rfl rfl
theorem dksX9_tellOne_7 : cX9_tellOne.data.toList.drop 159 = dktX9_tellOne_7 := dk_seg dksX9_tellOne_6 22 rfl rfl
theorem dksX9_tellOne_8 : cX9_tellOne.data.toList.drop 181 = dktX9_tellOne_8 := dk_seg dksX9_tellOne_7 22 rfl rfl
theorem dX9_tellOne_0 : decode cX9_tellOne 0 = .ok (.aload_n 0, 1) := dk_42 (dk_at dksX9_tellOne_0 0 rfl rfl)
theorem dX9_tellOne_1 : decode cX9_tellOne 1 = .ok (.getfield 13, 3) := dk_180 0 13 (dk_at dksX9_tellOne_0 1 rfl rfl)
theorem dX9_tellOne_4 : decode cX9_tellOne 4 = .ok (.aload_n 0, 1) := dk_42 (dk_at dksX9_tellOne_0 4 rfl rfl)
theorem dX9_tellOne_5 : decode cX9_tellOne 5 = .ok (.getfield 218, 3) := dk_180 0 218 (dk_at dksX9_tellOne_0 5 rfl rfl)
theorem dX9_tellOne_8 : decode cX9_tellOne 8 = .ok (.iaload, 1) := dk_46 (dk_at dksX9_tellOne_0 8 rfl rfl)
theorem dX9_tellOne_9 : decode cX9_tellOne 9 = .ok (.iconst 3, 1) := dk_6 (dk_at dksX9_tellOne_0 9 rfl rfl)
theorem dX9_tellOne_10 : decode cX9_tellOne 10 = .ok (.if_icmp .ne 15, 3) := dk_160 0 15 (dk_at dksX9_tellOne_0 10 rfl rfl)
theorem dX9_tellOne_13 : decode cX9_tellOne 13 = .ok (.aload_n 0, 1) := dk_42 (dk_at dksX9_tellOne_0 13 rfl rfl)
theorem dX9_tellOne_14 : decode cX9_tellOne 14 = .ok (.getfield 19, 3) := dk_180 0 19 (dk_at dksX9_tellOne_0 14 rfl rfl)
theorem dX9_tellOne_17 : decode cX9_tellOne 17 = .ok (.aload_n 0, 1) := dk_42 (dk_at dksX9_tellOne_0 17 rfl rfl)
theorem dX9_tellOne_18 : decode cX9_tellOne 18 = .ok (.getfield 218, 3) := dk_180 0 218 (dk_at dksX9_tellOne_0 18 rfl rfl)
theorem dX9_tellOne_21 : decode cX9_tellOne 21 = .ok (.iaload, 1) := dk_46 (dk_at dksX9_tellOne_0 21 rfl rfl)
theorem dX9_tellOne_22 : decode cX9_tellOne 22 = .ok (.goto 4, 3) := dk_167 0 4 (dk_at dksX9_tellOne_1 0 rfl rfl)
theorem dX9_tellOne_25 : decode cX9_tellOne 25 = .ok (.iconst (-1), 1) := dk_2 (dk_at dksX9_tellOne_1 3 rfl rfl)
theorem dX9_tellOne_26 : decode cX9_tellOne 26 = .ok (.istore_n 1, 1) := dk_60 (dk_at dksX9_tellOne_1 4 rfl rfl)
theorem dX9_tellOne_27 : decode cX9_tellOne 27 = .ok (.iload_n 1, 1) := dk_27 (dk_at dksX9_tellOne_1 5 rfl rfl)
theorem dX9_tellOne_28 : decode cX9_tellOne 28 = .ok (.ifCond .ne 8, 3) := dk_154 0 8 (dk_at dksX9_tellOne_1 6 rfl rfl)
theorem dX9_tellOne_31 : decode cX9_tellOne 31 = .ok (.aload_n 0, 1) := dk_42 (dk_at dksX9_tellOne_1 9 rfl rfl)
theorem dX9_tellOne_32 : decode cX9_tellOne 32 = .ok (.invokevirtual 311, 3) := dk_182 1 55 (dk_at dksX9_tellOne_1 10 rfl rfl)
theorem dX9_tellOne_35 : decode cX9_tellOne 35 = .ok (.ireturn, 1) := dk_172 (dk_at dksX9_tellOne_1 13 rfl rfl)
theorem dX9_tellOne_36 : decode cX9_tellOne 36 = .ok (.iload_n 1, 1) := dk_27 (dk_at dksX9_tellOne_1 14 rfl rfl)
theorem dX9_tellOne_37 : decode cX9_tellOne 37 = .ok (.iconst 1, 1) := dk_4 (dk_at dksX9_tellOne_1 15 rfl rfl)
theorem dX9_tellOne_38 : decode cX9_tellOne 38 = .ok (.if_icmp .ne 8, 3) := dk_160 0 8 (dk_at dksX9_tellOne_1 16 rfl rfl)
theorem dX9_tellOne_41 : decode cX9_tellOne 41 = .ok (.aload_n 0, 1) := dk_42 (dk_at dksX9_tellOne_1 19 rfl rfl)
theorem dX9_tellOne_42 : decode cX9_tellOne 42 = .ok (.invokevirtual 314, 3) := dk_182 1 58 (dk_at dksX9_tellOne_1 20 rfl rfl)
theorem dX9_tellOne_45 : decode cX9_tellOne 45 = .ok (.ireturn, 1) := dk_172 (dk_at dksX9_tellOne_1 23 rfl rfl)
theorem dX9_tellOne_46 : decode cX9_tellOne 46 = .ok (.iload_n 1, 1) := dk_27 (dk_at dksX9_tellOne_2 0 rfl rfl)
theorem dX9_tellOne_47 : decode cX9_tellOne 47 = .ok (.iconst 2, 1) := dk_5 (dk_at dksX9_tellOne_2 1 rfl rfl)
theorem dX9_tellOne_48 : decode cX9_tellOne 48 = .ok (.if_icmp .ne 8, 3) := dk_160 0 8 (dk_at dksX9_tellOne_2 2 rfl rfl)
theorem dX9_tellOne_51 : decode cX9_tellOne 51 = .ok (.aload_n 0, 1) := dk_42 (dk_at dksX9_tellOne_2 5 rfl rfl)
theorem dX9_tellOne_52 : decode cX9_tellOne 52 = .ok (.invokevirtual 317, 3) := dk_182 1 61 (dk_at dksX9_tellOne_2 6 rfl rfl)
theorem dX9_tellOne_55 : decode cX9_tellOne 55 = .ok (.ireturn, 1) := dk_172 (dk_at dksX9_tellOne_2 9 rfl rfl)
theorem dX9_tellOne_56 : decode cX9_tellOne 56 = .ok (.iload_n 1, 1) := dk_27 (dk_at dksX9_tellOne_2 10 rfl rfl)
theorem dX9_tellOne_57 : decode cX9_tellOne 57 = .ok (.iconst 3, 1) := dk_6 (dk_at dksX9_tellOne_2 11 rfl rfl)
theorem dX9_tellOne_58 : decode cX9_tellOne 58 = .ok (.if_icmp .ne 8, 3) := dk_160 0 8 (dk_at dksX9_tellOne_2 12 rfl rfl)
theorem dX9_tellOne_61 : decode cX9_tellOne 61 = .ok (.aload_n 0, 1) := dk_42 (dk_at dksX9_tellOne_2 15 rfl rfl)
theorem dX9_tellOne_62 : decode cX9_tellOne 62 = .ok (.invokevirtual 320, 3) := dk_182 1 64 (dk_at dksX9_tellOne_2 16 rfl rfl)
theorem dX9_tellOne_65 : decode cX9_tellOne 65 = .ok (.ireturn, 1) := dk_172 (dk_at dksX9_tellOne_2 19 rfl rfl)
theorem dX9_tellOne_66 : decode cX9_tellOne 66 = .ok (.iload_n 1, 1) := dk_27 (dk_at dksX9_tellOne_2 20 rfl rfl)
theorem dX9_tellOne_67 : decode cX9_tellOne 67 = .ok (.iconst 5, 1) := dk_8 (dk_at dksX9_tellOne_2 21 rfl rfl)
theorem dX9_tellOne_68 : decode cX9_tellOne 68 = .ok (.if_icmp .ne 8, 3) := dk_160 0 8 (dk_at dksX9_tellOne_3 0 rfl rfl)
theorem dX9_tellOne_71 : decode cX9_tellOne 71 = .ok (.aload_n 0, 1) := dk_42 (dk_at dksX9_tellOne_3 3 rfl rfl)
theorem dX9_tellOne_72 : decode cX9_tellOne 72 = .ok (.invokevirtual 323, 3) := dk_182 1 67 (dk_at dksX9_tellOne_3 4 rfl rfl)
theorem dX9_tellOne_75 : decode cX9_tellOne 75 = .ok (.ireturn, 1) := dk_172 (dk_at dksX9_tellOne_3 7 rfl rfl)
theorem dX9_tellOne_76 : decode cX9_tellOne 76 = .ok (.iload_n 1, 1) := dk_27 (dk_at dksX9_tellOne_3 8 rfl rfl)
theorem dX9_tellOne_77 : decode cX9_tellOne 77 = .ok (.bipush 6, 2) := dk_16 6 (dk_at dksX9_tellOne_3 9 rfl rfl)
theorem dX9_tellOne_79 : decode cX9_tellOne 79 = .ok (.if_icmp .ne 8, 3) := dk_160 0 8 (dk_at dksX9_tellOne_3 11 rfl rfl)
theorem dX9_tellOne_82 : decode cX9_tellOne 82 = .ok (.aload_n 0, 1) := dk_42 (dk_at dksX9_tellOne_3 14 rfl rfl)
theorem dX9_tellOne_83 : decode cX9_tellOne 83 = .ok (.invokevirtual 326, 3) := dk_182 1 70 (dk_at dksX9_tellOne_3 15 rfl rfl)
theorem dX9_tellOne_86 : decode cX9_tellOne 86 = .ok (.ireturn, 1) := dk_172 (dk_at dksX9_tellOne_3 18 rfl rfl)
theorem dX9_tellOne_87 : decode cX9_tellOne 87 = .ok (.iload_n 1, 1) := dk_27 (dk_at dksX9_tellOne_3 19 rfl rfl)
theorem dX9_tellOne_88 : decode cX9_tellOne 88 = .ok (.bipush 7, 2) := dk_16 7 (dk_at dksX9_tellOne_3 20 rfl rfl)
theorem dX9_tellOne_90 : decode cX9_tellOne 90 = .ok (.if_icmp .ne 12, 3) := dk_160 0 12 (dk_at dksX9_tellOne_4 0 rfl rfl)
theorem dX9_tellOne_93 : decode cX9_tellOne 93 = .ok (.aload_n 0, 1) := dk_42 (dk_at dksX9_tellOne_4 3 rfl rfl)
theorem dX9_tellOne_94 : decode cX9_tellOne 94 = .ok (.bipush 6, 2) := dk_16 6 (dk_at dksX9_tellOne_4 4 rfl rfl)
theorem dX9_tellOne_96 : decode cX9_tellOne 96 = .ok (.bipush 9, 2) := dk_16 9 (dk_at dksX9_tellOne_4 6 rfl rfl)
theorem dX9_tellOne_98 : decode cX9_tellOne 98 = .ok (.invokevirtual 329, 3) := dk_182 1 73 (dk_at dksX9_tellOne_4 8 rfl rfl)
theorem dX9_tellOne_101 : decode cX9_tellOne 101 = .ok (.ireturn, 1) := dk_172 (dk_at dksX9_tellOne_4 11 rfl rfl)
theorem dX9_tellOne_102 : decode cX9_tellOne 102 = .ok (.iload_n 1, 1) := dk_27 (dk_at dksX9_tellOne_4 12 rfl rfl)
theorem dX9_tellOne_103 : decode cX9_tellOne 103 = .ok (.bipush 9, 2) := dk_16 9 (dk_at dksX9_tellOne_4 13 rfl rfl)
theorem dX9_tellOne_105 : decode cX9_tellOne 105 = .ok (.if_icmp .ne 12, 3) := dk_160 0 12 (dk_at dksX9_tellOne_4 15 rfl rfl)
theorem dX9_tellOne_108 : decode cX9_tellOne 108 = .ok (.aload_n 0, 1) := dk_42 (dk_at dksX9_tellOne_4 18 rfl rfl)
theorem dX9_tellOne_109 : decode cX9_tellOne 109 = .ok (.bipush 7, 2) := dk_16 7 (dk_at dksX9_tellOne_4 19 rfl rfl)
theorem dX9_tellOne_111 : decode cX9_tellOne 111 = .ok (.bipush 99, 2) := dk_16 99 (dk_at dksX9_tellOne_4 21 rfl rfl)
theorem dX9_tellOne_113 : decode cX9_tellOne 113 = .ok (.invokevirtual 329, 3) := dk_182 1 73 (dk_at dksX9_tellOne_5 0 rfl rfl)
theorem dX9_tellOne_116 : decode cX9_tellOne 116 = .ok (.ireturn, 1) := dk_172 (dk_at dksX9_tellOne_5 3 rfl rfl)
theorem dX9_tellOne_117 : decode cX9_tellOne 117 = .ok (.iload_n 1, 1) := dk_27 (dk_at dksX9_tellOne_5 4 rfl rfl)
theorem dX9_tellOne_118 : decode cX9_tellOne 118 = .ok (.bipush 30, 2) := dk_16 30 (dk_at dksX9_tellOne_5 5 rfl rfl)
theorem dX9_tellOne_120 : decode cX9_tellOne 120 = .ok (.if_icmp .eq 9, 3) := dk_159 0 9 (dk_at dksX9_tellOne_5 7 rfl rfl)
theorem dX9_tellOne_123 : decode cX9_tellOne 123 = .ok (.iload_n 1, 1) := dk_27 (dk_at dksX9_tellOne_5 10 rfl rfl)
theorem dX9_tellOne_124 : decode cX9_tellOne 124 = .ok (.bipush 31, 2) := dk_16 31 (dk_at dksX9_tellOne_5 11 rfl rfl)
theorem dX9_tellOne_126 : decode cX9_tellOne 126 = .ok (.if_icmp .ne 12, 3) := dk_160 0 12 (dk_at dksX9_tellOne_5 13 rfl rfl)
theorem dX9_tellOne_129 : decode cX9_tellOne 129 = .ok (.aload_n 0, 1) := dk_42 (dk_at dksX9_tellOne_5 16 rfl rfl)
theorem dX9_tellOne_130 : decode cX9_tellOne 130 = .ok (.iload_n 1, 1) := dk_27 (dk_at dksX9_tellOne_5 17 rfl rfl)
theorem dX9_tellOne_131 : decode cX9_tellOne 131 = .ok (.bipush 30, 2) := dk_16 30 (dk_at dksX9_tellOne_5 18 rfl rfl)
theorem dX9_tellOne_133 : decode cX9_tellOne 133 = .ok (.isub, 1) := dk_100 (dk_at dksX9_tellOne_5 20 rfl rfl)
theorem dX9_tellOne_134 : decode cX9_tellOne 134 = .ok (.invokevirtual 332, 3) := dk_182 1 76 (dk_at dksX9_tellOne_5 21 rfl rfl)
theorem dX9_tellOne_137 : decode cX9_tellOne 137 = .ok (.ireturn, 1) := dk_172 (dk_at dksX9_tellOne_6 0 rfl rfl)
theorem dX9_tellOne_138 : decode cX9_tellOne 138 = .ok (.iload_n 1, 1) := dk_27 (dk_at dksX9_tellOne_6 1 rfl rfl)
theorem dX9_tellOne_139 : decode cX9_tellOne 139 = .ok (.bipush 21, 2) := dk_16 21 (dk_at dksX9_tellOne_6 2 rfl rfl)
theorem dX9_tellOne_141 : decode cX9_tellOne 141 = .ok (.if_icmp .ne 9, 3) := dk_160 0 9 (dk_at dksX9_tellOne_6 4 rfl rfl)
theorem dX9_tellOne_144 : decode cX9_tellOne 144 = .ok (.aload_n 0, 1) := dk_42 (dk_at dksX9_tellOne_6 7 rfl rfl)
theorem dX9_tellOne_145 : decode cX9_tellOne 145 = .ok (.iconst 2, 1) := dk_5 (dk_at dksX9_tellOne_6 8 rfl rfl)
theorem dX9_tellOne_146 : decode cX9_tellOne 146 = .ok (.invokevirtual 332, 3) := dk_182 1 76 (dk_at dksX9_tellOne_6 9 rfl rfl)
theorem dX9_tellOne_149 : decode cX9_tellOne 149 = .ok (.ireturn, 1) := dk_172 (dk_at dksX9_tellOne_6 12 rfl rfl)
theorem dX9_tellOne_150 : decode cX9_tellOne 150 = .ok (.iload_n 1, 1) := dk_27 (dk_at dksX9_tellOne_6 13 rfl rfl)
theorem dX9_tellOne_151 : decode cX9_tellOne 151 = .ok (.bipush 32, 2) := dk_16 32 (dk_at dksX9_tellOne_6 14 rfl rfl)
theorem dX9_tellOne_153 : decode cX9_tellOne 153 = .ok (.if_icmp .ne 13, 3) := dk_160 0 13 (dk_at dksX9_tellOne_6 16 rfl rfl)
theorem dX9_tellOne_156 : decode cX9_tellOne 156 = .ok (.aload_n 0, 1) := dk_42 (dk_at dksX9_tellOne_6 19 rfl rfl)
theorem dX9_tellOne_157 : decode cX9_tellOne 157 = .ok (.bipush 8, 2) := dk_16 8 (dk_at dksX9_tellOne_6 20 rfl rfl)
theorem dX9_tellOne_159 : decode cX9_tellOne 159 = .ok (.sipush 190, 3) := dk_17 0 190 (dk_at dksX9_tellOne_7 0 rfl rfl)
theorem dX9_tellOne_162 : decode cX9_tellOne 162 = .ok (.invokevirtual 335, 3) := dk_182 1 79 (dk_at dksX9_tellOne_7 3 rfl rfl)
theorem dX9_tellOne_165 : decode cX9_tellOne 165 = .ok (.ireturn, 1) := dk_172 (dk_at dksX9_tellOne_7 6 rfl rfl)
theorem dX9_tellOne_166 : decode cX9_tellOne 166 = .ok (.iload_n 1, 1) := dk_27 (dk_at dksX9_tellOne_7 7 rfl rfl)
theorem dX9_tellOne_167 : decode cX9_tellOne 167 = .ok (.bipush 33, 2) := dk_16 33 (dk_at dksX9_tellOne_7 8 rfl rfl)
theorem dX9_tellOne_169 : decode cX9_tellOne 169 = .ok (.if_icmp .ne 15, 3) := dk_160 0 15 (dk_at dksX9_tellOne_7 10 rfl rfl)
theorem dX9_tellOne_172 : decode cX9_tellOne 172 = .ok (.aload_n 0, 1) := dk_42 (dk_at dksX9_tellOne_7 13 rfl rfl)
theorem dX9_tellOne_173 : decode cX9_tellOne 173 = .ok (.bipush 9, 2) := dk_16 9 (dk_at dksX9_tellOne_7 14 rfl rfl)
theorem dX9_tellOne_175 : decode cX9_tellOne 175 = .ok (.sipush 200, 3) := dk_17 0 200 (dk_at dksX9_tellOne_7 16 rfl rfl)
theorem dX9_tellOne_178 : decode cX9_tellOne 178 = .ok (.invokevirtual 335, 3) := dk_182 1 79 (dk_at dksX9_tellOne_7 19 rfl rfl)
theorem dX9_tellOne_181 : decode cX9_tellOne 181 = .ok (.goto 8, 3) := dk_167 0 8 (dk_at dksX9_tellOne_8 0 rfl rfl)
theorem dX9_tellOne_184 : decode cX9_tellOne 184 = .ok (.aload_n 0, 1) := dk_42 (dk_at dksX9_tellOne_8 3 rfl rfl)
theorem dX9_tellOne_185 : decode cX9_tellOne 185 = .ok (.iconst 1, 1) := dk_4 (dk_at dksX9_tellOne_8 4 rfl rfl)
theorem dX9_tellOne_186 : decode cX9_tellOne 186 = .ok (.invokevirtual 227, 3) := dk_182 0 227 (dk_at dksX9_tellOne_8 5 rfl rfl)
theorem dX9_tellOne_189 : decode cX9_tellOne 189 = .ok (.ireturn, 1) := dk_172 (dk_at dksX9_tellOne_8 8 rfl rfl)
abbrev cX9_tellHouse : ByteArray := prog_23_method_35_code
def yX9_tellHouse : MethodName := ⟨RX9, "tellHouse", "()Z"⟩
def dkwX9_tellHouse_4 : List UInt8 := [154, 0, 5, 3, 172, 42, 28, 5, 96, 42, 180, 0, 237, 182, 1, 36, 4, 172]
abbrev dktX9_tellHouse_4 : List UInt8 := dkwX9_tellHouse_4 ++ []
def dkwX9_tellHouse_3 : List UInt8 := [154, 0, 5, 3, 172, 42, 28, 4, 96, 42, 180, 0, 237, 182, 1, 36, 42, 4, 16, 9, 182, 1, 46]
abbrev dktX9_tellHouse_3 : List UInt8 := dkwX9_tellHouse_3 ++ dktX9_tellHouse_4
def dkwX9_tellHouse_2 : List UInt8 := [182, 1, 46, 154, 0, 5, 3, 172, 42, 28, 42, 180, 0, 237, 182, 1, 36, 42, 3, 16, 99, 182, 1, 46]
abbrev dktX9_tellHouse_2 : List UInt8 := dkwX9_tellHouse_2 ++ dktX9_tellHouse_3
def dkwX9_tellHouse_1 : List UInt8 := [182, 0, 227, 172, 42, 182, 0, 230, 153, 0, 22, 42, 3, 27, 182, 1, 43, 153, 0, 13, 42, 3, 16, 40]
abbrev dktX9_tellHouse_1 : List UInt8 := dkwX9_tellHouse_1 ++ dktX9_tellHouse_2
def dkwX9_tellHouse_0 : List UInt8 := [42, 3, 182, 1, 33, 60, 42, 3, 16, 16, 16, 20, 6, 182, 1, 39, 61, 28, 156, 0, 9, 42, 5]
abbrev dktX9_tellHouse_0 : List UInt8 := dkwX9_tellHouse_0 ++ dktX9_tellHouse_1
theorem dksX9_tellHouse_0 : cX9_tellHouse.data.toList.drop 0 = dktX9_tellHouse_0 := by decide +kernel
theorem dksX9_tellHouse_1 : cX9_tellHouse.data.toList.drop 23 = dktX9_tellHouse_1 := dk_seg dksX9_tellHouse_0 23 rfl rfl
theorem dksX9_tellHouse_2 : cX9_tellHouse.data.toList.drop 47 = dktX9_tellHouse_2 := dk_seg dksX9_tellHouse_1 24 rfl rfl
theorem dksX9_tellHouse_3 : cX9_tellHouse.data.toList.drop 71 = dktX9_tellHouse_3 := dk_seg dksX9_tellHouse_2 24 rfl rfl
theorem dksX9_tellHouse_4 : cX9_tellHouse.data.toList.drop 94 = dktX9_tellHouse_4 := dk_seg dksX9_tellHouse_3 23 rfl rfl
theorem dX9_tellHouse_0 : decode cX9_tellHouse 0 = .ok (.aload_n 0, 1) := dk_42 (dk_at dksX9_tellHouse_0 0 rfl rfl)
theorem dX9_tellHouse_1 : decode cX9_tellHouse 1 = .ok (.iconst 0, 1) := dk_3 (dk_at dksX9_tellHouse_0 1 rfl rfl)
theorem dX9_tellHouse_2 : decode cX9_tellHouse 2 = .ok (.invokevirtual 289, 3) := dk_182 1 33 (dk_at dksX9_tellHouse_0 2 rfl rfl)
theorem dX9_tellHouse_5 : decode cX9_tellHouse 5 = .ok (.istore_n 1, 1) := dk_60 (dk_at dksX9_tellHouse_0 5 rfl rfl)
theorem dX9_tellHouse_6 : decode cX9_tellHouse 6 = .ok (.aload_n 0, 1) := dk_42 (dk_at dksX9_tellHouse_0 6 rfl rfl)
theorem dX9_tellHouse_7 : decode cX9_tellHouse 7 = .ok (.iconst 0, 1) := dk_3 (dk_at dksX9_tellHouse_0 7 rfl rfl)
theorem dX9_tellHouse_8 : decode cX9_tellHouse 8 = .ok (.bipush 16, 2) := dk_16 16 (dk_at dksX9_tellHouse_0 8 rfl rfl)
theorem dX9_tellHouse_10 : decode cX9_tellHouse 10 = .ok (.bipush 20, 2) := dk_16 20 (dk_at dksX9_tellHouse_0 10 rfl rfl)
theorem dX9_tellHouse_12 : decode cX9_tellHouse 12 = .ok (.iconst 3, 1) := dk_6 (dk_at dksX9_tellHouse_0 12 rfl rfl)
theorem dX9_tellHouse_13 : decode cX9_tellHouse 13 = .ok (.invokevirtual 295, 3) := dk_182 1 39 (dk_at dksX9_tellHouse_0 13 rfl rfl)
theorem dX9_tellHouse_16 : decode cX9_tellHouse 16 = .ok (.istore_n 2, 1) := dk_61 (dk_at dksX9_tellHouse_0 16 rfl rfl)
theorem dX9_tellHouse_17 : decode cX9_tellHouse 17 = .ok (.iload_n 2, 1) := dk_28 (dk_at dksX9_tellHouse_0 17 rfl rfl)
theorem dX9_tellHouse_18 : decode cX9_tellHouse 18 = .ok (.ifCond .ge 9, 3) := dk_156 0 9 (dk_at dksX9_tellHouse_0 18 rfl rfl)
theorem dX9_tellHouse_21 : decode cX9_tellHouse 21 = .ok (.aload_n 0, 1) := dk_42 (dk_at dksX9_tellHouse_0 21 rfl rfl)
theorem dX9_tellHouse_22 : decode cX9_tellHouse 22 = .ok (.iconst 2, 1) := dk_5 (dk_at dksX9_tellHouse_0 22 rfl rfl)
theorem dX9_tellHouse_23 : decode cX9_tellHouse 23 = .ok (.invokevirtual 227, 3) := dk_182 0 227 (dk_at dksX9_tellHouse_1 0 rfl rfl)
theorem dX9_tellHouse_26 : decode cX9_tellHouse 26 = .ok (.ireturn, 1) := dk_172 (dk_at dksX9_tellHouse_1 3 rfl rfl)
theorem dX9_tellHouse_27 : decode cX9_tellHouse 27 = .ok (.aload_n 0, 1) := dk_42 (dk_at dksX9_tellHouse_1 4 rfl rfl)
theorem dX9_tellHouse_28 : decode cX9_tellHouse 28 = .ok (.invokevirtual 230, 3) := dk_182 0 230 (dk_at dksX9_tellHouse_1 5 rfl rfl)
theorem dX9_tellHouse_31 : decode cX9_tellHouse 31 = .ok (.ifCond .eq 22, 3) := dk_153 0 22 (dk_at dksX9_tellHouse_1 8 rfl rfl)
theorem dX9_tellHouse_34 : decode cX9_tellHouse 34 = .ok (.aload_n 0, 1) := dk_42 (dk_at dksX9_tellHouse_1 11 rfl rfl)
theorem dX9_tellHouse_35 : decode cX9_tellHouse 35 = .ok (.iconst 0, 1) := dk_3 (dk_at dksX9_tellHouse_1 12 rfl rfl)
theorem dX9_tellHouse_36 : decode cX9_tellHouse 36 = .ok (.iload_n 1, 1) := dk_27 (dk_at dksX9_tellHouse_1 13 rfl rfl)
theorem dX9_tellHouse_37 : decode cX9_tellHouse 37 = .ok (.invokevirtual 299, 3) := dk_182 1 43 (dk_at dksX9_tellHouse_1 14 rfl rfl)
theorem dX9_tellHouse_40 : decode cX9_tellHouse 40 = .ok (.ifCond .eq 13, 3) := dk_153 0 13 (dk_at dksX9_tellHouse_1 17 rfl rfl)
theorem dX9_tellHouse_43 : decode cX9_tellHouse 43 = .ok (.aload_n 0, 1) := dk_42 (dk_at dksX9_tellHouse_1 20 rfl rfl)
theorem dX9_tellHouse_44 : decode cX9_tellHouse 44 = .ok (.iconst 0, 1) := dk_3 (dk_at dksX9_tellHouse_1 21 rfl rfl)
theorem dX9_tellHouse_45 : decode cX9_tellHouse 45 = .ok (.bipush 40, 2) := dk_16 40 (dk_at dksX9_tellHouse_1 22 rfl rfl)
theorem dX9_tellHouse_47 : decode cX9_tellHouse 47 = .ok (.invokevirtual 302, 3) := dk_182 1 46 (dk_at dksX9_tellHouse_2 0 rfl rfl)
theorem dX9_tellHouse_50 : decode cX9_tellHouse 50 = .ok (.ifCond .ne 5, 3) := dk_154 0 5 (dk_at dksX9_tellHouse_2 3 rfl rfl)
theorem dX9_tellHouse_53 : decode cX9_tellHouse 53 = .ok (.iconst 0, 1) := dk_3 (dk_at dksX9_tellHouse_2 6 rfl rfl)
theorem dX9_tellHouse_54 : decode cX9_tellHouse 54 = .ok (.ireturn, 1) := dk_172 (dk_at dksX9_tellHouse_2 7 rfl rfl)
theorem dX9_tellHouse_55 : decode cX9_tellHouse 55 = .ok (.aload_n 0, 1) := dk_42 (dk_at dksX9_tellHouse_2 8 rfl rfl)
theorem dX9_tellHouse_56 : decode cX9_tellHouse 56 = .ok (.iload_n 2, 1) := dk_28 (dk_at dksX9_tellHouse_2 9 rfl rfl)
theorem dX9_tellHouse_57 : decode cX9_tellHouse 57 = .ok (.aload_n 0, 1) := dk_42 (dk_at dksX9_tellHouse_2 10 rfl rfl)
theorem dX9_tellHouse_58 : decode cX9_tellHouse 58 = .ok (.getfield 237, 3) := dk_180 0 237 (dk_at dksX9_tellHouse_2 11 rfl rfl)
theorem dX9_tellHouse_61 : decode cX9_tellHouse 61 = .ok (.invokevirtual 292, 3) := dk_182 1 36 (dk_at dksX9_tellHouse_2 14 rfl rfl)
theorem dX9_tellHouse_64 : decode cX9_tellHouse 64 = .ok (.aload_n 0, 1) := dk_42 (dk_at dksX9_tellHouse_2 17 rfl rfl)
theorem dX9_tellHouse_65 : decode cX9_tellHouse 65 = .ok (.iconst 0, 1) := dk_3 (dk_at dksX9_tellHouse_2 18 rfl rfl)
theorem dX9_tellHouse_66 : decode cX9_tellHouse 66 = .ok (.bipush 99, 2) := dk_16 99 (dk_at dksX9_tellHouse_2 19 rfl rfl)
theorem dX9_tellHouse_68 : decode cX9_tellHouse 68 = .ok (.invokevirtual 302, 3) := dk_182 1 46 (dk_at dksX9_tellHouse_2 21 rfl rfl)
theorem dX9_tellHouse_71 : decode cX9_tellHouse 71 = .ok (.ifCond .ne 5, 3) := dk_154 0 5 (dk_at dksX9_tellHouse_3 0 rfl rfl)
theorem dX9_tellHouse_74 : decode cX9_tellHouse 74 = .ok (.iconst 0, 1) := dk_3 (dk_at dksX9_tellHouse_3 3 rfl rfl)
theorem dX9_tellHouse_75 : decode cX9_tellHouse 75 = .ok (.ireturn, 1) := dk_172 (dk_at dksX9_tellHouse_3 4 rfl rfl)
theorem dX9_tellHouse_76 : decode cX9_tellHouse 76 = .ok (.aload_n 0, 1) := dk_42 (dk_at dksX9_tellHouse_3 5 rfl rfl)
theorem dX9_tellHouse_77 : decode cX9_tellHouse 77 = .ok (.iload_n 2, 1) := dk_28 (dk_at dksX9_tellHouse_3 6 rfl rfl)
theorem dX9_tellHouse_78 : decode cX9_tellHouse 78 = .ok (.iconst 1, 1) := dk_4 (dk_at dksX9_tellHouse_3 7 rfl rfl)
theorem dX9_tellHouse_79 : decode cX9_tellHouse 79 = .ok (.iadd, 1) := dk_96 (dk_at dksX9_tellHouse_3 8 rfl rfl)
theorem dX9_tellHouse_80 : decode cX9_tellHouse 80 = .ok (.aload_n 0, 1) := dk_42 (dk_at dksX9_tellHouse_3 9 rfl rfl)
theorem dX9_tellHouse_81 : decode cX9_tellHouse 81 = .ok (.getfield 237, 3) := dk_180 0 237 (dk_at dksX9_tellHouse_3 10 rfl rfl)
theorem dX9_tellHouse_84 : decode cX9_tellHouse 84 = .ok (.invokevirtual 292, 3) := dk_182 1 36 (dk_at dksX9_tellHouse_3 13 rfl rfl)
theorem dX9_tellHouse_87 : decode cX9_tellHouse 87 = .ok (.aload_n 0, 1) := dk_42 (dk_at dksX9_tellHouse_3 16 rfl rfl)
theorem dX9_tellHouse_88 : decode cX9_tellHouse 88 = .ok (.iconst 1, 1) := dk_4 (dk_at dksX9_tellHouse_3 17 rfl rfl)
theorem dX9_tellHouse_89 : decode cX9_tellHouse 89 = .ok (.bipush 9, 2) := dk_16 9 (dk_at dksX9_tellHouse_3 18 rfl rfl)
theorem dX9_tellHouse_91 : decode cX9_tellHouse 91 = .ok (.invokevirtual 302, 3) := dk_182 1 46 (dk_at dksX9_tellHouse_3 20 rfl rfl)
theorem dX9_tellHouse_94 : decode cX9_tellHouse 94 = .ok (.ifCond .ne 5, 3) := dk_154 0 5 (dk_at dksX9_tellHouse_4 0 rfl rfl)
theorem dX9_tellHouse_97 : decode cX9_tellHouse 97 = .ok (.iconst 0, 1) := dk_3 (dk_at dksX9_tellHouse_4 3 rfl rfl)
theorem dX9_tellHouse_98 : decode cX9_tellHouse 98 = .ok (.ireturn, 1) := dk_172 (dk_at dksX9_tellHouse_4 4 rfl rfl)
theorem dX9_tellHouse_99 : decode cX9_tellHouse 99 = .ok (.aload_n 0, 1) := dk_42 (dk_at dksX9_tellHouse_4 5 rfl rfl)
theorem dX9_tellHouse_100 : decode cX9_tellHouse 100 = .ok (.iload_n 2, 1) := dk_28 (dk_at dksX9_tellHouse_4 6 rfl rfl)
theorem dX9_tellHouse_101 : decode cX9_tellHouse 101 = .ok (.iconst 2, 1) := dk_5 (dk_at dksX9_tellHouse_4 7 rfl rfl)
theorem dX9_tellHouse_102 : decode cX9_tellHouse 102 = .ok (.iadd, 1) := dk_96 (dk_at dksX9_tellHouse_4 8 rfl rfl)
theorem dX9_tellHouse_103 : decode cX9_tellHouse 103 = .ok (.aload_n 0, 1) := dk_42 (dk_at dksX9_tellHouse_4 9 rfl rfl)
theorem dX9_tellHouse_104 : decode cX9_tellHouse 104 = .ok (.getfield 237, 3) := dk_180 0 237 (dk_at dksX9_tellHouse_4 10 rfl rfl)
theorem dX9_tellHouse_107 : decode cX9_tellHouse 107 = .ok (.invokevirtual 292, 3) := dk_182 1 36 (dk_at dksX9_tellHouse_4 13 rfl rfl)
theorem dX9_tellHouse_110 : decode cX9_tellHouse 110 = .ok (.iconst 1, 1) := dk_4 (dk_at dksX9_tellHouse_4 16 rfl rfl)
theorem dX9_tellHouse_111 : decode cX9_tellHouse 111 = .ok (.ireturn, 1) := dk_172 (dk_at dksX9_tellHouse_4 17 rfl rfl)
abbrev cX9_told : ByteArray := prog_23_method_27_code
def yX9_told : MethodName := ⟨RX9, "told", "(I)I"⟩
def dkwX9_told_0 : List UInt8 := [42, 180, 0, 30, 17, 0, 210, 27, 96, 46, 172]
abbrev dktX9_told_0 : List UInt8 := dkwX9_told_0 ++ []
theorem dksX9_told_0 : cX9_told.data.toList.drop 0 = dktX9_told_0 := by decide +kernel
theorem dX9_told_0 : decode cX9_told 0 = .ok (.aload_n 0, 1) := dk_42 (dk_at dksX9_told_0 0 rfl rfl)
theorem dX9_told_1 : decode cX9_told 1 = .ok (.getfield 30, 3) := dk_180 0 30 (dk_at dksX9_told_0 1 rfl rfl)
theorem dX9_told_4 : decode cX9_told 4 = .ok (.sipush 210, 3) := dk_17 0 210 (dk_at dksX9_told_0 4 rfl rfl)
theorem dX9_told_7 : decode cX9_told 7 = .ok (.iload_n 1, 1) := dk_27 (dk_at dksX9_told_0 7 rfl rfl)
theorem dX9_told_8 : decode cX9_told 8 = .ok (.iadd, 1) := dk_96 (dk_at dksX9_told_0 8 rfl rfl)
theorem dX9_told_9 : decode cX9_told 9 = .ok (.iaload, 1) := dk_46 (dk_at dksX9_told_0 9 rfl rfl)
theorem dX9_told_10 : decode cX9_told 10 = .ok (.ireturn, 1) := dk_172 (dk_at dksX9_told_0 10 rfl rfl)
abbrev cX9_next : ByteArray := prog_23_method_34_code
def yX9_next : MethodName := ⟨RX9, "next", "(IIII)I"⟩
def dkwX9_next_1 : List UInt8 := [27, 42, 27, 182, 1, 33, 4, 96, 182, 1, 36, 21, 5, 172]
abbrev dktX9_next_1 : List UInt8 := dkwX9_next_1 ++ []
def dkwX9_next_0 : List UInt8 := [42, 27, 182, 1, 33, 28, 160, 0, 5, 2, 172, 29, 21, 4, 42, 27, 182, 1, 33, 104, 96, 54, 5, 42]
abbrev dktX9_next_0 : List UInt8 := dkwX9_next_0 ++ dktX9_next_1
theorem dksX9_next_0 : cX9_next.data.toList.drop 0 = dktX9_next_0 := by decide +kernel
theorem dksX9_next_1 : cX9_next.data.toList.drop 24 = dktX9_next_1 := dk_seg dksX9_next_0 24 rfl rfl
theorem dX9_next_0 : decode cX9_next 0 = .ok (.aload_n 0, 1) := dk_42 (dk_at dksX9_next_0 0 rfl rfl)
theorem dX9_next_1 : decode cX9_next 1 = .ok (.iload_n 1, 1) := dk_27 (dk_at dksX9_next_0 1 rfl rfl)
theorem dX9_next_2 : decode cX9_next 2 = .ok (.invokevirtual 289, 3) := dk_182 1 33 (dk_at dksX9_next_0 2 rfl rfl)
theorem dX9_next_5 : decode cX9_next 5 = .ok (.iload_n 2, 1) := dk_28 (dk_at dksX9_next_0 5 rfl rfl)
theorem dX9_next_6 : decode cX9_next 6 = .ok (.if_icmp .ne 5, 3) := dk_160 0 5 (dk_at dksX9_next_0 6 rfl rfl)
theorem dX9_next_9 : decode cX9_next 9 = .ok (.iconst (-1), 1) := dk_2 (dk_at dksX9_next_0 9 rfl rfl)
theorem dX9_next_10 : decode cX9_next 10 = .ok (.ireturn, 1) := dk_172 (dk_at dksX9_next_0 10 rfl rfl)
theorem dX9_next_11 : decode cX9_next 11 = .ok (.iload_n 3, 1) := dk_29 (dk_at dksX9_next_0 11 rfl rfl)
theorem dX9_next_12 : decode cX9_next 12 = .ok (.iload 4, 2) := dk_21 4 (dk_at dksX9_next_0 12 rfl rfl)
theorem dX9_next_14 : decode cX9_next 14 = .ok (.aload_n 0, 1) := dk_42 (dk_at dksX9_next_0 14 rfl rfl)
theorem dX9_next_15 : decode cX9_next 15 = .ok (.iload_n 1, 1) := dk_27 (dk_at dksX9_next_0 15 rfl rfl)
theorem dX9_next_16 : decode cX9_next 16 = .ok (.invokevirtual 289, 3) := dk_182 1 33 (dk_at dksX9_next_0 16 rfl rfl)
theorem dX9_next_19 : decode cX9_next 19 = .ok (.imul, 1) := dk_104 (dk_at dksX9_next_0 19 rfl rfl)
theorem dX9_next_20 : decode cX9_next 20 = .ok (.iadd, 1) := dk_96 (dk_at dksX9_next_0 20 rfl rfl)
theorem dX9_next_21 : decode cX9_next 21 = .ok (.istore 5, 2) := dk_54 5 (dk_at dksX9_next_0 21 rfl rfl)
theorem dX9_next_23 : decode cX9_next 23 = .ok (.aload_n 0, 1) := dk_42 (dk_at dksX9_next_0 23 rfl rfl)
theorem dX9_next_24 : decode cX9_next 24 = .ok (.iload_n 1, 1) := dk_27 (dk_at dksX9_next_1 0 rfl rfl)
theorem dX9_next_25 : decode cX9_next 25 = .ok (.aload_n 0, 1) := dk_42 (dk_at dksX9_next_1 1 rfl rfl)
theorem dX9_next_26 : decode cX9_next 26 = .ok (.iload_n 1, 1) := dk_27 (dk_at dksX9_next_1 2 rfl rfl)
theorem dX9_next_27 : decode cX9_next 27 = .ok (.invokevirtual 289, 3) := dk_182 1 33 (dk_at dksX9_next_1 3 rfl rfl)
theorem dX9_next_30 : decode cX9_next 30 = .ok (.iconst 1, 1) := dk_4 (dk_at dksX9_next_1 6 rfl rfl)
theorem dX9_next_31 : decode cX9_next 31 = .ok (.iadd, 1) := dk_96 (dk_at dksX9_next_1 7 rfl rfl)
theorem dX9_next_32 : decode cX9_next 32 = .ok (.invokevirtual 292, 3) := dk_182 1 36 (dk_at dksX9_next_1 8 rfl rfl)
theorem dX9_next_35 : decode cX9_next 35 = .ok (.iload 5, 2) := dk_21 5 (dk_at dksX9_next_1 11 rfl rfl)
theorem dX9_next_37 : decode cX9_next 37 = .ok (.ireturn, 1) := dk_172 (dk_at dksX9_next_1 13 rfl rfl)
abbrev cX9_tell : ByteArray := prog_23_method_28_code
def yX9_tell : MethodName := ⟨RX9, "tell", "(II)V"⟩
def dkwX9_tell_0 : List UInt8 := [42, 180, 0, 30, 17, 0, 210, 27, 96, 28, 79, 177]
abbrev dktX9_tell_0 : List UInt8 := dkwX9_tell_0 ++ []
theorem dksX9_tell_0 : cX9_tell.data.toList.drop 0 = dktX9_tell_0 := by decide +kernel
theorem dX9_tell_0 : decode cX9_tell 0 = .ok (.aload_n 0, 1) := dk_42 (dk_at dksX9_tell_0 0 rfl rfl)
theorem dX9_tell_1 : decode cX9_tell 1 = .ok (.getfield 30, 3) := dk_180 0 30 (dk_at dksX9_tell_0 1 rfl rfl)
theorem dX9_tell_4 : decode cX9_tell 4 = .ok (.sipush 210, 3) := dk_17 0 210 (dk_at dksX9_tell_0 4 rfl rfl)
theorem dX9_tell_7 : decode cX9_tell 7 = .ok (.iload_n 1, 1) := dk_27 (dk_at dksX9_tell_0 7 rfl rfl)
theorem dX9_tell_8 : decode cX9_tell 8 = .ok (.iadd, 1) := dk_96 (dk_at dksX9_tell_0 8 rfl rfl)
theorem dX9_tell_9 : decode cX9_tell 9 = .ok (.iload_n 2, 1) := dk_28 (dk_at dksX9_tell_0 9 rfl rfl)
theorem dX9_tell_10 : decode cX9_tell 10 = .ok (.iastore, 1) := dk_79 (dk_at dksX9_tell_0 10 rfl rfl)
theorem dX9_tell_11 : decode cX9_tell 11 = .ok (.return_, 1) := dk_177 (dk_at dksX9_tell_0 11 rfl rfl)
abbrev cX9_wrong : ByteArray := prog_23_method_13_code
def yX9_wrong : MethodName := ⟨RX9, "wrong", "(I)Z"⟩
def dkwX9_wrong_0 : List UInt8 := [42, 27, 181, 0, 215, 42, 42, 180, 0, 16, 42, 180, 0, 218, 46, 181, 0, 26, 3, 172]
abbrev dktX9_wrong_0 : List UInt8 := dkwX9_wrong_0 ++ []
theorem dksX9_wrong_0 : cX9_wrong.data.toList.drop 0 = dktX9_wrong_0 := by decide +kernel
theorem dX9_wrong_0 : decode cX9_wrong 0 = .ok (.aload_n 0, 1) := dk_42 (dk_at dksX9_wrong_0 0 rfl rfl)
theorem dX9_wrong_1 : decode cX9_wrong 1 = .ok (.iload_n 1, 1) := dk_27 (dk_at dksX9_wrong_0 1 rfl rfl)
theorem dX9_wrong_2 : decode cX9_wrong 2 = .ok (.putfield 215, 3) := dk_181 0 215 (dk_at dksX9_wrong_0 2 rfl rfl)
theorem dX9_wrong_5 : decode cX9_wrong 5 = .ok (.aload_n 0, 1) := dk_42 (dk_at dksX9_wrong_0 5 rfl rfl)
theorem dX9_wrong_6 : decode cX9_wrong 6 = .ok (.aload_n 0, 1) := dk_42 (dk_at dksX9_wrong_0 6 rfl rfl)
theorem dX9_wrong_7 : decode cX9_wrong 7 = .ok (.getfield 16, 3) := dk_180 0 16 (dk_at dksX9_wrong_0 7 rfl rfl)
theorem dX9_wrong_10 : decode cX9_wrong 10 = .ok (.aload_n 0, 1) := dk_42 (dk_at dksX9_wrong_0 10 rfl rfl)
theorem dX9_wrong_11 : decode cX9_wrong 11 = .ok (.getfield 218, 3) := dk_180 0 218 (dk_at dksX9_wrong_0 11 rfl rfl)
theorem dX9_wrong_14 : decode cX9_wrong 14 = .ok (.iaload, 1) := dk_46 (dk_at dksX9_wrong_0 14 rfl rfl)
theorem dX9_wrong_15 : decode cX9_wrong 15 = .ok (.putfield 26, 3) := dk_181 0 26 (dk_at dksX9_wrong_0 15 rfl rfl)
theorem dX9_wrong_18 : decode cX9_wrong 18 = .ok (.iconst 0, 1) := dk_3 (dk_at dksX9_wrong_0 18 rfl rfl)
theorem dX9_wrong_19 : decode cX9_wrong 19 = .ok (.ireturn, 1) := dk_172 (dk_at dksX9_wrong_0 19 rfl rfl)
abbrev cX9_pass : ByteArray := prog_23_method_15_code
def yX9_pass : MethodName := ⟨RX9, "pass", "()Z"⟩
def dkwX9_pass_1 : List UInt8 := [181, 0, 218, 4, 172]
abbrev dktX9_pass_1 : List UInt8 := dkwX9_pass_1 ++ []
def dkwX9_pass_0 : List UInt8 := [42, 180, 0, 218, 17, 1, 144, 161, 0, 9, 42, 5, 182, 0, 227, 172, 42, 89, 180, 0, 218, 4, 96]
abbrev dktX9_pass_0 : List UInt8 := dkwX9_pass_0 ++ dktX9_pass_1
theorem dksX9_pass_0 : cX9_pass.data.toList.drop 0 = dktX9_pass_0 := by decide +kernel
theorem dksX9_pass_1 : cX9_pass.data.toList.drop 23 = dktX9_pass_1 := dk_seg dksX9_pass_0 23 rfl rfl
theorem dX9_pass_0 : decode cX9_pass 0 = .ok (.aload_n 0, 1) := dk_42 (dk_at dksX9_pass_0 0 rfl rfl)
theorem dX9_pass_1 : decode cX9_pass 1 = .ok (.getfield 218, 3) := dk_180 0 218 (dk_at dksX9_pass_0 1 rfl rfl)
theorem dX9_pass_4 : decode cX9_pass 4 = .ok (.sipush 400, 3) := dk_17 1 144 (dk_at dksX9_pass_0 4 rfl rfl)
theorem dX9_pass_7 : decode cX9_pass 7 = .ok (.if_icmp .lt 9, 3) := dk_161 0 9 (dk_at dksX9_pass_0 7 rfl rfl)
theorem dX9_pass_10 : decode cX9_pass 10 = .ok (.aload_n 0, 1) := dk_42 (dk_at dksX9_pass_0 10 rfl rfl)
theorem dX9_pass_11 : decode cX9_pass 11 = .ok (.iconst 2, 1) := dk_5 (dk_at dksX9_pass_0 11 rfl rfl)
theorem dX9_pass_12 : decode cX9_pass 12 = .ok (.invokevirtual 227, 3) := dk_182 0 227 (dk_at dksX9_pass_0 12 rfl rfl)
theorem dX9_pass_15 : decode cX9_pass 15 = .ok (.ireturn, 1) := dk_172 (dk_at dksX9_pass_0 15 rfl rfl)
theorem dX9_pass_16 : decode cX9_pass 16 = .ok (.aload_n 0, 1) := dk_42 (dk_at dksX9_pass_0 16 rfl rfl)
theorem dX9_pass_17 : decode cX9_pass 17 = .ok (.dup, 1) := dk_89 (dk_at dksX9_pass_0 17 rfl rfl)
theorem dX9_pass_18 : decode cX9_pass 18 = .ok (.getfield 218, 3) := dk_180 0 218 (dk_at dksX9_pass_0 18 rfl rfl)
theorem dX9_pass_21 : decode cX9_pass 21 = .ok (.iconst 1, 1) := dk_4 (dk_at dksX9_pass_0 21 rfl rfl)
theorem dX9_pass_22 : decode cX9_pass 22 = .ok (.iadd, 1) := dk_96 (dk_at dksX9_pass_0 22 rfl rfl)
theorem dX9_pass_23 : decode cX9_pass 23 = .ok (.putfield 218, 3) := dk_181 0 218 (dk_at dksX9_pass_1 0 rfl rfl)
theorem dX9_pass_26 : decode cX9_pass 26 = .ok (.iconst 1, 1) := dk_4 (dk_at dksX9_pass_1 3 rfl rfl)
theorem dX9_pass_27 : decode cX9_pass 27 = .ok (.ireturn, 1) := dk_172 (dk_at dksX9_pass_1 4 rfl rfl)
abbrev cX9_names : ByteArray := prog_23_method_32_code
def yX9_names : MethodName := ⟨RX9, "names", "(II)Z"⟩
def dkwX9_names_4 : List UInt8 := [180, 1, 30, 4, 96, 181, 1, 30, 4, 172]
abbrev dktX9_names_4 : List UInt8 := dkwX9_names_4 ++ []
def dkwX9_names_3 : List UInt8 := [42, 180, 0, 73, 42, 180, 1, 30, 27, 79, 42, 180, 0, 76, 42, 180, 1, 30, 28, 79, 42, 89]
abbrev dktX9_names_3 : List UInt8 := dkwX9_names_3 ++ dktX9_names_4
def dkwX9_names_2 : List UInt8 := [182, 0, 240, 132, 4, 1, 167, 255, 221, 42, 180, 0, 70, 42, 180, 1, 30, 42, 180, 0, 22, 29, 47, 80]
abbrev dktX9_names_2 : List UInt8 := dkwX9_names_2 ++ dktX9_names_3
def dkwX9_names_1 : List UInt8 := [162, 0, 32, 42, 180, 0, 70, 21, 4, 47, 42, 180, 0, 22, 29, 47, 148, 154, 0, 9, 42, 6, 29]
abbrev dktX9_names_1 : List UInt8 := dkwX9_names_1 ++ dktX9_names_2
def dkwX9_names_0 : List UInt8 := [42, 180, 0, 218, 62, 42, 3, 182, 0, 234, 154, 0, 5, 3, 172, 3, 54, 4, 21, 4, 42, 180, 1, 30]
abbrev dktX9_names_0 : List UInt8 := dkwX9_names_0 ++ dktX9_names_1
theorem dksX9_names_0 : cX9_names.data.toList.drop 0 = dktX9_names_0 := by decide +kernel
theorem dksX9_names_1 : cX9_names.data.toList.drop 24 = dktX9_names_1 := dk_seg dksX9_names_0 24 rfl rfl
theorem dksX9_names_2 : cX9_names.data.toList.drop 47 = dktX9_names_2 := dk_seg dksX9_names_1 23 rfl rfl
theorem dksX9_names_3 : cX9_names.data.toList.drop 71 = dktX9_names_3 := dk_seg dksX9_names_2 24 rfl rfl
theorem dksX9_names_4 : cX9_names.data.toList.drop 93 = dktX9_names_4 := dk_seg dksX9_names_3 22 rfl rfl
theorem dX9_names_0 : decode cX9_names 0 = .ok (.aload_n 0, 1) := dk_42 (dk_at dksX9_names_0 0 rfl rfl)
theorem dX9_names_1 : decode cX9_names 1 = .ok (.getfield 218, 3) := dk_180 0 218 (dk_at dksX9_names_0 1 rfl rfl)
theorem dX9_names_4 : decode cX9_names 4 = .ok (.istore_n 3, 1) := dk_62 (dk_at dksX9_names_0 4 rfl rfl)
theorem dX9_names_5 : decode cX9_names 5 = .ok (.aload_n 0, 1) := dk_42 (dk_at dksX9_names_0 5 rfl rfl)
theorem dX9_names_6 : decode cX9_names 6 = .ok (.iconst 0, 1) := dk_3 (dk_at dksX9_names_0 6 rfl rfl)
theorem dX9_names_7 : decode cX9_names 7 = .ok (.invokevirtual 234, 3) := dk_182 0 234 (dk_at dksX9_names_0 7 rfl rfl)
theorem dX9_names_10 : decode cX9_names 10 = .ok (.ifCond .ne 5, 3) := dk_154 0 5 (dk_at dksX9_names_0 10 rfl rfl)
theorem dX9_names_13 : decode cX9_names 13 = .ok (.iconst 0, 1) := dk_3 (dk_at dksX9_names_0 13 rfl rfl)
theorem dX9_names_14 : decode cX9_names 14 = .ok (.ireturn, 1) := dk_172 (dk_at dksX9_names_0 14 rfl rfl)
theorem dX9_names_15 : decode cX9_names 15 = .ok (.iconst 0, 1) := dk_3 (dk_at dksX9_names_0 15 rfl rfl)
theorem dX9_names_16 : decode cX9_names 16 = .ok (.istore 4, 2) := dk_54 4 (dk_at dksX9_names_0 16 rfl rfl)
theorem dX9_names_18 : decode cX9_names 18 = .ok (.iload 4, 2) := dk_21 4 (dk_at dksX9_names_0 18 rfl rfl)
theorem dX9_names_20 : decode cX9_names 20 = .ok (.aload_n 0, 1) := dk_42 (dk_at dksX9_names_0 20 rfl rfl)
theorem dX9_names_21 : decode cX9_names 21 = .ok (.getfield 286, 3) := dk_180 1 30 (dk_at dksX9_names_0 21 rfl rfl)
theorem dX9_names_24 : decode cX9_names 24 = .ok (.if_icmp .ge 32, 3) := dk_162 0 32 (dk_at dksX9_names_1 0 rfl rfl)
theorem dX9_names_27 : decode cX9_names 27 = .ok (.aload_n 0, 1) := dk_42 (dk_at dksX9_names_1 3 rfl rfl)
theorem dX9_names_28 : decode cX9_names 28 = .ok (.getfield 70, 3) := dk_180 0 70 (dk_at dksX9_names_1 4 rfl rfl)
theorem dX9_names_31 : decode cX9_names 31 = .ok (.iload 4, 2) := dk_21 4 (dk_at dksX9_names_1 7 rfl rfl)
theorem dX9_names_33 : decode cX9_names 33 = .ok (.laload, 1) := dk_47 (dk_at dksX9_names_1 9 rfl rfl)
theorem dX9_names_34 : decode cX9_names 34 = .ok (.aload_n 0, 1) := dk_42 (dk_at dksX9_names_1 10 rfl rfl)
theorem dX9_names_35 : decode cX9_names 35 = .ok (.getfield 22, 3) := dk_180 0 22 (dk_at dksX9_names_1 11 rfl rfl)
theorem dX9_names_38 : decode cX9_names 38 = .ok (.iload_n 3, 1) := dk_29 (dk_at dksX9_names_1 14 rfl rfl)
theorem dX9_names_39 : decode cX9_names 39 = .ok (.laload, 1) := dk_47 (dk_at dksX9_names_1 15 rfl rfl)
theorem dX9_names_40 : decode cX9_names 40 = .ok (.lcmp, 1) := dk_148 (dk_at dksX9_names_1 16 rfl rfl)
theorem dX9_names_41 : decode cX9_names 41 = .ok (.ifCond .ne 9, 3) := dk_154 0 9 (dk_at dksX9_names_1 17 rfl rfl)
theorem dX9_names_44 : decode cX9_names 44 = .ok (.aload_n 0, 1) := dk_42 (dk_at dksX9_names_1 20 rfl rfl)
theorem dX9_names_45 : decode cX9_names 45 = .ok (.iconst 3, 1) := dk_6 (dk_at dksX9_names_1 21 rfl rfl)
theorem dX9_names_46 : decode cX9_names 46 = .ok (.iload_n 3, 1) := dk_29 (dk_at dksX9_names_1 22 rfl rfl)
theorem dX9_names_47 : decode cX9_names 47 = .ok (.invokevirtual 240, 3) := dk_182 0 240 (dk_at dksX9_names_2 0 rfl rfl)
theorem dX9_names_50 : decode cX9_names 50 = .ok (.iinc 4 1, 3) := dk_132 4 1 (dk_at dksX9_names_2 3 rfl rfl)
theorem dX9_names_53 : decode cX9_names 53 = .ok (.goto (-35), 3) := dk_167 255 221 (dk_at dksX9_names_2 6 rfl rfl)
theorem dX9_names_56 : decode cX9_names 56 = .ok (.aload_n 0, 1) := dk_42 (dk_at dksX9_names_2 9 rfl rfl)
theorem dX9_names_57 : decode cX9_names 57 = .ok (.getfield 70, 3) := dk_180 0 70 (dk_at dksX9_names_2 10 rfl rfl)
theorem dX9_names_60 : decode cX9_names 60 = .ok (.aload_n 0, 1) := dk_42 (dk_at dksX9_names_2 13 rfl rfl)
theorem dX9_names_61 : decode cX9_names 61 = .ok (.getfield 286, 3) := dk_180 1 30 (dk_at dksX9_names_2 14 rfl rfl)
theorem dX9_names_64 : decode cX9_names 64 = .ok (.aload_n 0, 1) := dk_42 (dk_at dksX9_names_2 17 rfl rfl)
theorem dX9_names_65 : decode cX9_names 65 = .ok (.getfield 22, 3) := dk_180 0 22 (dk_at dksX9_names_2 18 rfl rfl)
theorem dX9_names_68 : decode cX9_names 68 = .ok (.iload_n 3, 1) := dk_29 (dk_at dksX9_names_2 21 rfl rfl)
theorem dX9_names_69 : decode cX9_names 69 = .ok (.laload, 1) := dk_47 (dk_at dksX9_names_2 22 rfl rfl)
theorem dX9_names_70 : decode cX9_names 70 = .ok (.lastore, 1) := dk_80 (dk_at dksX9_names_2 23 rfl rfl)
theorem dX9_names_71 : decode cX9_names 71 = .ok (.aload_n 0, 1) := dk_42 (dk_at dksX9_names_3 0 rfl rfl)
theorem dX9_names_72 : decode cX9_names 72 = .ok (.getfield 73, 3) := dk_180 0 73 (dk_at dksX9_names_3 1 rfl rfl)
theorem dX9_names_75 : decode cX9_names 75 = .ok (.aload_n 0, 1) := dk_42 (dk_at dksX9_names_3 4 rfl rfl)
theorem dX9_names_76 : decode cX9_names 76 = .ok (.getfield 286, 3) := dk_180 1 30 (dk_at dksX9_names_3 5 rfl rfl)
theorem dX9_names_79 : decode cX9_names 79 = .ok (.iload_n 1, 1) := dk_27 (dk_at dksX9_names_3 8 rfl rfl)
theorem dX9_names_80 : decode cX9_names 80 = .ok (.iastore, 1) := dk_79 (dk_at dksX9_names_3 9 rfl rfl)
theorem dX9_names_81 : decode cX9_names 81 = .ok (.aload_n 0, 1) := dk_42 (dk_at dksX9_names_3 10 rfl rfl)
theorem dX9_names_82 : decode cX9_names 82 = .ok (.getfield 76, 3) := dk_180 0 76 (dk_at dksX9_names_3 11 rfl rfl)
theorem dX9_names_85 : decode cX9_names 85 = .ok (.aload_n 0, 1) := dk_42 (dk_at dksX9_names_3 14 rfl rfl)
theorem dX9_names_86 : decode cX9_names 86 = .ok (.getfield 286, 3) := dk_180 1 30 (dk_at dksX9_names_3 15 rfl rfl)
theorem dX9_names_89 : decode cX9_names 89 = .ok (.iload_n 2, 1) := dk_28 (dk_at dksX9_names_3 18 rfl rfl)
theorem dX9_names_90 : decode cX9_names 90 = .ok (.iastore, 1) := dk_79 (dk_at dksX9_names_3 19 rfl rfl)
theorem dX9_names_91 : decode cX9_names 91 = .ok (.aload_n 0, 1) := dk_42 (dk_at dksX9_names_3 20 rfl rfl)
theorem dX9_names_92 : decode cX9_names 92 = .ok (.dup, 1) := dk_89 (dk_at dksX9_names_3 21 rfl rfl)
theorem dX9_names_93 : decode cX9_names 93 = .ok (.getfield 286, 3) := dk_180 1 30 (dk_at dksX9_names_4 0 rfl rfl)
theorem dX9_names_96 : decode cX9_names 96 = .ok (.iconst 1, 1) := dk_4 (dk_at dksX9_names_4 3 rfl rfl)
theorem dX9_names_97 : decode cX9_names 97 = .ok (.iadd, 1) := dk_96 (dk_at dksX9_names_4 4 rfl rfl)
theorem dX9_names_98 : decode cX9_names 98 = .ok (.putfield 286, 3) := dk_181 1 30 (dk_at dksX9_names_4 5 rfl rfl)
theorem dX9_names_101 : decode cX9_names 101 = .ok (.iconst 1, 1) := dk_4 (dk_at dksX9_names_4 8 rfl rfl)
theorem dX9_names_102 : decode cX9_names 102 = .ok (.ireturn, 1) := dk_172 (dk_at dksX9_names_4 9 rfl rfl)
abbrev cX9_takes : ByteArray := prog_23_method_18_code
def yX9_takes : MethodName := ⟨RX9, "takes", "(I)Z"⟩
def dkwX9_takes_1 : List UInt8 := [182, 0, 227, 172]
abbrev dktX9_takes_1 : List UInt8 := dkwX9_takes_1 ++ []
def dkwX9_takes_0 : List UInt8 := [42, 180, 0, 13, 42, 180, 0, 218, 46, 27, 160, 0, 10, 42, 182, 0, 230, 167, 0, 8, 42, 4]
abbrev dktX9_takes_0 : List UInt8 := dkwX9_takes_0 ++ dktX9_takes_1
theorem dksX9_takes_0 : cX9_takes.data.toList.drop 0 = dktX9_takes_0 := by decide +kernel
theorem dksX9_takes_1 : cX9_takes.data.toList.drop 22 = dktX9_takes_1 := dk_seg dksX9_takes_0 22 rfl rfl
theorem dX9_takes_0 : decode cX9_takes 0 = .ok (.aload_n 0, 1) := dk_42 (dk_at dksX9_takes_0 0 rfl rfl)
theorem dX9_takes_1 : decode cX9_takes 1 = .ok (.getfield 13, 3) := dk_180 0 13 (dk_at dksX9_takes_0 1 rfl rfl)
theorem dX9_takes_4 : decode cX9_takes 4 = .ok (.aload_n 0, 1) := dk_42 (dk_at dksX9_takes_0 4 rfl rfl)
theorem dX9_takes_5 : decode cX9_takes 5 = .ok (.getfield 218, 3) := dk_180 0 218 (dk_at dksX9_takes_0 5 rfl rfl)
theorem dX9_takes_8 : decode cX9_takes 8 = .ok (.iaload, 1) := dk_46 (dk_at dksX9_takes_0 8 rfl rfl)
theorem dX9_takes_9 : decode cX9_takes 9 = .ok (.iload_n 1, 1) := dk_27 (dk_at dksX9_takes_0 9 rfl rfl)
theorem dX9_takes_10 : decode cX9_takes 10 = .ok (.if_icmp .ne 10, 3) := dk_160 0 10 (dk_at dksX9_takes_0 10 rfl rfl)
theorem dX9_takes_13 : decode cX9_takes 13 = .ok (.aload_n 0, 1) := dk_42 (dk_at dksX9_takes_0 13 rfl rfl)
theorem dX9_takes_14 : decode cX9_takes 14 = .ok (.invokevirtual 230, 3) := dk_182 0 230 (dk_at dksX9_takes_0 14 rfl rfl)
theorem dX9_takes_17 : decode cX9_takes 17 = .ok (.goto 8, 3) := dk_167 0 8 (dk_at dksX9_takes_0 17 rfl rfl)
theorem dX9_takes_20 : decode cX9_takes 20 = .ok (.aload_n 0, 1) := dk_42 (dk_at dksX9_takes_0 20 rfl rfl)
theorem dX9_takes_21 : decode cX9_takes 21 = .ok (.iconst 1, 1) := dk_4 (dk_at dksX9_takes_0 21 rfl rfl)
theorem dX9_takes_22 : decode cX9_takes 22 = .ok (.invokevirtual 227, 3) := dk_182 0 227 (dk_at dksX9_takes_1 0 rfl rfl)
theorem dX9_takes_25 : decode cX9_takes 25 = .ok (.ireturn, 1) := dk_172 (dk_at dksX9_takes_1 3 rfl rfl)
abbrev cX9_tells : ByteArray := prog_23_method_14_code
def yX9_tells : MethodName := ⟨RX9, "tells", "(II)V"⟩
def dkwX9_tells_2 : List UInt8 := [181, 0, 224, 177]
abbrev dktX9_tells_2 : List UInt8 := dkwX9_tells_2 ++ []
def dkwX9_tells_1 : List UInt8 := [180, 0, 224, 160, 0, 12, 27, 42, 180, 0, 221, 161, 0, 4, 177, 42, 27, 181, 0, 221, 42, 29]
abbrev dktX9_tells_1 : List UInt8 := dkwX9_tells_1 ++ dktX9_tells_2
def dkwX9_tells_0 : List UInt8 := [42, 180, 0, 16, 28, 46, 62, 42, 180, 0, 221, 153, 0, 28, 29, 42, 180, 0, 224, 163, 0, 19, 29, 42]
abbrev dktX9_tells_0 : List UInt8 := dkwX9_tells_0 ++ dktX9_tells_1
theorem dksX9_tells_0 : cX9_tells.data.toList.drop 0 = dktX9_tells_0 := by decide +kernel
theorem dksX9_tells_1 : cX9_tells.data.toList.drop 24 = dktX9_tells_1 := dk_seg dksX9_tells_0 24 rfl rfl
theorem dksX9_tells_2 : cX9_tells.data.toList.drop 46 = dktX9_tells_2 := dk_seg dksX9_tells_1 22 rfl rfl
theorem dX9_tells_0 : decode cX9_tells 0 = .ok (.aload_n 0, 1) := dk_42 (dk_at dksX9_tells_0 0 rfl rfl)
theorem dX9_tells_1 : decode cX9_tells 1 = .ok (.getfield 16, 3) := dk_180 0 16 (dk_at dksX9_tells_0 1 rfl rfl)
theorem dX9_tells_4 : decode cX9_tells 4 = .ok (.iload_n 2, 1) := dk_28 (dk_at dksX9_tells_0 4 rfl rfl)
theorem dX9_tells_5 : decode cX9_tells 5 = .ok (.iaload, 1) := dk_46 (dk_at dksX9_tells_0 5 rfl rfl)
theorem dX9_tells_6 : decode cX9_tells 6 = .ok (.istore_n 3, 1) := dk_62 (dk_at dksX9_tells_0 6 rfl rfl)
theorem dX9_tells_7 : decode cX9_tells 7 = .ok (.aload_n 0, 1) := dk_42 (dk_at dksX9_tells_0 7 rfl rfl)
theorem dX9_tells_8 : decode cX9_tells 8 = .ok (.getfield 221, 3) := dk_180 0 221 (dk_at dksX9_tells_0 8 rfl rfl)
theorem dX9_tells_11 : decode cX9_tells 11 = .ok (.ifCond .eq 28, 3) := dk_153 0 28 (dk_at dksX9_tells_0 11 rfl rfl)
theorem dX9_tells_14 : decode cX9_tells 14 = .ok (.iload_n 3, 1) := dk_29 (dk_at dksX9_tells_0 14 rfl rfl)
theorem dX9_tells_15 : decode cX9_tells 15 = .ok (.aload_n 0, 1) := dk_42 (dk_at dksX9_tells_0 15 rfl rfl)
theorem dX9_tells_16 : decode cX9_tells 16 = .ok (.getfield 224, 3) := dk_180 0 224 (dk_at dksX9_tells_0 16 rfl rfl)
theorem dX9_tells_19 : decode cX9_tells 19 = .ok (.if_icmp .gt 19, 3) := dk_163 0 19 (dk_at dksX9_tells_0 19 rfl rfl)
theorem dX9_tells_22 : decode cX9_tells 22 = .ok (.iload_n 3, 1) := dk_29 (dk_at dksX9_tells_0 22 rfl rfl)
theorem dX9_tells_23 : decode cX9_tells 23 = .ok (.aload_n 0, 1) := dk_42 (dk_at dksX9_tells_0 23 rfl rfl)
theorem dX9_tells_24 : decode cX9_tells 24 = .ok (.getfield 224, 3) := dk_180 0 224 (dk_at dksX9_tells_1 0 rfl rfl)
theorem dX9_tells_27 : decode cX9_tells 27 = .ok (.if_icmp .ne 12, 3) := dk_160 0 12 (dk_at dksX9_tells_1 3 rfl rfl)
theorem dX9_tells_30 : decode cX9_tells 30 = .ok (.iload_n 1, 1) := dk_27 (dk_at dksX9_tells_1 6 rfl rfl)
theorem dX9_tells_31 : decode cX9_tells 31 = .ok (.aload_n 0, 1) := dk_42 (dk_at dksX9_tells_1 7 rfl rfl)
theorem dX9_tells_32 : decode cX9_tells 32 = .ok (.getfield 221, 3) := dk_180 0 221 (dk_at dksX9_tells_1 8 rfl rfl)
theorem dX9_tells_35 : decode cX9_tells 35 = .ok (.if_icmp .lt 4, 3) := dk_161 0 4 (dk_at dksX9_tells_1 11 rfl rfl)
theorem dX9_tells_38 : decode cX9_tells 38 = .ok (.return_, 1) := dk_177 (dk_at dksX9_tells_1 14 rfl rfl)
theorem dX9_tells_39 : decode cX9_tells 39 = .ok (.aload_n 0, 1) := dk_42 (dk_at dksX9_tells_1 15 rfl rfl)
theorem dX9_tells_40 : decode cX9_tells 40 = .ok (.iload_n 1, 1) := dk_27 (dk_at dksX9_tells_1 16 rfl rfl)
theorem dX9_tells_41 : decode cX9_tells 41 = .ok (.putfield 221, 3) := dk_181 0 221 (dk_at dksX9_tells_1 17 rfl rfl)
theorem dX9_tells_44 : decode cX9_tells 44 = .ok (.aload_n 0, 1) := dk_42 (dk_at dksX9_tells_1 20 rfl rfl)
theorem dX9_tells_45 : decode cX9_tells 45 = .ok (.iload_n 3, 1) := dk_29 (dk_at dksX9_tells_1 21 rfl rfl)
theorem dX9_tells_46 : decode cX9_tells 46 = .ok (.putfield 224, 3) := dk_181 0 224 (dk_at dksX9_tells_2 0 rfl rfl)
theorem dX9_tells_49 : decode cX9_tells 49 = .ok (.return_, 1) := dk_177 (dk_at dksX9_tells_2 3 rfl rfl)
abbrev cX9_takesInt : ByteArray := prog_23_method_19_code
def yX9_takesInt : MethodName := ⟨RX9, "takesInt", "(II)Z"⟩
def dkwX9_takesInt_2 : List UInt8 := [182, 0, 240, 4, 172]
abbrev dktX9_takesInt_2 : List UInt8 := dkwX9_takesInt_2 ++ []
def dkwX9_takesInt_1 : List UInt8 := [181, 0, 237, 42, 180, 0, 237, 27, 161, 0, 11, 42, 180, 0, 237, 28, 164, 0, 9, 42, 8, 29]
abbrev dktX9_takesInt_1 : List UInt8 := dkwX9_takesInt_1 ++ dktX9_takesInt_2
def dkwX9_takesInt_0 : List UInt8 := [42, 180, 0, 218, 62, 42, 4, 182, 0, 234, 154, 0, 5, 3, 172, 42, 42, 180, 0, 19, 29, 46]
abbrev dktX9_takesInt_0 : List UInt8 := dkwX9_takesInt_0 ++ dktX9_takesInt_1
theorem dksX9_takesInt_0 : cX9_takesInt.data.toList.drop 0 = dktX9_takesInt_0 := by decide +kernel
theorem dksX9_takesInt_1 : cX9_takesInt.data.toList.drop 22 = dktX9_takesInt_1 := dk_seg dksX9_takesInt_0 22 rfl rfl
theorem dksX9_takesInt_2 : cX9_takesInt.data.toList.drop 44 = dktX9_takesInt_2 := dk_seg dksX9_takesInt_1 22 rfl rfl
theorem dX9_takesInt_0 : decode cX9_takesInt 0 = .ok (.aload_n 0, 1) := dk_42 (dk_at dksX9_takesInt_0 0 rfl rfl)
theorem dX9_takesInt_1 : decode cX9_takesInt 1 = .ok (.getfield 218, 3) := dk_180 0 218 (dk_at dksX9_takesInt_0 1 rfl rfl)
theorem dX9_takesInt_4 : decode cX9_takesInt 4 = .ok (.istore_n 3, 1) := dk_62 (dk_at dksX9_takesInt_0 4 rfl rfl)
theorem dX9_takesInt_5 : decode cX9_takesInt 5 = .ok (.aload_n 0, 1) := dk_42 (dk_at dksX9_takesInt_0 5 rfl rfl)
theorem dX9_takesInt_6 : decode cX9_takesInt 6 = .ok (.iconst 1, 1) := dk_4 (dk_at dksX9_takesInt_0 6 rfl rfl)
theorem dX9_takesInt_7 : decode cX9_takesInt 7 = .ok (.invokevirtual 234, 3) := dk_182 0 234 (dk_at dksX9_takesInt_0 7 rfl rfl)
theorem dX9_takesInt_10 : decode cX9_takesInt 10 = .ok (.ifCond .ne 5, 3) := dk_154 0 5 (dk_at dksX9_takesInt_0 10 rfl rfl)
theorem dX9_takesInt_13 : decode cX9_takesInt 13 = .ok (.iconst 0, 1) := dk_3 (dk_at dksX9_takesInt_0 13 rfl rfl)
theorem dX9_takesInt_14 : decode cX9_takesInt 14 = .ok (.ireturn, 1) := dk_172 (dk_at dksX9_takesInt_0 14 rfl rfl)
theorem dX9_takesInt_15 : decode cX9_takesInt 15 = .ok (.aload_n 0, 1) := dk_42 (dk_at dksX9_takesInt_0 15 rfl rfl)
theorem dX9_takesInt_16 : decode cX9_takesInt 16 = .ok (.aload_n 0, 1) := dk_42 (dk_at dksX9_takesInt_0 16 rfl rfl)
theorem dX9_takesInt_17 : decode cX9_takesInt 17 = .ok (.getfield 19, 3) := dk_180 0 19 (dk_at dksX9_takesInt_0 17 rfl rfl)
theorem dX9_takesInt_20 : decode cX9_takesInt 20 = .ok (.iload_n 3, 1) := dk_29 (dk_at dksX9_takesInt_0 20 rfl rfl)
theorem dX9_takesInt_21 : decode cX9_takesInt 21 = .ok (.iaload, 1) := dk_46 (dk_at dksX9_takesInt_0 21 rfl rfl)
theorem dX9_takesInt_22 : decode cX9_takesInt 22 = .ok (.putfield 237, 3) := dk_181 0 237 (dk_at dksX9_takesInt_1 0 rfl rfl)
theorem dX9_takesInt_25 : decode cX9_takesInt 25 = .ok (.aload_n 0, 1) := dk_42 (dk_at dksX9_takesInt_1 3 rfl rfl)
theorem dX9_takesInt_26 : decode cX9_takesInt 26 = .ok (.getfield 237, 3) := dk_180 0 237 (dk_at dksX9_takesInt_1 4 rfl rfl)
theorem dX9_takesInt_29 : decode cX9_takesInt 29 = .ok (.iload_n 1, 1) := dk_27 (dk_at dksX9_takesInt_1 7 rfl rfl)
theorem dX9_takesInt_30 : decode cX9_takesInt 30 = .ok (.if_icmp .lt 11, 3) := dk_161 0 11 (dk_at dksX9_takesInt_1 8 rfl rfl)
theorem dX9_takesInt_33 : decode cX9_takesInt 33 = .ok (.aload_n 0, 1) := dk_42 (dk_at dksX9_takesInt_1 11 rfl rfl)
theorem dX9_takesInt_34 : decode cX9_takesInt 34 = .ok (.getfield 237, 3) := dk_180 0 237 (dk_at dksX9_takesInt_1 12 rfl rfl)
theorem dX9_takesInt_37 : decode cX9_takesInt 37 = .ok (.iload_n 2, 1) := dk_28 (dk_at dksX9_takesInt_1 15 rfl rfl)
theorem dX9_takesInt_38 : decode cX9_takesInt 38 = .ok (.if_icmp .le 9, 3) := dk_164 0 9 (dk_at dksX9_takesInt_1 16 rfl rfl)
theorem dX9_takesInt_41 : decode cX9_takesInt 41 = .ok (.aload_n 0, 1) := dk_42 (dk_at dksX9_takesInt_1 19 rfl rfl)
theorem dX9_takesInt_42 : decode cX9_takesInt 42 = .ok (.iconst 5, 1) := dk_8 (dk_at dksX9_takesInt_1 20 rfl rfl)
theorem dX9_takesInt_43 : decode cX9_takesInt 43 = .ok (.iload_n 3, 1) := dk_29 (dk_at dksX9_takesInt_1 21 rfl rfl)
theorem dX9_takesInt_44 : decode cX9_takesInt 44 = .ok (.invokevirtual 240, 3) := dk_182 0 240 (dk_at dksX9_takesInt_2 0 rfl rfl)
theorem dX9_takesInt_47 : decode cX9_takesInt 47 = .ok (.iconst 1, 1) := dk_4 (dk_at dksX9_takesInt_2 3 rfl rfl)
theorem dX9_takesInt_48 : decode cX9_takesInt 48 = .ok (.ireturn, 1) := dk_172 (dk_at dksX9_takesInt_2 4 rfl rfl)
abbrev cX9_tellOffice : ByteArray := prog_23_method_36_code
def yX9_tellOffice : MethodName := ⟨RX9, "tellOffice", "()Z"⟩
def dkwX9_tellOffice_2 : List UInt8 := [182, 1, 46, 154, 0, 5, 3, 172, 42, 28, 42, 180, 0, 237, 182, 1, 36, 4, 172]
abbrev dktX9_tellOffice_2 : List UInt8 := dkwX9_tellOffice_2 ++ []
def dkwX9_tellOffice_1 : List UInt8 := [182, 0, 227, 172, 42, 182, 0, 230, 153, 0, 22, 42, 4, 27, 182, 1, 43, 153, 0, 13, 42, 3, 16, 99]
abbrev dktX9_tellOffice_1 : List UInt8 := dkwX9_tellOffice_1 ++ dktX9_tellOffice_2
def dkwX9_tellOffice_0 : List UInt8 := [42, 4, 182, 1, 33, 60, 42, 4, 16, 12, 16, 70, 4, 182, 1, 39, 61, 28, 156, 0, 9, 42, 5]
abbrev dktX9_tellOffice_0 : List UInt8 := dkwX9_tellOffice_0 ++ dktX9_tellOffice_1
theorem dksX9_tellOffice_0 : cX9_tellOffice.data.toList.drop 0 = dktX9_tellOffice_0 := by decide +kernel
theorem dksX9_tellOffice_1 : cX9_tellOffice.data.toList.drop 23 = dktX9_tellOffice_1 := dk_seg dksX9_tellOffice_0 23 rfl rfl
theorem dksX9_tellOffice_2 : cX9_tellOffice.data.toList.drop 47 = dktX9_tellOffice_2 := dk_seg dksX9_tellOffice_1 24 rfl rfl
theorem dX9_tellOffice_0 : decode cX9_tellOffice 0 = .ok (.aload_n 0, 1) := dk_42 (dk_at dksX9_tellOffice_0 0 rfl rfl)
theorem dX9_tellOffice_1 : decode cX9_tellOffice 1 = .ok (.iconst 1, 1) := dk_4 (dk_at dksX9_tellOffice_0 1 rfl rfl)
theorem dX9_tellOffice_2 : decode cX9_tellOffice 2 = .ok (.invokevirtual 289, 3) := dk_182 1 33 (dk_at dksX9_tellOffice_0 2 rfl rfl)
theorem dX9_tellOffice_5 : decode cX9_tellOffice 5 = .ok (.istore_n 1, 1) := dk_60 (dk_at dksX9_tellOffice_0 5 rfl rfl)
theorem dX9_tellOffice_6 : decode cX9_tellOffice 6 = .ok (.aload_n 0, 1) := dk_42 (dk_at dksX9_tellOffice_0 6 rfl rfl)
theorem dX9_tellOffice_7 : decode cX9_tellOffice 7 = .ok (.iconst 1, 1) := dk_4 (dk_at dksX9_tellOffice_0 7 rfl rfl)
theorem dX9_tellOffice_8 : decode cX9_tellOffice 8 = .ok (.bipush 12, 2) := dk_16 12 (dk_at dksX9_tellOffice_0 8 rfl rfl)
theorem dX9_tellOffice_10 : decode cX9_tellOffice 10 = .ok (.bipush 70, 2) := dk_16 70 (dk_at dksX9_tellOffice_0 10 rfl rfl)
theorem dX9_tellOffice_12 : decode cX9_tellOffice 12 = .ok (.iconst 1, 1) := dk_4 (dk_at dksX9_tellOffice_0 12 rfl rfl)
theorem dX9_tellOffice_13 : decode cX9_tellOffice 13 = .ok (.invokevirtual 295, 3) := dk_182 1 39 (dk_at dksX9_tellOffice_0 13 rfl rfl)
theorem dX9_tellOffice_16 : decode cX9_tellOffice 16 = .ok (.istore_n 2, 1) := dk_61 (dk_at dksX9_tellOffice_0 16 rfl rfl)
theorem dX9_tellOffice_17 : decode cX9_tellOffice 17 = .ok (.iload_n 2, 1) := dk_28 (dk_at dksX9_tellOffice_0 17 rfl rfl)
theorem dX9_tellOffice_18 : decode cX9_tellOffice 18 = .ok (.ifCond .ge 9, 3) := dk_156 0 9 (dk_at dksX9_tellOffice_0 18 rfl rfl)
theorem dX9_tellOffice_21 : decode cX9_tellOffice 21 = .ok (.aload_n 0, 1) := dk_42 (dk_at dksX9_tellOffice_0 21 rfl rfl)
theorem dX9_tellOffice_22 : decode cX9_tellOffice 22 = .ok (.iconst 2, 1) := dk_5 (dk_at dksX9_tellOffice_0 22 rfl rfl)
theorem dX9_tellOffice_23 : decode cX9_tellOffice 23 = .ok (.invokevirtual 227, 3) := dk_182 0 227 (dk_at dksX9_tellOffice_1 0 rfl rfl)
theorem dX9_tellOffice_26 : decode cX9_tellOffice 26 = .ok (.ireturn, 1) := dk_172 (dk_at dksX9_tellOffice_1 3 rfl rfl)
theorem dX9_tellOffice_27 : decode cX9_tellOffice 27 = .ok (.aload_n 0, 1) := dk_42 (dk_at dksX9_tellOffice_1 4 rfl rfl)
theorem dX9_tellOffice_28 : decode cX9_tellOffice 28 = .ok (.invokevirtual 230, 3) := dk_182 0 230 (dk_at dksX9_tellOffice_1 5 rfl rfl)
theorem dX9_tellOffice_31 : decode cX9_tellOffice 31 = .ok (.ifCond .eq 22, 3) := dk_153 0 22 (dk_at dksX9_tellOffice_1 8 rfl rfl)
theorem dX9_tellOffice_34 : decode cX9_tellOffice 34 = .ok (.aload_n 0, 1) := dk_42 (dk_at dksX9_tellOffice_1 11 rfl rfl)
theorem dX9_tellOffice_35 : decode cX9_tellOffice 35 = .ok (.iconst 1, 1) := dk_4 (dk_at dksX9_tellOffice_1 12 rfl rfl)
theorem dX9_tellOffice_36 : decode cX9_tellOffice 36 = .ok (.iload_n 1, 1) := dk_27 (dk_at dksX9_tellOffice_1 13 rfl rfl)
theorem dX9_tellOffice_37 : decode cX9_tellOffice 37 = .ok (.invokevirtual 299, 3) := dk_182 1 43 (dk_at dksX9_tellOffice_1 14 rfl rfl)
theorem dX9_tellOffice_40 : decode cX9_tellOffice 40 = .ok (.ifCond .eq 13, 3) := dk_153 0 13 (dk_at dksX9_tellOffice_1 17 rfl rfl)
theorem dX9_tellOffice_43 : decode cX9_tellOffice 43 = .ok (.aload_n 0, 1) := dk_42 (dk_at dksX9_tellOffice_1 20 rfl rfl)
theorem dX9_tellOffice_44 : decode cX9_tellOffice 44 = .ok (.iconst 0, 1) := dk_3 (dk_at dksX9_tellOffice_1 21 rfl rfl)
theorem dX9_tellOffice_45 : decode cX9_tellOffice 45 = .ok (.bipush 99, 2) := dk_16 99 (dk_at dksX9_tellOffice_1 22 rfl rfl)
theorem dX9_tellOffice_47 : decode cX9_tellOffice 47 = .ok (.invokevirtual 302, 3) := dk_182 1 46 (dk_at dksX9_tellOffice_2 0 rfl rfl)
theorem dX9_tellOffice_50 : decode cX9_tellOffice 50 = .ok (.ifCond .ne 5, 3) := dk_154 0 5 (dk_at dksX9_tellOffice_2 3 rfl rfl)
theorem dX9_tellOffice_53 : decode cX9_tellOffice 53 = .ok (.iconst 0, 1) := dk_3 (dk_at dksX9_tellOffice_2 6 rfl rfl)
theorem dX9_tellOffice_54 : decode cX9_tellOffice 54 = .ok (.ireturn, 1) := dk_172 (dk_at dksX9_tellOffice_2 7 rfl rfl)
theorem dX9_tellOffice_55 : decode cX9_tellOffice 55 = .ok (.aload_n 0, 1) := dk_42 (dk_at dksX9_tellOffice_2 8 rfl rfl)
theorem dX9_tellOffice_56 : decode cX9_tellOffice 56 = .ok (.iload_n 2, 1) := dk_28 (dk_at dksX9_tellOffice_2 9 rfl rfl)
theorem dX9_tellOffice_57 : decode cX9_tellOffice 57 = .ok (.aload_n 0, 1) := dk_42 (dk_at dksX9_tellOffice_2 10 rfl rfl)
theorem dX9_tellOffice_58 : decode cX9_tellOffice 58 = .ok (.getfield 237, 3) := dk_180 0 237 (dk_at dksX9_tellOffice_2 11 rfl rfl)
theorem dX9_tellOffice_61 : decode cX9_tellOffice 61 = .ok (.invokevirtual 292, 3) := dk_182 1 36 (dk_at dksX9_tellOffice_2 14 rfl rfl)
theorem dX9_tellOffice_64 : decode cX9_tellOffice 64 = .ok (.iconst 1, 1) := dk_4 (dk_at dksX9_tellOffice_2 17 rfl rfl)
theorem dX9_tellOffice_65 : decode cX9_tellOffice 65 = .ok (.ireturn, 1) := dk_172 (dk_at dksX9_tellOffice_2 18 rfl rfl)
abbrev cX9_tellIn : ByteArray := prog_23_method_37_code
def yX9_tellIn : MethodName := ⟨RX9, "tellIn", "()Z"⟩
def dkwX9_tellIn_3 : List UInt8 := [4, 172]
abbrev dktX9_tellIn_3 : List UInt8 := dkwX9_tellIn_3 ++ []
def dkwX9_tellIn_2 : List UInt8 := [182, 1, 36, 42, 4, 182, 1, 49, 154, 0, 5, 3, 172, 42, 27, 4, 96, 42, 180, 0, 237, 182, 1, 36]
abbrev dktX9_tellIn_2 : List UInt8 := dkwX9_tellIn_2 ++ dktX9_tellIn_3
def dkwX9_tellIn_1 : List UInt8 := [182, 0, 230, 153, 0, 11, 42, 3, 182, 1, 49, 154, 0, 5, 3, 172, 42, 27, 42, 180, 0, 237]
abbrev dktX9_tellIn_1 : List UInt8 := dkwX9_tellIn_1 ++ dktX9_tellIn_2
def dkwX9_tellIn_0 : List UInt8 := [42, 5, 16, 12, 16, 90, 5, 182, 1, 39, 60, 27, 156, 0, 9, 42, 5, 182, 0, 227, 172, 42]
abbrev dktX9_tellIn_0 : List UInt8 := dkwX9_tellIn_0 ++ dktX9_tellIn_1
theorem dksX9_tellIn_0 : cX9_tellIn.data.toList.drop 0 = dktX9_tellIn_0 := by decide +kernel
theorem dksX9_tellIn_1 : cX9_tellIn.data.toList.drop 22 = dktX9_tellIn_1 := dk_seg dksX9_tellIn_0 22 rfl rfl
theorem dksX9_tellIn_2 : cX9_tellIn.data.toList.drop 44 = dktX9_tellIn_2 := dk_seg dksX9_tellIn_1 22 rfl rfl
theorem dksX9_tellIn_3 : cX9_tellIn.data.toList.drop 68 = dktX9_tellIn_3 := dk_seg dksX9_tellIn_2 24 rfl rfl
theorem dX9_tellIn_0 : decode cX9_tellIn 0 = .ok (.aload_n 0, 1) := dk_42 (dk_at dksX9_tellIn_0 0 rfl rfl)
theorem dX9_tellIn_1 : decode cX9_tellIn 1 = .ok (.iconst 2, 1) := dk_5 (dk_at dksX9_tellIn_0 1 rfl rfl)
theorem dX9_tellIn_2 : decode cX9_tellIn 2 = .ok (.bipush 12, 2) := dk_16 12 (dk_at dksX9_tellIn_0 2 rfl rfl)
theorem dX9_tellIn_4 : decode cX9_tellIn 4 = .ok (.bipush 90, 2) := dk_16 90 (dk_at dksX9_tellIn_0 4 rfl rfl)
theorem dX9_tellIn_6 : decode cX9_tellIn 6 = .ok (.iconst 2, 1) := dk_5 (dk_at dksX9_tellIn_0 6 rfl rfl)
theorem dX9_tellIn_7 : decode cX9_tellIn 7 = .ok (.invokevirtual 295, 3) := dk_182 1 39 (dk_at dksX9_tellIn_0 7 rfl rfl)
theorem dX9_tellIn_10 : decode cX9_tellIn 10 = .ok (.istore_n 1, 1) := dk_60 (dk_at dksX9_tellIn_0 10 rfl rfl)
theorem dX9_tellIn_11 : decode cX9_tellIn 11 = .ok (.iload_n 1, 1) := dk_27 (dk_at dksX9_tellIn_0 11 rfl rfl)
theorem dX9_tellIn_12 : decode cX9_tellIn 12 = .ok (.ifCond .ge 9, 3) := dk_156 0 9 (dk_at dksX9_tellIn_0 12 rfl rfl)
theorem dX9_tellIn_15 : decode cX9_tellIn 15 = .ok (.aload_n 0, 1) := dk_42 (dk_at dksX9_tellIn_0 15 rfl rfl)
theorem dX9_tellIn_16 : decode cX9_tellIn 16 = .ok (.iconst 2, 1) := dk_5 (dk_at dksX9_tellIn_0 16 rfl rfl)
theorem dX9_tellIn_17 : decode cX9_tellIn 17 = .ok (.invokevirtual 227, 3) := dk_182 0 227 (dk_at dksX9_tellIn_0 17 rfl rfl)
theorem dX9_tellIn_20 : decode cX9_tellIn 20 = .ok (.ireturn, 1) := dk_172 (dk_at dksX9_tellIn_0 20 rfl rfl)
theorem dX9_tellIn_21 : decode cX9_tellIn 21 = .ok (.aload_n 0, 1) := dk_42 (dk_at dksX9_tellIn_0 21 rfl rfl)
theorem dX9_tellIn_22 : decode cX9_tellIn 22 = .ok (.invokevirtual 230, 3) := dk_182 0 230 (dk_at dksX9_tellIn_1 0 rfl rfl)
theorem dX9_tellIn_25 : decode cX9_tellIn 25 = .ok (.ifCond .eq 11, 3) := dk_153 0 11 (dk_at dksX9_tellIn_1 3 rfl rfl)
theorem dX9_tellIn_28 : decode cX9_tellIn 28 = .ok (.aload_n 0, 1) := dk_42 (dk_at dksX9_tellIn_1 6 rfl rfl)
theorem dX9_tellIn_29 : decode cX9_tellIn 29 = .ok (.iconst 0, 1) := dk_3 (dk_at dksX9_tellIn_1 7 rfl rfl)
theorem dX9_tellIn_30 : decode cX9_tellIn 30 = .ok (.invokevirtual 305, 3) := dk_182 1 49 (dk_at dksX9_tellIn_1 8 rfl rfl)
theorem dX9_tellIn_33 : decode cX9_tellIn 33 = .ok (.ifCond .ne 5, 3) := dk_154 0 5 (dk_at dksX9_tellIn_1 11 rfl rfl)
theorem dX9_tellIn_36 : decode cX9_tellIn 36 = .ok (.iconst 0, 1) := dk_3 (dk_at dksX9_tellIn_1 14 rfl rfl)
theorem dX9_tellIn_37 : decode cX9_tellIn 37 = .ok (.ireturn, 1) := dk_172 (dk_at dksX9_tellIn_1 15 rfl rfl)
theorem dX9_tellIn_38 : decode cX9_tellIn 38 = .ok (.aload_n 0, 1) := dk_42 (dk_at dksX9_tellIn_1 16 rfl rfl)
theorem dX9_tellIn_39 : decode cX9_tellIn 39 = .ok (.iload_n 1, 1) := dk_27 (dk_at dksX9_tellIn_1 17 rfl rfl)
theorem dX9_tellIn_40 : decode cX9_tellIn 40 = .ok (.aload_n 0, 1) := dk_42 (dk_at dksX9_tellIn_1 18 rfl rfl)
theorem dX9_tellIn_41 : decode cX9_tellIn 41 = .ok (.getfield 237, 3) := dk_180 0 237 (dk_at dksX9_tellIn_1 19 rfl rfl)
theorem dX9_tellIn_44 : decode cX9_tellIn 44 = .ok (.invokevirtual 292, 3) := dk_182 1 36 (dk_at dksX9_tellIn_2 0 rfl rfl)
theorem dX9_tellIn_47 : decode cX9_tellIn 47 = .ok (.aload_n 0, 1) := dk_42 (dk_at dksX9_tellIn_2 3 rfl rfl)
theorem dX9_tellIn_48 : decode cX9_tellIn 48 = .ok (.iconst 1, 1) := dk_4 (dk_at dksX9_tellIn_2 4 rfl rfl)
theorem dX9_tellIn_49 : decode cX9_tellIn 49 = .ok (.invokevirtual 305, 3) := dk_182 1 49 (dk_at dksX9_tellIn_2 5 rfl rfl)
theorem dX9_tellIn_52 : decode cX9_tellIn 52 = .ok (.ifCond .ne 5, 3) := dk_154 0 5 (dk_at dksX9_tellIn_2 8 rfl rfl)
theorem dX9_tellIn_55 : decode cX9_tellIn 55 = .ok (.iconst 0, 1) := dk_3 (dk_at dksX9_tellIn_2 11 rfl rfl)
theorem dX9_tellIn_56 : decode cX9_tellIn 56 = .ok (.ireturn, 1) := dk_172 (dk_at dksX9_tellIn_2 12 rfl rfl)
theorem dX9_tellIn_57 : decode cX9_tellIn 57 = .ok (.aload_n 0, 1) := dk_42 (dk_at dksX9_tellIn_2 13 rfl rfl)
theorem dX9_tellIn_58 : decode cX9_tellIn 58 = .ok (.iload_n 1, 1) := dk_27 (dk_at dksX9_tellIn_2 14 rfl rfl)
theorem dX9_tellIn_59 : decode cX9_tellIn 59 = .ok (.iconst 1, 1) := dk_4 (dk_at dksX9_tellIn_2 15 rfl rfl)
theorem dX9_tellIn_60 : decode cX9_tellIn 60 = .ok (.iadd, 1) := dk_96 (dk_at dksX9_tellIn_2 16 rfl rfl)
theorem dX9_tellIn_61 : decode cX9_tellIn 61 = .ok (.aload_n 0, 1) := dk_42 (dk_at dksX9_tellIn_2 17 rfl rfl)
theorem dX9_tellIn_62 : decode cX9_tellIn 62 = .ok (.getfield 237, 3) := dk_180 0 237 (dk_at dksX9_tellIn_2 18 rfl rfl)
theorem dX9_tellIn_65 : decode cX9_tellIn 65 = .ok (.invokevirtual 292, 3) := dk_182 1 36 (dk_at dksX9_tellIn_2 21 rfl rfl)
theorem dX9_tellIn_68 : decode cX9_tellIn 68 = .ok (.iconst 1, 1) := dk_4 (dk_at dksX9_tellIn_3 0 rfl rfl)
theorem dX9_tellIn_69 : decode cX9_tellIn 69 = .ok (.ireturn, 1) := dk_172 (dk_at dksX9_tellIn_3 1 rfl rfl)
abbrev cX9_takesName : ByteArray := prog_23_method_33_code
def yX9_takesName : MethodName := ⟨RX9, "takesName", "(I)Z"⟩
def dkwX9_takesName_3 : List UInt8 := [167, 255, 213, 42, 180, 0, 237, 156, 0, 9, 42, 7, 28, 182, 0, 240, 4, 172]
abbrev dktX9_takesName_3 : List UInt8 := dkwX9_takesName_3 ++ []
def dkwX9_takesName_2 : List UInt8 := [180, 0, 73, 29, 46, 27, 160, 0, 13, 42, 42, 180, 0, 76, 29, 46, 181, 0, 237, 132, 3, 255]
abbrev dktX9_takesName_2 : List UInt8 := dkwX9_takesName_2 ++ dktX9_takesName_3
def dkwX9_takesName_1 : List UInt8 := [4, 100, 62, 29, 155, 0, 45, 42, 180, 0, 70, 29, 47, 42, 180, 0, 22, 28, 47, 148, 154, 0, 23, 42]
abbrev dktX9_takesName_1 : List UInt8 := dkwX9_takesName_1 ++ dktX9_takesName_2
def dkwX9_takesName_0 : List UInt8 := [42, 180, 0, 218, 61, 42, 3, 182, 0, 234, 154, 0, 5, 3, 172, 42, 2, 181, 0, 237, 42, 180, 1, 30]
abbrev dktX9_takesName_0 : List UInt8 := dkwX9_takesName_0 ++ dktX9_takesName_1
theorem dksX9_takesName_0 : cX9_takesName.data.toList.drop 0 = dktX9_takesName_0 := by decide +kernel
theorem dksX9_takesName_1 : cX9_takesName.data.toList.drop 24 = dktX9_takesName_1 := dk_seg dksX9_takesName_0 24 rfl rfl
theorem dksX9_takesName_2 : cX9_takesName.data.toList.drop 48 = dktX9_takesName_2 := dk_seg dksX9_takesName_1 24 rfl rfl
theorem dksX9_takesName_3 : cX9_takesName.data.toList.drop 70 = dktX9_takesName_3 := dk_seg dksX9_takesName_2 22 rfl rfl
theorem dX9_takesName_0 : decode cX9_takesName 0 = .ok (.aload_n 0, 1) := dk_42 (dk_at dksX9_takesName_0 0 rfl rfl)
theorem dX9_takesName_1 : decode cX9_takesName 1 = .ok (.getfield 218, 3) := dk_180 0 218 (dk_at dksX9_takesName_0 1 rfl rfl)
theorem dX9_takesName_4 : decode cX9_takesName 4 = .ok (.istore_n 2, 1) := dk_61 (dk_at dksX9_takesName_0 4 rfl rfl)
theorem dX9_takesName_5 : decode cX9_takesName 5 = .ok (.aload_n 0, 1) := dk_42 (dk_at dksX9_takesName_0 5 rfl rfl)
theorem dX9_takesName_6 : decode cX9_takesName 6 = .ok (.iconst 0, 1) := dk_3 (dk_at dksX9_takesName_0 6 rfl rfl)
theorem dX9_takesName_7 : decode cX9_takesName 7 = .ok (.invokevirtual 234, 3) := dk_182 0 234 (dk_at dksX9_takesName_0 7 rfl rfl)
theorem dX9_takesName_10 : decode cX9_takesName 10 = .ok (.ifCond .ne 5, 3) := dk_154 0 5 (dk_at dksX9_takesName_0 10 rfl rfl)
theorem dX9_takesName_13 : decode cX9_takesName 13 = .ok (.iconst 0, 1) := dk_3 (dk_at dksX9_takesName_0 13 rfl rfl)
theorem dX9_takesName_14 : decode cX9_takesName 14 = .ok (.ireturn, 1) := dk_172 (dk_at dksX9_takesName_0 14 rfl rfl)
theorem dX9_takesName_15 : decode cX9_takesName 15 = .ok (.aload_n 0, 1) := dk_42 (dk_at dksX9_takesName_0 15 rfl rfl)
theorem dX9_takesName_16 : decode cX9_takesName 16 = .ok (.iconst (-1), 1) := dk_2 (dk_at dksX9_takesName_0 16 rfl rfl)
theorem dX9_takesName_17 : decode cX9_takesName 17 = .ok (.putfield 237, 3) := dk_181 0 237 (dk_at dksX9_takesName_0 17 rfl rfl)
theorem dX9_takesName_20 : decode cX9_takesName 20 = .ok (.aload_n 0, 1) := dk_42 (dk_at dksX9_takesName_0 20 rfl rfl)
theorem dX9_takesName_21 : decode cX9_takesName 21 = .ok (.getfield 286, 3) := dk_180 1 30 (dk_at dksX9_takesName_0 21 rfl rfl)
theorem dX9_takesName_24 : decode cX9_takesName 24 = .ok (.iconst 1, 1) := dk_4 (dk_at dksX9_takesName_1 0 rfl rfl)
theorem dX9_takesName_25 : decode cX9_takesName 25 = .ok (.isub, 1) := dk_100 (dk_at dksX9_takesName_1 1 rfl rfl)
theorem dX9_takesName_26 : decode cX9_takesName 26 = .ok (.istore_n 3, 1) := dk_62 (dk_at dksX9_takesName_1 2 rfl rfl)
theorem dX9_takesName_27 : decode cX9_takesName 27 = .ok (.iload_n 3, 1) := dk_29 (dk_at dksX9_takesName_1 3 rfl rfl)
theorem dX9_takesName_28 : decode cX9_takesName 28 = .ok (.ifCond .lt 45, 3) := dk_155 0 45 (dk_at dksX9_takesName_1 4 rfl rfl)
theorem dX9_takesName_31 : decode cX9_takesName 31 = .ok (.aload_n 0, 1) := dk_42 (dk_at dksX9_takesName_1 7 rfl rfl)
theorem dX9_takesName_32 : decode cX9_takesName 32 = .ok (.getfield 70, 3) := dk_180 0 70 (dk_at dksX9_takesName_1 8 rfl rfl)
theorem dX9_takesName_35 : decode cX9_takesName 35 = .ok (.iload_n 3, 1) := dk_29 (dk_at dksX9_takesName_1 11 rfl rfl)
theorem dX9_takesName_36 : decode cX9_takesName 36 = .ok (.laload, 1) := dk_47 (dk_at dksX9_takesName_1 12 rfl rfl)
theorem dX9_takesName_37 : decode cX9_takesName 37 = .ok (.aload_n 0, 1) := dk_42 (dk_at dksX9_takesName_1 13 rfl rfl)
theorem dX9_takesName_38 : decode cX9_takesName 38 = .ok (.getfield 22, 3) := dk_180 0 22 (dk_at dksX9_takesName_1 14 rfl rfl)
theorem dX9_takesName_41 : decode cX9_takesName 41 = .ok (.iload_n 2, 1) := dk_28 (dk_at dksX9_takesName_1 17 rfl rfl)
theorem dX9_takesName_42 : decode cX9_takesName 42 = .ok (.laload, 1) := dk_47 (dk_at dksX9_takesName_1 18 rfl rfl)
theorem dX9_takesName_43 : decode cX9_takesName 43 = .ok (.lcmp, 1) := dk_148 (dk_at dksX9_takesName_1 19 rfl rfl)
theorem dX9_takesName_44 : decode cX9_takesName 44 = .ok (.ifCond .ne 23, 3) := dk_154 0 23 (dk_at dksX9_takesName_1 20 rfl rfl)
theorem dX9_takesName_47 : decode cX9_takesName 47 = .ok (.aload_n 0, 1) := dk_42 (dk_at dksX9_takesName_1 23 rfl rfl)
theorem dX9_takesName_48 : decode cX9_takesName 48 = .ok (.getfield 73, 3) := dk_180 0 73 (dk_at dksX9_takesName_2 0 rfl rfl)
theorem dX9_takesName_51 : decode cX9_takesName 51 = .ok (.iload_n 3, 1) := dk_29 (dk_at dksX9_takesName_2 3 rfl rfl)
theorem dX9_takesName_52 : decode cX9_takesName 52 = .ok (.iaload, 1) := dk_46 (dk_at dksX9_takesName_2 4 rfl rfl)
theorem dX9_takesName_53 : decode cX9_takesName 53 = .ok (.iload_n 1, 1) := dk_27 (dk_at dksX9_takesName_2 5 rfl rfl)
theorem dX9_takesName_54 : decode cX9_takesName 54 = .ok (.if_icmp .ne 13, 3) := dk_160 0 13 (dk_at dksX9_takesName_2 6 rfl rfl)
theorem dX9_takesName_57 : decode cX9_takesName 57 = .ok (.aload_n 0, 1) := dk_42 (dk_at dksX9_takesName_2 9 rfl rfl)
theorem dX9_takesName_58 : decode cX9_takesName 58 = .ok (.aload_n 0, 1) := dk_42 (dk_at dksX9_takesName_2 10 rfl rfl)
theorem dX9_takesName_59 : decode cX9_takesName 59 = .ok (.getfield 76, 3) := dk_180 0 76 (dk_at dksX9_takesName_2 11 rfl rfl)
theorem dX9_takesName_62 : decode cX9_takesName 62 = .ok (.iload_n 3, 1) := dk_29 (dk_at dksX9_takesName_2 14 rfl rfl)
theorem dX9_takesName_63 : decode cX9_takesName 63 = .ok (.iaload, 1) := dk_46 (dk_at dksX9_takesName_2 15 rfl rfl)
theorem dX9_takesName_64 : decode cX9_takesName 64 = .ok (.putfield 237, 3) := dk_181 0 237 (dk_at dksX9_takesName_2 16 rfl rfl)
theorem dX9_takesName_67 : decode cX9_takesName 67 = .ok (.iinc 3 (-1), 3) := dk_132 3 255 (dk_at dksX9_takesName_2 19 rfl rfl)
theorem dX9_takesName_70 : decode cX9_takesName 70 = .ok (.goto (-43), 3) := dk_167 255 213 (dk_at dksX9_takesName_3 0 rfl rfl)
theorem dX9_takesName_73 : decode cX9_takesName 73 = .ok (.aload_n 0, 1) := dk_42 (dk_at dksX9_takesName_3 3 rfl rfl)
theorem dX9_takesName_74 : decode cX9_takesName 74 = .ok (.getfield 237, 3) := dk_180 0 237 (dk_at dksX9_takesName_3 4 rfl rfl)
theorem dX9_takesName_77 : decode cX9_takesName 77 = .ok (.ifCond .ge 9, 3) := dk_156 0 9 (dk_at dksX9_takesName_3 7 rfl rfl)
theorem dX9_takesName_80 : decode cX9_takesName 80 = .ok (.aload_n 0, 1) := dk_42 (dk_at dksX9_takesName_3 10 rfl rfl)
theorem dX9_takesName_81 : decode cX9_takesName 81 = .ok (.iconst 4, 1) := dk_7 (dk_at dksX9_takesName_3 11 rfl rfl)
theorem dX9_takesName_82 : decode cX9_takesName 82 = .ok (.iload_n 2, 1) := dk_28 (dk_at dksX9_takesName_3 12 rfl rfl)
theorem dX9_takesName_83 : decode cX9_takesName 83 = .ok (.invokevirtual 240, 3) := dk_182 0 240 (dk_at dksX9_takesName_3 13 rfl rfl)
theorem dX9_takesName_86 : decode cX9_takesName 86 = .ok (.iconst 1, 1) := dk_4 (dk_at dksX9_takesName_3 16 rfl rfl)
theorem dX9_takesName_87 : decode cX9_takesName 87 = .ok (.ireturn, 1) := dk_172 (dk_at dksX9_takesName_3 17 rfl rfl)
abbrev cX9_tellStair : ByteArray := prog_23_method_38_code
def yX9_tellStair : MethodName := ⟨RX9, "tellStair", "()Z"⟩
def dkwX9_tellStair_6 : List UInt8 := [42, 180, 0, 237, 182, 1, 36, 4, 172]
abbrev dktX9_tellStair_6 : List UInt8 := dkwX9_tellStair_6 ++ []
def dkwX9_tellStair_5 : List UInt8 := [96, 42, 180, 0, 237, 182, 1, 36, 42, 3, 16, 99, 182, 1, 46, 154, 0, 5, 3, 172, 42, 27, 5, 96]
abbrev dktX9_tellStair_5 : List UInt8 := dkwX9_tellStair_5 ++ dktX9_tellStair_6
def dkwX9_tellStair_4 : List UInt8 := [155, 0, 21, 42, 180, 0, 237, 42, 27, 182, 1, 33, 160, 0, 9, 42, 8, 28, 182, 0, 240, 42, 27, 4]
abbrev dktX9_tellStair_4 : List UInt8 := dkwX9_tellStair_4 ++ dktX9_tellStair_5
def dkwX9_tellStair_3 : List UInt8 := [154, 0, 56, 3, 172, 42, 180, 0, 218, 61, 42, 3, 182, 1, 49, 154, 0, 5, 3, 172, 42, 180, 0, 237]
abbrev dktX9_tellStair_3 : List UInt8 := dkwX9_tellStair_3 ++ dktX9_tellStair_4
def dkwX9_tellStair_2 : List UInt8 := [182, 1, 36, 42, 27, 4, 96, 2, 182, 1, 36, 42, 7, 182, 1, 15, 153, 0, 12, 42, 182, 0, 230]
abbrev dktX9_tellStair_2 : List UInt8 := dkwX9_tellStair_2 ++ dktX9_tellStair_3
def dkwX9_tellStair_1 : List UInt8 := [182, 0, 230, 153, 0, 11, 42, 3, 182, 1, 49, 154, 0, 5, 3, 172, 42, 27, 42, 180, 0, 237]
abbrev dktX9_tellStair_1 : List UInt8 := dkwX9_tellStair_1 ++ dktX9_tellStair_2
def dkwX9_tellStair_0 : List UInt8 := [42, 6, 16, 12, 16, 120, 6, 182, 1, 39, 60, 27, 156, 0, 9, 42, 5, 182, 0, 227, 172, 42]
abbrev dktX9_tellStair_0 : List UInt8 := dkwX9_tellStair_0 ++ dktX9_tellStair_1
theorem dksX9_tellStair_0 : cX9_tellStair.data.toList.drop 0 = dktX9_tellStair_0 := by decide +kernel
theorem dksX9_tellStair_1 : cX9_tellStair.data.toList.drop 22 = dktX9_tellStair_1 := dk_seg dksX9_tellStair_0 22 rfl rfl
theorem dksX9_tellStair_2 : cX9_tellStair.data.toList.drop 44 = dktX9_tellStair_2 := dk_seg dksX9_tellStair_1 22 rfl rfl
theorem dksX9_tellStair_3 : cX9_tellStair.data.toList.drop 67 = dktX9_tellStair_3 := dk_seg dksX9_tellStair_2 23 rfl rfl
theorem dksX9_tellStair_4 : cX9_tellStair.data.toList.drop 91 = dktX9_tellStair_4 := dk_seg dksX9_tellStair_3 24 rfl rfl
theorem dksX9_tellStair_5 : cX9_tellStair.data.toList.drop 115 = dktX9_tellStair_5 := dk_seg dksX9_tellStair_4 24 rfl rfl
theorem dksX9_tellStair_6 : cX9_tellStair.data.toList.drop 139 = dktX9_tellStair_6 := dk_seg dksX9_tellStair_5 24 rfl rfl
theorem dX9_tellStair_0 : decode cX9_tellStair 0 = .ok (.aload_n 0, 1) := dk_42 (dk_at dksX9_tellStair_0 0 rfl rfl)
theorem dX9_tellStair_1 : decode cX9_tellStair 1 = .ok (.iconst 3, 1) := dk_6 (dk_at dksX9_tellStair_0 1 rfl rfl)
theorem dX9_tellStair_2 : decode cX9_tellStair 2 = .ok (.bipush 12, 2) := dk_16 12 (dk_at dksX9_tellStair_0 2 rfl rfl)
theorem dX9_tellStair_4 : decode cX9_tellStair 4 = .ok (.bipush 120, 2) := dk_16 120 (dk_at dksX9_tellStair_0 4 rfl rfl)
theorem dX9_tellStair_6 : decode cX9_tellStair 6 = .ok (.iconst 3, 1) := dk_6 (dk_at dksX9_tellStair_0 6 rfl rfl)
theorem dX9_tellStair_7 : decode cX9_tellStair 7 = .ok (.invokevirtual 295, 3) := dk_182 1 39 (dk_at dksX9_tellStair_0 7 rfl rfl)
theorem dX9_tellStair_10 : decode cX9_tellStair 10 = .ok (.istore_n 1, 1) := dk_60 (dk_at dksX9_tellStair_0 10 rfl rfl)
theorem dX9_tellStair_11 : decode cX9_tellStair 11 = .ok (.iload_n 1, 1) := dk_27 (dk_at dksX9_tellStair_0 11 rfl rfl)
theorem dX9_tellStair_12 : decode cX9_tellStair 12 = .ok (.ifCond .ge 9, 3) := dk_156 0 9 (dk_at dksX9_tellStair_0 12 rfl rfl)
theorem dX9_tellStair_15 : decode cX9_tellStair 15 = .ok (.aload_n 0, 1) := dk_42 (dk_at dksX9_tellStair_0 15 rfl rfl)
theorem dX9_tellStair_16 : decode cX9_tellStair 16 = .ok (.iconst 2, 1) := dk_5 (dk_at dksX9_tellStair_0 16 rfl rfl)
theorem dX9_tellStair_17 : decode cX9_tellStair 17 = .ok (.invokevirtual 227, 3) := dk_182 0 227 (dk_at dksX9_tellStair_0 17 rfl rfl)
theorem dX9_tellStair_20 : decode cX9_tellStair 20 = .ok (.ireturn, 1) := dk_172 (dk_at dksX9_tellStair_0 20 rfl rfl)
theorem dX9_tellStair_21 : decode cX9_tellStair 21 = .ok (.aload_n 0, 1) := dk_42 (dk_at dksX9_tellStair_0 21 rfl rfl)
theorem dX9_tellStair_22 : decode cX9_tellStair 22 = .ok (.invokevirtual 230, 3) := dk_182 0 230 (dk_at dksX9_tellStair_1 0 rfl rfl)
theorem dX9_tellStair_25 : decode cX9_tellStair 25 = .ok (.ifCond .eq 11, 3) := dk_153 0 11 (dk_at dksX9_tellStair_1 3 rfl rfl)
theorem dX9_tellStair_28 : decode cX9_tellStair 28 = .ok (.aload_n 0, 1) := dk_42 (dk_at dksX9_tellStair_1 6 rfl rfl)
theorem dX9_tellStair_29 : decode cX9_tellStair 29 = .ok (.iconst 0, 1) := dk_3 (dk_at dksX9_tellStair_1 7 rfl rfl)
theorem dX9_tellStair_30 : decode cX9_tellStair 30 = .ok (.invokevirtual 305, 3) := dk_182 1 49 (dk_at dksX9_tellStair_1 8 rfl rfl)
theorem dX9_tellStair_33 : decode cX9_tellStair 33 = .ok (.ifCond .ne 5, 3) := dk_154 0 5 (dk_at dksX9_tellStair_1 11 rfl rfl)
theorem dX9_tellStair_36 : decode cX9_tellStair 36 = .ok (.iconst 0, 1) := dk_3 (dk_at dksX9_tellStair_1 14 rfl rfl)
theorem dX9_tellStair_37 : decode cX9_tellStair 37 = .ok (.ireturn, 1) := dk_172 (dk_at dksX9_tellStair_1 15 rfl rfl)
theorem dX9_tellStair_38 : decode cX9_tellStair 38 = .ok (.aload_n 0, 1) := dk_42 (dk_at dksX9_tellStair_1 16 rfl rfl)
theorem dX9_tellStair_39 : decode cX9_tellStair 39 = .ok (.iload_n 1, 1) := dk_27 (dk_at dksX9_tellStair_1 17 rfl rfl)
theorem dX9_tellStair_40 : decode cX9_tellStair 40 = .ok (.aload_n 0, 1) := dk_42 (dk_at dksX9_tellStair_1 18 rfl rfl)
theorem dX9_tellStair_41 : decode cX9_tellStair 41 = .ok (.getfield 237, 3) := dk_180 0 237 (dk_at dksX9_tellStair_1 19 rfl rfl)
theorem dX9_tellStair_44 : decode cX9_tellStair 44 = .ok (.invokevirtual 292, 3) := dk_182 1 36 (dk_at dksX9_tellStair_2 0 rfl rfl)
theorem dX9_tellStair_47 : decode cX9_tellStair 47 = .ok (.aload_n 0, 1) := dk_42 (dk_at dksX9_tellStair_2 3 rfl rfl)
theorem dX9_tellStair_48 : decode cX9_tellStair 48 = .ok (.iload_n 1, 1) := dk_27 (dk_at dksX9_tellStair_2 4 rfl rfl)
theorem dX9_tellStair_49 : decode cX9_tellStair 49 = .ok (.iconst 1, 1) := dk_4 (dk_at dksX9_tellStair_2 5 rfl rfl)
theorem dX9_tellStair_50 : decode cX9_tellStair 50 = .ok (.iadd, 1) := dk_96 (dk_at dksX9_tellStair_2 6 rfl rfl)
theorem dX9_tellStair_51 : decode cX9_tellStair 51 = .ok (.iconst (-1), 1) := dk_2 (dk_at dksX9_tellStair_2 7 rfl rfl)
theorem dX9_tellStair_52 : decode cX9_tellStair 52 = .ok (.invokevirtual 292, 3) := dk_182 1 36 (dk_at dksX9_tellStair_2 8 rfl rfl)
theorem dX9_tellStair_55 : decode cX9_tellStair 55 = .ok (.aload_n 0, 1) := dk_42 (dk_at dksX9_tellStair_2 11 rfl rfl)
theorem dX9_tellStair_56 : decode cX9_tellStair 56 = .ok (.iconst 4, 1) := dk_7 (dk_at dksX9_tellStair_2 12 rfl rfl)
theorem dX9_tellStair_57 : decode cX9_tellStair 57 = .ok (.invokevirtual 271, 3) := dk_182 1 15 (dk_at dksX9_tellStair_2 13 rfl rfl)
theorem dX9_tellStair_60 : decode cX9_tellStair 60 = .ok (.ifCond .eq 12, 3) := dk_153 0 12 (dk_at dksX9_tellStair_2 16 rfl rfl)
theorem dX9_tellStair_63 : decode cX9_tellStair 63 = .ok (.aload_n 0, 1) := dk_42 (dk_at dksX9_tellStair_2 19 rfl rfl)
theorem dX9_tellStair_64 : decode cX9_tellStair 64 = .ok (.invokevirtual 230, 3) := dk_182 0 230 (dk_at dksX9_tellStair_2 20 rfl rfl)
theorem dX9_tellStair_67 : decode cX9_tellStair 67 = .ok (.ifCond .ne 56, 3) := dk_154 0 56 (dk_at dksX9_tellStair_3 0 rfl rfl)
theorem dX9_tellStair_70 : decode cX9_tellStair 70 = .ok (.iconst 0, 1) := dk_3 (dk_at dksX9_tellStair_3 3 rfl rfl)
theorem dX9_tellStair_71 : decode cX9_tellStair 71 = .ok (.ireturn, 1) := dk_172 (dk_at dksX9_tellStair_3 4 rfl rfl)
theorem dX9_tellStair_72 : decode cX9_tellStair 72 = .ok (.aload_n 0, 1) := dk_42 (dk_at dksX9_tellStair_3 5 rfl rfl)
theorem dX9_tellStair_73 : decode cX9_tellStair 73 = .ok (.getfield 218, 3) := dk_180 0 218 (dk_at dksX9_tellStair_3 6 rfl rfl)
theorem dX9_tellStair_76 : decode cX9_tellStair 76 = .ok (.istore_n 2, 1) := dk_61 (dk_at dksX9_tellStair_3 9 rfl rfl)
theorem dX9_tellStair_77 : decode cX9_tellStair 77 = .ok (.aload_n 0, 1) := dk_42 (dk_at dksX9_tellStair_3 10 rfl rfl)
theorem dX9_tellStair_78 : decode cX9_tellStair 78 = .ok (.iconst 0, 1) := dk_3 (dk_at dksX9_tellStair_3 11 rfl rfl)
theorem dX9_tellStair_79 : decode cX9_tellStair 79 = .ok (.invokevirtual 305, 3) := dk_182 1 49 (dk_at dksX9_tellStair_3 12 rfl rfl)
theorem dX9_tellStair_82 : decode cX9_tellStair 82 = .ok (.ifCond .ne 5, 3) := dk_154 0 5 (dk_at dksX9_tellStair_3 15 rfl rfl)
theorem dX9_tellStair_85 : decode cX9_tellStair 85 = .ok (.iconst 0, 1) := dk_3 (dk_at dksX9_tellStair_3 18 rfl rfl)
theorem dX9_tellStair_86 : decode cX9_tellStair 86 = .ok (.ireturn, 1) := dk_172 (dk_at dksX9_tellStair_3 19 rfl rfl)
theorem dX9_tellStair_87 : decode cX9_tellStair 87 = .ok (.aload_n 0, 1) := dk_42 (dk_at dksX9_tellStair_3 20 rfl rfl)
theorem dX9_tellStair_88 : decode cX9_tellStair 88 = .ok (.getfield 237, 3) := dk_180 0 237 (dk_at dksX9_tellStair_3 21 rfl rfl)
theorem dX9_tellStair_91 : decode cX9_tellStair 91 = .ok (.ifCond .lt 21, 3) := dk_155 0 21 (dk_at dksX9_tellStair_4 0 rfl rfl)
theorem dX9_tellStair_94 : decode cX9_tellStair 94 = .ok (.aload_n 0, 1) := dk_42 (dk_at dksX9_tellStair_4 3 rfl rfl)
theorem dX9_tellStair_95 : decode cX9_tellStair 95 = .ok (.getfield 237, 3) := dk_180 0 237 (dk_at dksX9_tellStair_4 4 rfl rfl)
theorem dX9_tellStair_98 : decode cX9_tellStair 98 = .ok (.aload_n 0, 1) := dk_42 (dk_at dksX9_tellStair_4 7 rfl rfl)
theorem dX9_tellStair_99 : decode cX9_tellStair 99 = .ok (.iload_n 1, 1) := dk_27 (dk_at dksX9_tellStair_4 8 rfl rfl)
theorem dX9_tellStair_100 : decode cX9_tellStair 100 = .ok (.invokevirtual 289, 3) := dk_182 1 33 (dk_at dksX9_tellStair_4 9 rfl rfl)
theorem dX9_tellStair_103 : decode cX9_tellStair 103 = .ok (.if_icmp .ne 9, 3) := dk_160 0 9 (dk_at dksX9_tellStair_4 12 rfl rfl)
theorem dX9_tellStair_106 : decode cX9_tellStair 106 = .ok (.aload_n 0, 1) := dk_42 (dk_at dksX9_tellStair_4 15 rfl rfl)
theorem dX9_tellStair_107 : decode cX9_tellStair 107 = .ok (.iconst 5, 1) := dk_8 (dk_at dksX9_tellStair_4 16 rfl rfl)
theorem dX9_tellStair_108 : decode cX9_tellStair 108 = .ok (.iload_n 2, 1) := dk_28 (dk_at dksX9_tellStair_4 17 rfl rfl)
theorem dX9_tellStair_109 : decode cX9_tellStair 109 = .ok (.invokevirtual 240, 3) := dk_182 0 240 (dk_at dksX9_tellStair_4 18 rfl rfl)
theorem dX9_tellStair_112 : decode cX9_tellStair 112 = .ok (.aload_n 0, 1) := dk_42 (dk_at dksX9_tellStair_4 21 rfl rfl)
theorem dX9_tellStair_113 : decode cX9_tellStair 113 = .ok (.iload_n 1, 1) := dk_27 (dk_at dksX9_tellStair_4 22 rfl rfl)
theorem dX9_tellStair_114 : decode cX9_tellStair 114 = .ok (.iconst 1, 1) := dk_4 (dk_at dksX9_tellStair_4 23 rfl rfl)
theorem dX9_tellStair_115 : decode cX9_tellStair 115 = .ok (.iadd, 1) := dk_96 (dk_at dksX9_tellStair_5 0 rfl rfl)
theorem dX9_tellStair_116 : decode cX9_tellStair 116 = .ok (.aload_n 0, 1) := dk_42 (dk_at dksX9_tellStair_5 1 rfl rfl)
theorem dX9_tellStair_117 : decode cX9_tellStair 117 = .ok (.getfield 237, 3) := dk_180 0 237 (dk_at dksX9_tellStair_5 2 rfl rfl)
theorem dX9_tellStair_120 : decode cX9_tellStair 120 = .ok (.invokevirtual 292, 3) := dk_182 1 36 (dk_at dksX9_tellStair_5 5 rfl rfl)
theorem dX9_tellStair_123 : decode cX9_tellStair 123 = .ok (.aload_n 0, 1) := dk_42 (dk_at dksX9_tellStair_5 8 rfl rfl)
theorem dX9_tellStair_124 : decode cX9_tellStair 124 = .ok (.iconst 0, 1) := dk_3 (dk_at dksX9_tellStair_5 9 rfl rfl)
theorem dX9_tellStair_125 : decode cX9_tellStair 125 = .ok (.bipush 99, 2) := dk_16 99 (dk_at dksX9_tellStair_5 10 rfl rfl)
theorem dX9_tellStair_127 : decode cX9_tellStair 127 = .ok (.invokevirtual 302, 3) := dk_182 1 46 (dk_at dksX9_tellStair_5 12 rfl rfl)
theorem dX9_tellStair_130 : decode cX9_tellStair 130 = .ok (.ifCond .ne 5, 3) := dk_154 0 5 (dk_at dksX9_tellStair_5 15 rfl rfl)
theorem dX9_tellStair_133 : decode cX9_tellStair 133 = .ok (.iconst 0, 1) := dk_3 (dk_at dksX9_tellStair_5 18 rfl rfl)
theorem dX9_tellStair_134 : decode cX9_tellStair 134 = .ok (.ireturn, 1) := dk_172 (dk_at dksX9_tellStair_5 19 rfl rfl)
theorem dX9_tellStair_135 : decode cX9_tellStair 135 = .ok (.aload_n 0, 1) := dk_42 (dk_at dksX9_tellStair_5 20 rfl rfl)
theorem dX9_tellStair_136 : decode cX9_tellStair 136 = .ok (.iload_n 1, 1) := dk_27 (dk_at dksX9_tellStair_5 21 rfl rfl)
theorem dX9_tellStair_137 : decode cX9_tellStair 137 = .ok (.iconst 2, 1) := dk_5 (dk_at dksX9_tellStair_5 22 rfl rfl)
theorem dX9_tellStair_138 : decode cX9_tellStair 138 = .ok (.iadd, 1) := dk_96 (dk_at dksX9_tellStair_5 23 rfl rfl)
theorem dX9_tellStair_139 : decode cX9_tellStair 139 = .ok (.aload_n 0, 1) := dk_42 (dk_at dksX9_tellStair_6 0 rfl rfl)
theorem dX9_tellStair_140 : decode cX9_tellStair 140 = .ok (.getfield 237, 3) := dk_180 0 237 (dk_at dksX9_tellStair_6 1 rfl rfl)
theorem dX9_tellStair_143 : decode cX9_tellStair 143 = .ok (.invokevirtual 292, 3) := dk_182 1 36 (dk_at dksX9_tellStair_6 4 rfl rfl)
theorem dX9_tellStair_146 : decode cX9_tellStair 146 = .ok (.iconst 1, 1) := dk_4 (dk_at dksX9_tellStair_6 7 rfl rfl)
theorem dX9_tellStair_147 : decode cX9_tellStair 147 = .ok (.ireturn, 1) := dk_172 (dk_at dksX9_tellStair_6 8 rfl rfl)
abbrev cX9_isWord : ByteArray := prog_23_method_17_code
def yX9_isWord : MethodName := ⟨RX9, "isWord", "(I)Z"⟩
def dkwX9_isWord_1 : List UInt8 := [160, 0, 7, 4, 167, 0, 4, 3, 172]
abbrev dktX9_isWord_1 : List UInt8 := dkwX9_isWord_1 ++ []
def dkwX9_isWord_0 : List UInt8 := [42, 180, 0, 13, 42, 180, 0, 218, 46, 6, 160, 0, 20, 42, 180, 0, 19, 42, 180, 0, 218, 46, 27]
abbrev dktX9_isWord_0 : List UInt8 := dkwX9_isWord_0 ++ dktX9_isWord_1
theorem dksX9_isWord_0 : cX9_isWord.data.toList.drop 0 = dktX9_isWord_0 := by decide +kernel
theorem dksX9_isWord_1 : cX9_isWord.data.toList.drop 23 = dktX9_isWord_1 := dk_seg dksX9_isWord_0 23 rfl rfl
theorem dX9_isWord_0 : decode cX9_isWord 0 = .ok (.aload_n 0, 1) := dk_42 (dk_at dksX9_isWord_0 0 rfl rfl)
theorem dX9_isWord_1 : decode cX9_isWord 1 = .ok (.getfield 13, 3) := dk_180 0 13 (dk_at dksX9_isWord_0 1 rfl rfl)
theorem dX9_isWord_4 : decode cX9_isWord 4 = .ok (.aload_n 0, 1) := dk_42 (dk_at dksX9_isWord_0 4 rfl rfl)
theorem dX9_isWord_5 : decode cX9_isWord 5 = .ok (.getfield 218, 3) := dk_180 0 218 (dk_at dksX9_isWord_0 5 rfl rfl)
theorem dX9_isWord_8 : decode cX9_isWord 8 = .ok (.iaload, 1) := dk_46 (dk_at dksX9_isWord_0 8 rfl rfl)
theorem dX9_isWord_9 : decode cX9_isWord 9 = .ok (.iconst 3, 1) := dk_6 (dk_at dksX9_isWord_0 9 rfl rfl)
theorem dX9_isWord_10 : decode cX9_isWord 10 = .ok (.if_icmp .ne 20, 3) := dk_160 0 20 (dk_at dksX9_isWord_0 10 rfl rfl)
theorem dX9_isWord_13 : decode cX9_isWord 13 = .ok (.aload_n 0, 1) := dk_42 (dk_at dksX9_isWord_0 13 rfl rfl)
theorem dX9_isWord_14 : decode cX9_isWord 14 = .ok (.getfield 19, 3) := dk_180 0 19 (dk_at dksX9_isWord_0 14 rfl rfl)
theorem dX9_isWord_17 : decode cX9_isWord 17 = .ok (.aload_n 0, 1) := dk_42 (dk_at dksX9_isWord_0 17 rfl rfl)
theorem dX9_isWord_18 : decode cX9_isWord 18 = .ok (.getfield 218, 3) := dk_180 0 218 (dk_at dksX9_isWord_0 18 rfl rfl)
theorem dX9_isWord_21 : decode cX9_isWord 21 = .ok (.iaload, 1) := dk_46 (dk_at dksX9_isWord_0 21 rfl rfl)
theorem dX9_isWord_22 : decode cX9_isWord 22 = .ok (.iload_n 1, 1) := dk_27 (dk_at dksX9_isWord_0 22 rfl rfl)
theorem dX9_isWord_23 : decode cX9_isWord 23 = .ok (.if_icmp .ne 7, 3) := dk_160 0 7 (dk_at dksX9_isWord_1 0 rfl rfl)
theorem dX9_isWord_26 : decode cX9_isWord 26 = .ok (.iconst 1, 1) := dk_4 (dk_at dksX9_isWord_1 3 rfl rfl)
theorem dX9_isWord_27 : decode cX9_isWord 27 = .ok (.goto 4, 3) := dk_167 0 4 (dk_at dksX9_isWord_1 4 rfl rfl)
theorem dX9_isWord_30 : decode cX9_isWord 30 = .ok (.iconst 0, 1) := dk_3 (dk_at dksX9_isWord_1 7 rfl rfl)
theorem dX9_isWord_31 : decode cX9_isWord 31 = .ok (.ireturn, 1) := dk_172 (dk_at dksX9_isWord_1 8 rfl rfl)
abbrev cX9_tellQuay : ByteArray := prog_23_method_39_code
def yX9_tellQuay : MethodName := ⟨RX9, "tellQuay", "()Z"⟩
def dkwX9_tellQuay_2 : List UInt8 := [182, 1, 36, 4, 172]
abbrev dktX9_tellQuay_2 : List UInt8 := dkwX9_tellQuay_2 ++ []
def dkwX9_tellQuay_1 : List UInt8 := [182, 0, 230, 153, 0, 11, 42, 3, 182, 1, 49, 154, 0, 5, 3, 172, 42, 27, 42, 180, 0, 237]
abbrev dktX9_tellQuay_1 : List UInt8 := dkwX9_tellQuay_1 ++ dktX9_tellQuay_2
def dkwX9_tellQuay_0 : List UInt8 := [42, 7, 7, 17, 0, 160, 4, 182, 1, 39, 60, 27, 156, 0, 9, 42, 5, 182, 0, 227, 172, 42]
abbrev dktX9_tellQuay_0 : List UInt8 := dkwX9_tellQuay_0 ++ dktX9_tellQuay_1
theorem dksX9_tellQuay_0 : cX9_tellQuay.data.toList.drop 0 = dktX9_tellQuay_0 := by decide +kernel
theorem dksX9_tellQuay_1 : cX9_tellQuay.data.toList.drop 22 = dktX9_tellQuay_1 := dk_seg dksX9_tellQuay_0 22 rfl rfl
theorem dksX9_tellQuay_2 : cX9_tellQuay.data.toList.drop 44 = dktX9_tellQuay_2 := dk_seg dksX9_tellQuay_1 22 rfl rfl
theorem dX9_tellQuay_0 : decode cX9_tellQuay 0 = .ok (.aload_n 0, 1) := dk_42 (dk_at dksX9_tellQuay_0 0 rfl rfl)
theorem dX9_tellQuay_1 : decode cX9_tellQuay 1 = .ok (.iconst 4, 1) := dk_7 (dk_at dksX9_tellQuay_0 1 rfl rfl)
theorem dX9_tellQuay_2 : decode cX9_tellQuay 2 = .ok (.iconst 4, 1) := dk_7 (dk_at dksX9_tellQuay_0 2 rfl rfl)
theorem dX9_tellQuay_3 : decode cX9_tellQuay 3 = .ok (.sipush 160, 3) := dk_17 0 160 (dk_at dksX9_tellQuay_0 3 rfl rfl)
theorem dX9_tellQuay_6 : decode cX9_tellQuay 6 = .ok (.iconst 1, 1) := dk_4 (dk_at dksX9_tellQuay_0 6 rfl rfl)
theorem dX9_tellQuay_7 : decode cX9_tellQuay 7 = .ok (.invokevirtual 295, 3) := dk_182 1 39 (dk_at dksX9_tellQuay_0 7 rfl rfl)
theorem dX9_tellQuay_10 : decode cX9_tellQuay 10 = .ok (.istore_n 1, 1) := dk_60 (dk_at dksX9_tellQuay_0 10 rfl rfl)
theorem dX9_tellQuay_11 : decode cX9_tellQuay 11 = .ok (.iload_n 1, 1) := dk_27 (dk_at dksX9_tellQuay_0 11 rfl rfl)
theorem dX9_tellQuay_12 : decode cX9_tellQuay 12 = .ok (.ifCond .ge 9, 3) := dk_156 0 9 (dk_at dksX9_tellQuay_0 12 rfl rfl)
theorem dX9_tellQuay_15 : decode cX9_tellQuay 15 = .ok (.aload_n 0, 1) := dk_42 (dk_at dksX9_tellQuay_0 15 rfl rfl)
theorem dX9_tellQuay_16 : decode cX9_tellQuay 16 = .ok (.iconst 2, 1) := dk_5 (dk_at dksX9_tellQuay_0 16 rfl rfl)
theorem dX9_tellQuay_17 : decode cX9_tellQuay 17 = .ok (.invokevirtual 227, 3) := dk_182 0 227 (dk_at dksX9_tellQuay_0 17 rfl rfl)
theorem dX9_tellQuay_20 : decode cX9_tellQuay 20 = .ok (.ireturn, 1) := dk_172 (dk_at dksX9_tellQuay_0 20 rfl rfl)
theorem dX9_tellQuay_21 : decode cX9_tellQuay 21 = .ok (.aload_n 0, 1) := dk_42 (dk_at dksX9_tellQuay_0 21 rfl rfl)
theorem dX9_tellQuay_22 : decode cX9_tellQuay 22 = .ok (.invokevirtual 230, 3) := dk_182 0 230 (dk_at dksX9_tellQuay_1 0 rfl rfl)
theorem dX9_tellQuay_25 : decode cX9_tellQuay 25 = .ok (.ifCond .eq 11, 3) := dk_153 0 11 (dk_at dksX9_tellQuay_1 3 rfl rfl)
theorem dX9_tellQuay_28 : decode cX9_tellQuay 28 = .ok (.aload_n 0, 1) := dk_42 (dk_at dksX9_tellQuay_1 6 rfl rfl)
theorem dX9_tellQuay_29 : decode cX9_tellQuay 29 = .ok (.iconst 0, 1) := dk_3 (dk_at dksX9_tellQuay_1 7 rfl rfl)
theorem dX9_tellQuay_30 : decode cX9_tellQuay 30 = .ok (.invokevirtual 305, 3) := dk_182 1 49 (dk_at dksX9_tellQuay_1 8 rfl rfl)
theorem dX9_tellQuay_33 : decode cX9_tellQuay 33 = .ok (.ifCond .ne 5, 3) := dk_154 0 5 (dk_at dksX9_tellQuay_1 11 rfl rfl)
theorem dX9_tellQuay_36 : decode cX9_tellQuay 36 = .ok (.iconst 0, 1) := dk_3 (dk_at dksX9_tellQuay_1 14 rfl rfl)
theorem dX9_tellQuay_37 : decode cX9_tellQuay 37 = .ok (.ireturn, 1) := dk_172 (dk_at dksX9_tellQuay_1 15 rfl rfl)
theorem dX9_tellQuay_38 : decode cX9_tellQuay 38 = .ok (.aload_n 0, 1) := dk_42 (dk_at dksX9_tellQuay_1 16 rfl rfl)
theorem dX9_tellQuay_39 : decode cX9_tellQuay 39 = .ok (.iload_n 1, 1) := dk_27 (dk_at dksX9_tellQuay_1 17 rfl rfl)
theorem dX9_tellQuay_40 : decode cX9_tellQuay 40 = .ok (.aload_n 0, 1) := dk_42 (dk_at dksX9_tellQuay_1 18 rfl rfl)
theorem dX9_tellQuay_41 : decode cX9_tellQuay 41 = .ok (.getfield 237, 3) := dk_180 0 237 (dk_at dksX9_tellQuay_1 19 rfl rfl)
theorem dX9_tellQuay_44 : decode cX9_tellQuay 44 = .ok (.invokevirtual 292, 3) := dk_182 1 36 (dk_at dksX9_tellQuay_2 0 rfl rfl)
theorem dX9_tellQuay_47 : decode cX9_tellQuay 47 = .ok (.iconst 1, 1) := dk_4 (dk_at dksX9_tellQuay_2 3 rfl rfl)
theorem dX9_tellQuay_48 : decode cX9_tellQuay 48 = .ok (.ireturn, 1) := dk_172 (dk_at dksX9_tellQuay_2 4 rfl rfl)
abbrev cX9_tellWood : ByteArray := prog_23_method_40_code
def yX9_tellWood : MethodName := ⟨RX9, "tellWood", "()Z"⟩
def dkwX9_tellWood_3 : List UInt8 := [182, 1, 36, 4, 172]
abbrev dktX9_tellWood_3 : List UInt8 := dkwX9_tellWood_3 ++ []
def dkwX9_tellWood_2 : List UInt8 := [182, 1, 36, 42, 3, 16, 99, 182, 1, 46, 154, 0, 5, 3, 172, 42, 27, 4, 96, 42, 180, 0, 237]
abbrev dktX9_tellWood_2 : List UInt8 := dkwX9_tellWood_2 ++ dktX9_tellWood_3
def dkwX9_tellWood_1 : List UInt8 := [182, 0, 230, 153, 0, 13, 42, 4, 16, 60, 182, 1, 46, 154, 0, 5, 3, 172, 42, 27, 42, 180, 0, 237]
abbrev dktX9_tellWood_1 : List UInt8 := dkwX9_tellWood_1 ++ dktX9_tellWood_2
def dkwX9_tellWood_0 : List UInt8 := [42, 8, 16, 8, 17, 0, 170, 5, 182, 1, 39, 60, 27, 156, 0, 9, 42, 5, 182, 0, 227, 172, 42]
abbrev dktX9_tellWood_0 : List UInt8 := dkwX9_tellWood_0 ++ dktX9_tellWood_1
theorem dksX9_tellWood_0 : cX9_tellWood.data.toList.drop 0 = dktX9_tellWood_0 := by decide +kernel
theorem dksX9_tellWood_1 : cX9_tellWood.data.toList.drop 23 = dktX9_tellWood_1 := dk_seg dksX9_tellWood_0 23 rfl rfl
theorem dksX9_tellWood_2 : cX9_tellWood.data.toList.drop 47 = dktX9_tellWood_2 := dk_seg dksX9_tellWood_1 24 rfl rfl
theorem dksX9_tellWood_3 : cX9_tellWood.data.toList.drop 70 = dktX9_tellWood_3 := dk_seg dksX9_tellWood_2 23 rfl rfl
theorem dX9_tellWood_0 : decode cX9_tellWood 0 = .ok (.aload_n 0, 1) := dk_42 (dk_at dksX9_tellWood_0 0 rfl rfl)
theorem dX9_tellWood_1 : decode cX9_tellWood 1 = .ok (.iconst 5, 1) := dk_8 (dk_at dksX9_tellWood_0 1 rfl rfl)
theorem dX9_tellWood_2 : decode cX9_tellWood 2 = .ok (.bipush 8, 2) := dk_16 8 (dk_at dksX9_tellWood_0 2 rfl rfl)
theorem dX9_tellWood_4 : decode cX9_tellWood 4 = .ok (.sipush 170, 3) := dk_17 0 170 (dk_at dksX9_tellWood_0 4 rfl rfl)
theorem dX9_tellWood_7 : decode cX9_tellWood 7 = .ok (.iconst 2, 1) := dk_5 (dk_at dksX9_tellWood_0 7 rfl rfl)
theorem dX9_tellWood_8 : decode cX9_tellWood 8 = .ok (.invokevirtual 295, 3) := dk_182 1 39 (dk_at dksX9_tellWood_0 8 rfl rfl)
theorem dX9_tellWood_11 : decode cX9_tellWood 11 = .ok (.istore_n 1, 1) := dk_60 (dk_at dksX9_tellWood_0 11 rfl rfl)
theorem dX9_tellWood_12 : decode cX9_tellWood 12 = .ok (.iload_n 1, 1) := dk_27 (dk_at dksX9_tellWood_0 12 rfl rfl)
theorem dX9_tellWood_13 : decode cX9_tellWood 13 = .ok (.ifCond .ge 9, 3) := dk_156 0 9 (dk_at dksX9_tellWood_0 13 rfl rfl)
theorem dX9_tellWood_16 : decode cX9_tellWood 16 = .ok (.aload_n 0, 1) := dk_42 (dk_at dksX9_tellWood_0 16 rfl rfl)
theorem dX9_tellWood_17 : decode cX9_tellWood 17 = .ok (.iconst 2, 1) := dk_5 (dk_at dksX9_tellWood_0 17 rfl rfl)
theorem dX9_tellWood_18 : decode cX9_tellWood 18 = .ok (.invokevirtual 227, 3) := dk_182 0 227 (dk_at dksX9_tellWood_0 18 rfl rfl)
theorem dX9_tellWood_21 : decode cX9_tellWood 21 = .ok (.ireturn, 1) := dk_172 (dk_at dksX9_tellWood_0 21 rfl rfl)
theorem dX9_tellWood_22 : decode cX9_tellWood 22 = .ok (.aload_n 0, 1) := dk_42 (dk_at dksX9_tellWood_0 22 rfl rfl)
theorem dX9_tellWood_23 : decode cX9_tellWood 23 = .ok (.invokevirtual 230, 3) := dk_182 0 230 (dk_at dksX9_tellWood_1 0 rfl rfl)
theorem dX9_tellWood_26 : decode cX9_tellWood 26 = .ok (.ifCond .eq 13, 3) := dk_153 0 13 (dk_at dksX9_tellWood_1 3 rfl rfl)
theorem dX9_tellWood_29 : decode cX9_tellWood 29 = .ok (.aload_n 0, 1) := dk_42 (dk_at dksX9_tellWood_1 6 rfl rfl)
theorem dX9_tellWood_30 : decode cX9_tellWood 30 = .ok (.iconst 1, 1) := dk_4 (dk_at dksX9_tellWood_1 7 rfl rfl)
theorem dX9_tellWood_31 : decode cX9_tellWood 31 = .ok (.bipush 60, 2) := dk_16 60 (dk_at dksX9_tellWood_1 8 rfl rfl)
theorem dX9_tellWood_33 : decode cX9_tellWood 33 = .ok (.invokevirtual 302, 3) := dk_182 1 46 (dk_at dksX9_tellWood_1 10 rfl rfl)
theorem dX9_tellWood_36 : decode cX9_tellWood 36 = .ok (.ifCond .ne 5, 3) := dk_154 0 5 (dk_at dksX9_tellWood_1 13 rfl rfl)
theorem dX9_tellWood_39 : decode cX9_tellWood 39 = .ok (.iconst 0, 1) := dk_3 (dk_at dksX9_tellWood_1 16 rfl rfl)
theorem dX9_tellWood_40 : decode cX9_tellWood 40 = .ok (.ireturn, 1) := dk_172 (dk_at dksX9_tellWood_1 17 rfl rfl)
theorem dX9_tellWood_41 : decode cX9_tellWood 41 = .ok (.aload_n 0, 1) := dk_42 (dk_at dksX9_tellWood_1 18 rfl rfl)
theorem dX9_tellWood_42 : decode cX9_tellWood 42 = .ok (.iload_n 1, 1) := dk_27 (dk_at dksX9_tellWood_1 19 rfl rfl)
theorem dX9_tellWood_43 : decode cX9_tellWood 43 = .ok (.aload_n 0, 1) := dk_42 (dk_at dksX9_tellWood_1 20 rfl rfl)
theorem dX9_tellWood_44 : decode cX9_tellWood 44 = .ok (.getfield 237, 3) := dk_180 0 237 (dk_at dksX9_tellWood_1 21 rfl rfl)
theorem dX9_tellWood_47 : decode cX9_tellWood 47 = .ok (.invokevirtual 292, 3) := dk_182 1 36 (dk_at dksX9_tellWood_2 0 rfl rfl)
theorem dX9_tellWood_50 : decode cX9_tellWood 50 = .ok (.aload_n 0, 1) := dk_42 (dk_at dksX9_tellWood_2 3 rfl rfl)
theorem dX9_tellWood_51 : decode cX9_tellWood 51 = .ok (.iconst 0, 1) := dk_3 (dk_at dksX9_tellWood_2 4 rfl rfl)
theorem dX9_tellWood_52 : decode cX9_tellWood 52 = .ok (.bipush 99, 2) := dk_16 99 (dk_at dksX9_tellWood_2 5 rfl rfl)
theorem dX9_tellWood_54 : decode cX9_tellWood 54 = .ok (.invokevirtual 302, 3) := dk_182 1 46 (dk_at dksX9_tellWood_2 7 rfl rfl)
theorem dX9_tellWood_57 : decode cX9_tellWood 57 = .ok (.ifCond .ne 5, 3) := dk_154 0 5 (dk_at dksX9_tellWood_2 10 rfl rfl)
theorem dX9_tellWood_60 : decode cX9_tellWood 60 = .ok (.iconst 0, 1) := dk_3 (dk_at dksX9_tellWood_2 13 rfl rfl)
theorem dX9_tellWood_61 : decode cX9_tellWood 61 = .ok (.ireturn, 1) := dk_172 (dk_at dksX9_tellWood_2 14 rfl rfl)
theorem dX9_tellWood_62 : decode cX9_tellWood 62 = .ok (.aload_n 0, 1) := dk_42 (dk_at dksX9_tellWood_2 15 rfl rfl)
theorem dX9_tellWood_63 : decode cX9_tellWood 63 = .ok (.iload_n 1, 1) := dk_27 (dk_at dksX9_tellWood_2 16 rfl rfl)
theorem dX9_tellWood_64 : decode cX9_tellWood 64 = .ok (.iconst 1, 1) := dk_4 (dk_at dksX9_tellWood_2 17 rfl rfl)
theorem dX9_tellWood_65 : decode cX9_tellWood 65 = .ok (.iadd, 1) := dk_96 (dk_at dksX9_tellWood_2 18 rfl rfl)
theorem dX9_tellWood_66 : decode cX9_tellWood 66 = .ok (.aload_n 0, 1) := dk_42 (dk_at dksX9_tellWood_2 19 rfl rfl)
theorem dX9_tellWood_67 : decode cX9_tellWood 67 = .ok (.getfield 237, 3) := dk_180 0 237 (dk_at dksX9_tellWood_2 20 rfl rfl)
theorem dX9_tellWood_70 : decode cX9_tellWood 70 = .ok (.invokevirtual 292, 3) := dk_182 1 36 (dk_at dksX9_tellWood_3 0 rfl rfl)
theorem dX9_tellWood_73 : decode cX9_tellWood 73 = .ok (.iconst 1, 1) := dk_4 (dk_at dksX9_tellWood_3 3 rfl rfl)
theorem dX9_tellWood_74 : decode cX9_tellWood 74 = .ok (.ireturn, 1) := dk_172 (dk_at dksX9_tellWood_3 4 rfl rfl)
abbrev cX9_tellNumber : ByteArray := prog_23_method_41_code
def yX9_tellNumber : MethodName := ⟨RX9, "tellNumber", "(II)Z"⟩
def dkwX9_tellNumber_1 : List UInt8 := [182, 1, 36, 4, 172]
abbrev dktX9_tellNumber_1 : List UInt8 := dkwX9_tellNumber_1 ++ []
def dkwX9_tellNumber_0 : List UInt8 := [42, 182, 0, 230, 153, 0, 12, 42, 4, 28, 182, 1, 46, 154, 0, 5, 3, 172, 42, 27, 42, 180, 0, 237]
abbrev dktX9_tellNumber_0 : List UInt8 := dkwX9_tellNumber_0 ++ dktX9_tellNumber_1
theorem dksX9_tellNumber_0 : cX9_tellNumber.data.toList.drop 0 = dktX9_tellNumber_0 := by decide +kernel
theorem dksX9_tellNumber_1 : cX9_tellNumber.data.toList.drop 24 = dktX9_tellNumber_1 := dk_seg dksX9_tellNumber_0 24 rfl rfl
theorem dX9_tellNumber_0 : decode cX9_tellNumber 0 = .ok (.aload_n 0, 1) := dk_42 (dk_at dksX9_tellNumber_0 0 rfl rfl)
theorem dX9_tellNumber_1 : decode cX9_tellNumber 1 = .ok (.invokevirtual 230, 3) := dk_182 0 230 (dk_at dksX9_tellNumber_0 1 rfl rfl)
theorem dX9_tellNumber_4 : decode cX9_tellNumber 4 = .ok (.ifCond .eq 12, 3) := dk_153 0 12 (dk_at dksX9_tellNumber_0 4 rfl rfl)
theorem dX9_tellNumber_7 : decode cX9_tellNumber 7 = .ok (.aload_n 0, 1) := dk_42 (dk_at dksX9_tellNumber_0 7 rfl rfl)
theorem dX9_tellNumber_8 : decode cX9_tellNumber 8 = .ok (.iconst 1, 1) := dk_4 (dk_at dksX9_tellNumber_0 8 rfl rfl)
theorem dX9_tellNumber_9 : decode cX9_tellNumber 9 = .ok (.iload_n 2, 1) := dk_28 (dk_at dksX9_tellNumber_0 9 rfl rfl)
theorem dX9_tellNumber_10 : decode cX9_tellNumber 10 = .ok (.invokevirtual 302, 3) := dk_182 1 46 (dk_at dksX9_tellNumber_0 10 rfl rfl)
theorem dX9_tellNumber_13 : decode cX9_tellNumber 13 = .ok (.ifCond .ne 5, 3) := dk_154 0 5 (dk_at dksX9_tellNumber_0 13 rfl rfl)
theorem dX9_tellNumber_16 : decode cX9_tellNumber 16 = .ok (.iconst 0, 1) := dk_3 (dk_at dksX9_tellNumber_0 16 rfl rfl)
theorem dX9_tellNumber_17 : decode cX9_tellNumber 17 = .ok (.ireturn, 1) := dk_172 (dk_at dksX9_tellNumber_0 17 rfl rfl)
theorem dX9_tellNumber_18 : decode cX9_tellNumber 18 = .ok (.aload_n 0, 1) := dk_42 (dk_at dksX9_tellNumber_0 18 rfl rfl)
theorem dX9_tellNumber_19 : decode cX9_tellNumber 19 = .ok (.iload_n 1, 1) := dk_27 (dk_at dksX9_tellNumber_0 19 rfl rfl)
theorem dX9_tellNumber_20 : decode cX9_tellNumber 20 = .ok (.aload_n 0, 1) := dk_42 (dk_at dksX9_tellNumber_0 20 rfl rfl)
theorem dX9_tellNumber_21 : decode cX9_tellNumber 21 = .ok (.getfield 237, 3) := dk_180 0 237 (dk_at dksX9_tellNumber_0 21 rfl rfl)
theorem dX9_tellNumber_24 : decode cX9_tellNumber 24 = .ok (.invokevirtual 292, 3) := dk_182 1 36 (dk_at dksX9_tellNumber_1 0 rfl rfl)
theorem dX9_tellNumber_27 : decode cX9_tellNumber 27 = .ok (.iconst 1, 1) := dk_4 (dk_at dksX9_tellNumber_1 3 rfl rfl)
theorem dX9_tellNumber_28 : decode cX9_tellNumber 28 = .ok (.ireturn, 1) := dk_172 (dk_at dksX9_tellNumber_1 4 rfl rfl)
abbrev cX9_tellLaw : ByteArray := prog_23_method_42_code
def yX9_tellLaw : MethodName := ⟨RX9, "tellLaw", "(I)Z"⟩
def dkwX9_tellLaw_3 : List UInt8 := [4, 172]
abbrev dktX9_tellLaw_3 : List UInt8 := dkwX9_tellLaw_3 ++ []
def dkwX9_tellLaw_2 : List UInt8 := [180, 0, 253, 182, 1, 36, 42, 16, 10, 5, 27, 104, 96, 4, 96, 42, 180, 0, 36, 4, 46, 182, 1, 36]
abbrev dktX9_tellLaw_2 : List UInt8 := dkwX9_tellLaw_2 ++ dktX9_tellLaw_3
def dkwX9_tellLaw_1 : List UInt8 := [42, 182, 0, 230, 153, 0, 10, 42, 182, 1, 18, 154, 0, 5, 3, 172, 42, 16, 10, 5, 27, 104, 96, 42]
abbrev dktX9_tellLaw_1 : List UInt8 := dkwX9_tellLaw_1 ++ dktX9_tellLaw_2
def dkwX9_tellLaw_0 : List UInt8 := [42, 182, 0, 230, 154, 0, 5, 3, 172, 42, 16, 61, 182, 1, 0, 154, 0, 9, 42, 4, 182, 0, 227, 172]
abbrev dktX9_tellLaw_0 : List UInt8 := dkwX9_tellLaw_0 ++ dktX9_tellLaw_1
theorem dksX9_tellLaw_0 : cX9_tellLaw.data.toList.drop 0 = dktX9_tellLaw_0 := by decide +kernel
theorem dksX9_tellLaw_1 : cX9_tellLaw.data.toList.drop 24 = dktX9_tellLaw_1 := dk_seg dksX9_tellLaw_0 24 rfl rfl
theorem dksX9_tellLaw_2 : cX9_tellLaw.data.toList.drop 48 = dktX9_tellLaw_2 := dk_seg dksX9_tellLaw_1 24 rfl rfl
theorem dksX9_tellLaw_3 : cX9_tellLaw.data.toList.drop 72 = dktX9_tellLaw_3 := dk_seg dksX9_tellLaw_2 24 rfl rfl
theorem dX9_tellLaw_0 : decode cX9_tellLaw 0 = .ok (.aload_n 0, 1) := dk_42 (dk_at dksX9_tellLaw_0 0 rfl rfl)
theorem dX9_tellLaw_1 : decode cX9_tellLaw 1 = .ok (.invokevirtual 230, 3) := dk_182 0 230 (dk_at dksX9_tellLaw_0 1 rfl rfl)
theorem dX9_tellLaw_4 : decode cX9_tellLaw 4 = .ok (.ifCond .ne 5, 3) := dk_154 0 5 (dk_at dksX9_tellLaw_0 4 rfl rfl)
theorem dX9_tellLaw_7 : decode cX9_tellLaw 7 = .ok (.iconst 0, 1) := dk_3 (dk_at dksX9_tellLaw_0 7 rfl rfl)
theorem dX9_tellLaw_8 : decode cX9_tellLaw 8 = .ok (.ireturn, 1) := dk_172 (dk_at dksX9_tellLaw_0 8 rfl rfl)
theorem dX9_tellLaw_9 : decode cX9_tellLaw 9 = .ok (.aload_n 0, 1) := dk_42 (dk_at dksX9_tellLaw_0 9 rfl rfl)
theorem dX9_tellLaw_10 : decode cX9_tellLaw 10 = .ok (.bipush 61, 2) := dk_16 61 (dk_at dksX9_tellLaw_0 10 rfl rfl)
theorem dX9_tellLaw_12 : decode cX9_tellLaw 12 = .ok (.invokevirtual 256, 3) := dk_182 1 0 (dk_at dksX9_tellLaw_0 12 rfl rfl)
theorem dX9_tellLaw_15 : decode cX9_tellLaw 15 = .ok (.ifCond .ne 9, 3) := dk_154 0 9 (dk_at dksX9_tellLaw_0 15 rfl rfl)
theorem dX9_tellLaw_18 : decode cX9_tellLaw 18 = .ok (.aload_n 0, 1) := dk_42 (dk_at dksX9_tellLaw_0 18 rfl rfl)
theorem dX9_tellLaw_19 : decode cX9_tellLaw 19 = .ok (.iconst 1, 1) := dk_4 (dk_at dksX9_tellLaw_0 19 rfl rfl)
theorem dX9_tellLaw_20 : decode cX9_tellLaw 20 = .ok (.invokevirtual 227, 3) := dk_182 0 227 (dk_at dksX9_tellLaw_0 20 rfl rfl)
theorem dX9_tellLaw_23 : decode cX9_tellLaw 23 = .ok (.ireturn, 1) := dk_172 (dk_at dksX9_tellLaw_0 23 rfl rfl)
theorem dX9_tellLaw_24 : decode cX9_tellLaw 24 = .ok (.aload_n 0, 1) := dk_42 (dk_at dksX9_tellLaw_1 0 rfl rfl)
theorem dX9_tellLaw_25 : decode cX9_tellLaw 25 = .ok (.invokevirtual 230, 3) := dk_182 0 230 (dk_at dksX9_tellLaw_1 1 rfl rfl)
theorem dX9_tellLaw_28 : decode cX9_tellLaw 28 = .ok (.ifCond .eq 10, 3) := dk_153 0 10 (dk_at dksX9_tellLaw_1 4 rfl rfl)
theorem dX9_tellLaw_31 : decode cX9_tellLaw 31 = .ok (.aload_n 0, 1) := dk_42 (dk_at dksX9_tellLaw_1 7 rfl rfl)
theorem dX9_tellLaw_32 : decode cX9_tellLaw 32 = .ok (.invokevirtual 274, 3) := dk_182 1 18 (dk_at dksX9_tellLaw_1 8 rfl rfl)
theorem dX9_tellLaw_35 : decode cX9_tellLaw 35 = .ok (.ifCond .ne 5, 3) := dk_154 0 5 (dk_at dksX9_tellLaw_1 11 rfl rfl)
theorem dX9_tellLaw_38 : decode cX9_tellLaw 38 = .ok (.iconst 0, 1) := dk_3 (dk_at dksX9_tellLaw_1 14 rfl rfl)
theorem dX9_tellLaw_39 : decode cX9_tellLaw 39 = .ok (.ireturn, 1) := dk_172 (dk_at dksX9_tellLaw_1 15 rfl rfl)
theorem dX9_tellLaw_40 : decode cX9_tellLaw 40 = .ok (.aload_n 0, 1) := dk_42 (dk_at dksX9_tellLaw_1 16 rfl rfl)
theorem dX9_tellLaw_41 : decode cX9_tellLaw 41 = .ok (.bipush 10, 2) := dk_16 10 (dk_at dksX9_tellLaw_1 17 rfl rfl)
theorem dX9_tellLaw_43 : decode cX9_tellLaw 43 = .ok (.iconst 2, 1) := dk_5 (dk_at dksX9_tellLaw_1 19 rfl rfl)
theorem dX9_tellLaw_44 : decode cX9_tellLaw 44 = .ok (.iload_n 1, 1) := dk_27 (dk_at dksX9_tellLaw_1 20 rfl rfl)
theorem dX9_tellLaw_45 : decode cX9_tellLaw 45 = .ok (.imul, 1) := dk_104 (dk_at dksX9_tellLaw_1 21 rfl rfl)
theorem dX9_tellLaw_46 : decode cX9_tellLaw 46 = .ok (.iadd, 1) := dk_96 (dk_at dksX9_tellLaw_1 22 rfl rfl)
theorem dX9_tellLaw_47 : decode cX9_tellLaw 47 = .ok (.aload_n 0, 1) := dk_42 (dk_at dksX9_tellLaw_1 23 rfl rfl)
theorem dX9_tellLaw_48 : decode cX9_tellLaw 48 = .ok (.getfield 253, 3) := dk_180 0 253 (dk_at dksX9_tellLaw_2 0 rfl rfl)
theorem dX9_tellLaw_51 : decode cX9_tellLaw 51 = .ok (.invokevirtual 292, 3) := dk_182 1 36 (dk_at dksX9_tellLaw_2 3 rfl rfl)
theorem dX9_tellLaw_54 : decode cX9_tellLaw 54 = .ok (.aload_n 0, 1) := dk_42 (dk_at dksX9_tellLaw_2 6 rfl rfl)
theorem dX9_tellLaw_55 : decode cX9_tellLaw 55 = .ok (.bipush 10, 2) := dk_16 10 (dk_at dksX9_tellLaw_2 7 rfl rfl)
theorem dX9_tellLaw_57 : decode cX9_tellLaw 57 = .ok (.iconst 2, 1) := dk_5 (dk_at dksX9_tellLaw_2 9 rfl rfl)
theorem dX9_tellLaw_58 : decode cX9_tellLaw 58 = .ok (.iload_n 1, 1) := dk_27 (dk_at dksX9_tellLaw_2 10 rfl rfl)
theorem dX9_tellLaw_59 : decode cX9_tellLaw 59 = .ok (.imul, 1) := dk_104 (dk_at dksX9_tellLaw_2 11 rfl rfl)
theorem dX9_tellLaw_60 : decode cX9_tellLaw 60 = .ok (.iadd, 1) := dk_96 (dk_at dksX9_tellLaw_2 12 rfl rfl)
theorem dX9_tellLaw_61 : decode cX9_tellLaw 61 = .ok (.iconst 1, 1) := dk_4 (dk_at dksX9_tellLaw_2 13 rfl rfl)
theorem dX9_tellLaw_62 : decode cX9_tellLaw 62 = .ok (.iadd, 1) := dk_96 (dk_at dksX9_tellLaw_2 14 rfl rfl)
theorem dX9_tellLaw_63 : decode cX9_tellLaw 63 = .ok (.aload_n 0, 1) := dk_42 (dk_at dksX9_tellLaw_2 15 rfl rfl)
theorem dX9_tellLaw_64 : decode cX9_tellLaw 64 = .ok (.getfield 36, 3) := dk_180 0 36 (dk_at dksX9_tellLaw_2 16 rfl rfl)
theorem dX9_tellLaw_67 : decode cX9_tellLaw 67 = .ok (.iconst 1, 1) := dk_4 (dk_at dksX9_tellLaw_2 19 rfl rfl)
theorem dX9_tellLaw_68 : decode cX9_tellLaw 68 = .ok (.iaload, 1) := dk_46 (dk_at dksX9_tellLaw_2 20 rfl rfl)
theorem dX9_tellLaw_69 : decode cX9_tellLaw 69 = .ok (.invokevirtual 292, 3) := dk_182 1 36 (dk_at dksX9_tellLaw_2 21 rfl rfl)
theorem dX9_tellLaw_72 : decode cX9_tellLaw 72 = .ok (.iconst 1, 1) := dk_4 (dk_at dksX9_tellLaw_3 0 rfl rfl)
theorem dX9_tellLaw_73 : decode cX9_tellLaw 73 = .ok (.ireturn, 1) := dk_172 (dk_at dksX9_tellLaw_3 1 rfl rfl)
abbrev cX9_isSign : ByteArray := prog_23_method_16_code
def yX9_isSign : MethodName := ⟨RX9, "isSign", "(I)Z"⟩
def dkwX9_isSign_1 : List UInt8 := [160, 0, 7, 4, 167, 0, 4, 3, 172]
abbrev dktX9_isSign_1 : List UInt8 := dkwX9_isSign_1 ++ []
def dkwX9_isSign_0 : List UInt8 := [42, 180, 0, 13, 42, 180, 0, 218, 46, 5, 160, 0, 20, 42, 180, 0, 19, 42, 180, 0, 218, 46, 27]
abbrev dktX9_isSign_0 : List UInt8 := dkwX9_isSign_0 ++ dktX9_isSign_1
theorem dksX9_isSign_0 : cX9_isSign.data.toList.drop 0 = dktX9_isSign_0 := by decide +kernel
theorem dksX9_isSign_1 : cX9_isSign.data.toList.drop 23 = dktX9_isSign_1 := dk_seg dksX9_isSign_0 23 rfl rfl
theorem dX9_isSign_0 : decode cX9_isSign 0 = .ok (.aload_n 0, 1) := dk_42 (dk_at dksX9_isSign_0 0 rfl rfl)
theorem dX9_isSign_1 : decode cX9_isSign 1 = .ok (.getfield 13, 3) := dk_180 0 13 (dk_at dksX9_isSign_0 1 rfl rfl)
theorem dX9_isSign_4 : decode cX9_isSign 4 = .ok (.aload_n 0, 1) := dk_42 (dk_at dksX9_isSign_0 4 rfl rfl)
theorem dX9_isSign_5 : decode cX9_isSign 5 = .ok (.getfield 218, 3) := dk_180 0 218 (dk_at dksX9_isSign_0 5 rfl rfl)
theorem dX9_isSign_8 : decode cX9_isSign 8 = .ok (.iaload, 1) := dk_46 (dk_at dksX9_isSign_0 8 rfl rfl)
theorem dX9_isSign_9 : decode cX9_isSign 9 = .ok (.iconst 2, 1) := dk_5 (dk_at dksX9_isSign_0 9 rfl rfl)
theorem dX9_isSign_10 : decode cX9_isSign 10 = .ok (.if_icmp .ne 20, 3) := dk_160 0 20 (dk_at dksX9_isSign_0 10 rfl rfl)
theorem dX9_isSign_13 : decode cX9_isSign 13 = .ok (.aload_n 0, 1) := dk_42 (dk_at dksX9_isSign_0 13 rfl rfl)
theorem dX9_isSign_14 : decode cX9_isSign 14 = .ok (.getfield 19, 3) := dk_180 0 19 (dk_at dksX9_isSign_0 14 rfl rfl)
theorem dX9_isSign_17 : decode cX9_isSign 17 = .ok (.aload_n 0, 1) := dk_42 (dk_at dksX9_isSign_0 17 rfl rfl)
theorem dX9_isSign_18 : decode cX9_isSign 18 = .ok (.getfield 218, 3) := dk_180 0 218 (dk_at dksX9_isSign_0 18 rfl rfl)
theorem dX9_isSign_21 : decode cX9_isSign 21 = .ok (.iaload, 1) := dk_46 (dk_at dksX9_isSign_0 21 rfl rfl)
theorem dX9_isSign_22 : decode cX9_isSign 22 = .ok (.iload_n 1, 1) := dk_27 (dk_at dksX9_isSign_0 22 rfl rfl)
theorem dX9_isSign_23 : decode cX9_isSign 23 = .ok (.if_icmp .ne 7, 3) := dk_160 0 7 (dk_at dksX9_isSign_1 0 rfl rfl)
theorem dX9_isSign_26 : decode cX9_isSign 26 = .ok (.iconst 1, 1) := dk_4 (dk_at dksX9_isSign_1 3 rfl rfl)
theorem dX9_isSign_27 : decode cX9_isSign 27 = .ok (.goto 4, 3) := dk_167 0 4 (dk_at dksX9_isSign_1 4 rfl rfl)
theorem dX9_isSign_30 : decode cX9_isSign 30 = .ok (.iconst 0, 1) := dk_3 (dk_at dksX9_isSign_1 7 rfl rfl)
theorem dX9_isSign_31 : decode cX9_isSign 31 = .ok (.ireturn, 1) := dk_172 (dk_at dksX9_isSign_1 8 rfl rfl)
abbrev cX9_expr : ByteArray := prog_23_method_25_code
def yX9_expr : MethodName := ⟨RX9, "expr", "()Z"⟩
def dkwX9_expr_14 : List UInt8 := [181, 0, 244, 132, 1, 255, 167, 254, 202, 3, 62, 167, 254, 197, 42, 4, 3, 182, 1, 9, 4, 172]
abbrev dktX9_expr_14 : List UInt8 := dkwX9_expr_14 ++ []
def dkwX9_expr_13 : List UInt8 := [172, 42, 182, 0, 230, 154, 0, 5, 3, 172, 42, 4, 3, 182, 1, 9, 42, 89, 180, 0, 244, 4, 100]
abbrev dktX9_expr_13 : List UInt8 := dkwX9_expr_13 ++ dktX9_expr_14
def dkwX9_expr_12 : List UInt8 := [172, 4, 61, 167, 254, 252, 27, 158, 0, 49, 42, 16, 41, 182, 1, 0, 154, 0, 9, 42, 4, 182, 0, 227]
abbrev dktX9_expr_12 : List UInt8 := dkwX9_expr_12 ++ dktX9_expr_13
def dkwX9_expr_11 : List UInt8 := [16, 43, 182, 1, 0, 153, 0, 7, 5, 167, 0, 4, 6, 182, 1, 3, 42, 182, 0, 230, 154, 0, 5, 3]
abbrev dktX9_expr_11 : List UInt8 := dkwX9_expr_11 ++ dktX9_expr_12
def dkwX9_expr_10 : List UInt8 := [182, 1, 0, 154, 0, 12, 42, 16, 45, 182, 1, 0, 153, 0, 41, 42, 4, 3, 182, 1, 9, 42, 42]
abbrev dktX9_expr_10 : List UInt8 := dkwX9_expr_10 ++ dktX9_expr_11
def dkwX9_expr_9 : List UInt8 := [167, 0, 4, 8, 182, 1, 3, 42, 182, 0, 230, 154, 0, 5, 3, 172, 4, 61, 167, 255, 52, 42, 16, 43]
abbrev dktX9_expr_9 : List UInt8 := dkwX9_expr_9 ++ dktX9_expr_10
def dkwX9_expr_8 : List UInt8 := [182, 1, 0, 153, 0, 41, 42, 5, 3, 182, 1, 9, 42, 42, 16, 42, 182, 1, 0, 153, 0, 7, 7]
abbrev dktX9_expr_8 : List UInt8 := dkwX9_expr_8 ++ dktX9_expr_9
def dkwX9_expr_7 : List UInt8 := [154, 0, 5, 3, 172, 3, 61, 167, 255, 108, 42, 16, 42, 182, 1, 0, 154, 0, 12, 42, 16, 47]
abbrev dktX9_expr_7 : List UInt8 := dkwX9_expr_7 ++ dktX9_expr_8
def dkwX9_expr_6 : List UInt8 := [156, 0, 15, 42, 180, 0, 19, 42, 180, 0, 218, 46, 167, 0, 5, 21, 4, 182, 0, 250, 42, 182, 0, 230]
abbrev dktX9_expr_6 : List UInt8 := dkwX9_expr_6 ++ dktX9_expr_7
def dkwX9_expr_5 : List UInt8 := [156, 0, 9, 42, 4, 182, 0, 227, 172, 42, 21, 4, 156, 0, 7, 3, 167, 0, 4, 4, 21, 4]
abbrev dktX9_expr_5 : List UInt8 := dkwX9_expr_5 ++ dktX9_expr_6
def dkwX9_expr_4 : List UInt8 := [184, 1, 6, 167, 0, 4, 2, 54, 4, 42, 180, 0, 13, 42, 180, 0, 218, 46, 4, 159, 0, 14, 21, 4]
abbrev dktX9_expr_4 : List UInt8 := dkwX9_expr_4 ++ dktX9_expr_5
def dkwX9_expr_3 : List UInt8 := [42, 180, 0, 13, 42, 180, 0, 218, 46, 6, 160, 0, 18, 42, 180, 0, 19, 42, 180, 0, 218, 46]
abbrev dktX9_expr_3 : List UInt8 := dkwX9_expr_3 ++ dktX9_expr_4
def dkwX9_expr_2 : List UInt8 := [182, 0, 227, 172, 42, 182, 0, 230, 154, 0, 5, 3, 172, 132, 1, 1, 42, 3, 182, 1, 3, 167, 255, 210]
abbrev dktX9_expr_2 : List UInt8 := dkwX9_expr_2 ++ dktX9_expr_3
def dkwX9_expr_1 : List UInt8 := [153, 1, 61, 28, 153, 0, 146, 42, 16, 40, 182, 1, 0, 153, 0, 35, 27, 16, 6, 160, 0, 9, 42, 5]
abbrev dktX9_expr_1 : List UInt8 := dkwX9_expr_1 ++ dktX9_expr_2
def dkwX9_expr_0 : List UInt8 := [42, 42, 180, 0, 36, 4, 46, 181, 0, 253, 42, 3, 181, 0, 244, 3, 60, 4, 61, 4, 62, 29]
abbrev dktX9_expr_0 : List UInt8 := dkwX9_expr_0 ++ dktX9_expr_1
theorem dksX9_expr_0 : cX9_expr.data.toList.drop 0 = dktX9_expr_0 := by decide +kernel
theorem dksX9_expr_1 : cX9_expr.data.toList.drop 22 = dktX9_expr_1 := dk_seg dksX9_expr_0 22 rfl rfl
theorem dksX9_expr_2 : cX9_expr.data.toList.drop 46 = dktX9_expr_2 := dk_seg dksX9_expr_1 24 rfl rfl
theorem dksX9_expr_3 : cX9_expr.data.toList.drop 70 = dktX9_expr_3 := dk_seg dksX9_expr_2 24 rfl rfl
theorem dksX9_expr_4 : cX9_expr.data.toList.drop 92 = dktX9_expr_4 := dk_seg dksX9_expr_3 22 rfl rfl
theorem dksX9_expr_5 : cX9_expr.data.toList.drop 116 = dktX9_expr_5 := dk_seg dksX9_expr_4 24 rfl rfl
theorem dksX9_expr_6 : cX9_expr.data.toList.drop 138 = dktX9_expr_6 := dk_seg dksX9_expr_5 22 rfl rfl
theorem dksX9_expr_7 : cX9_expr.data.toList.drop 162 = dktX9_expr_7 := dk_seg dksX9_expr_6 24 rfl rfl
theorem dksX9_expr_8 : cX9_expr.data.toList.drop 184 = dktX9_expr_8 := dk_seg dksX9_expr_7 22 rfl rfl
theorem dksX9_expr_9 : cX9_expr.data.toList.drop 207 = dktX9_expr_9 := dk_seg dksX9_expr_8 23 rfl rfl
theorem dksX9_expr_10 : cX9_expr.data.toList.drop 231 = dktX9_expr_10 := dk_seg dksX9_expr_9 24 rfl rfl
theorem dksX9_expr_11 : cX9_expr.data.toList.drop 254 = dktX9_expr_11 := dk_seg dksX9_expr_10 23 rfl rfl
theorem dksX9_expr_12 : cX9_expr.data.toList.drop 278 = dktX9_expr_12 := dk_seg dksX9_expr_11 24 rfl rfl
theorem dksX9_expr_13 : cX9_expr.data.toList.drop 302 = dktX9_expr_13 := dk_seg dksX9_expr_12 24 rfl rfl
theorem dksX9_expr_14 : cX9_expr.data.toList.drop 325 = dktX9_expr_14 := dk_seg dksX9_expr_13 23 rfl rfl
theorem dX9_expr_0 : decode cX9_expr 0 = .ok (.aload_n 0, 1) := dk_42 (dk_at dksX9_expr_0 0 rfl rfl)
theorem dX9_expr_1 : decode cX9_expr 1 = .ok (.aload_n 0, 1) := dk_42 (dk_at dksX9_expr_0 1 rfl rfl)
theorem dX9_expr_2 : decode cX9_expr 2 = .ok (.getfield 36, 3) := dk_180 0 36 (dk_at dksX9_expr_0 2 rfl rfl)
theorem dX9_expr_5 : decode cX9_expr 5 = .ok (.iconst 1, 1) := dk_4 (dk_at dksX9_expr_0 5 rfl rfl)
theorem dX9_expr_6 : decode cX9_expr 6 = .ok (.iaload, 1) := dk_46 (dk_at dksX9_expr_0 6 rfl rfl)
theorem dX9_expr_7 : decode cX9_expr 7 = .ok (.putfield 253, 3) := dk_181 0 253 (dk_at dksX9_expr_0 7 rfl rfl)
theorem dX9_expr_10 : decode cX9_expr 10 = .ok (.aload_n 0, 1) := dk_42 (dk_at dksX9_expr_0 10 rfl rfl)
theorem dX9_expr_11 : decode cX9_expr 11 = .ok (.iconst 0, 1) := dk_3 (dk_at dksX9_expr_0 11 rfl rfl)
theorem dX9_expr_12 : decode cX9_expr 12 = .ok (.putfield 244, 3) := dk_181 0 244 (dk_at dksX9_expr_0 12 rfl rfl)
theorem dX9_expr_15 : decode cX9_expr 15 = .ok (.iconst 0, 1) := dk_3 (dk_at dksX9_expr_0 15 rfl rfl)
theorem dX9_expr_16 : decode cX9_expr 16 = .ok (.istore_n 1, 1) := dk_60 (dk_at dksX9_expr_0 16 rfl rfl)
theorem dX9_expr_17 : decode cX9_expr 17 = .ok (.iconst 1, 1) := dk_4 (dk_at dksX9_expr_0 17 rfl rfl)
theorem dX9_expr_18 : decode cX9_expr 18 = .ok (.istore_n 2, 1) := dk_61 (dk_at dksX9_expr_0 18 rfl rfl)
theorem dX9_expr_19 : decode cX9_expr 19 = .ok (.iconst 1, 1) := dk_4 (dk_at dksX9_expr_0 19 rfl rfl)
theorem dX9_expr_20 : decode cX9_expr 20 = .ok (.istore_n 3, 1) := dk_62 (dk_at dksX9_expr_0 20 rfl rfl)
theorem dX9_expr_21 : decode cX9_expr 21 = .ok (.iload_n 3, 1) := dk_29 (dk_at dksX9_expr_0 21 rfl rfl)
theorem dX9_expr_22 : decode cX9_expr 22 = .ok (.ifCond .eq 317, 3) := dk_153 1 61 (dk_at dksX9_expr_1 0 rfl rfl)
theorem dX9_expr_25 : decode cX9_expr 25 = .ok (.iload_n 2, 1) := dk_28 (dk_at dksX9_expr_1 3 rfl rfl)
theorem dX9_expr_26 : decode cX9_expr 26 = .ok (.ifCond .eq 146, 3) := dk_153 0 146 (dk_at dksX9_expr_1 4 rfl rfl)
theorem dX9_expr_29 : decode cX9_expr 29 = .ok (.aload_n 0, 1) := dk_42 (dk_at dksX9_expr_1 7 rfl rfl)
theorem dX9_expr_30 : decode cX9_expr 30 = .ok (.bipush 40, 2) := dk_16 40 (dk_at dksX9_expr_1 8 rfl rfl)
theorem dX9_expr_32 : decode cX9_expr 32 = .ok (.invokevirtual 256, 3) := dk_182 1 0 (dk_at dksX9_expr_1 10 rfl rfl)
theorem dX9_expr_35 : decode cX9_expr 35 = .ok (.ifCond .eq 35, 3) := dk_153 0 35 (dk_at dksX9_expr_1 13 rfl rfl)
theorem dX9_expr_38 : decode cX9_expr 38 = .ok (.iload_n 1, 1) := dk_27 (dk_at dksX9_expr_1 16 rfl rfl)
theorem dX9_expr_39 : decode cX9_expr 39 = .ok (.bipush 6, 2) := dk_16 6 (dk_at dksX9_expr_1 17 rfl rfl)
theorem dX9_expr_41 : decode cX9_expr 41 = .ok (.if_icmp .ne 9, 3) := dk_160 0 9 (dk_at dksX9_expr_1 19 rfl rfl)
theorem dX9_expr_44 : decode cX9_expr 44 = .ok (.aload_n 0, 1) := dk_42 (dk_at dksX9_expr_1 22 rfl rfl)
theorem dX9_expr_45 : decode cX9_expr 45 = .ok (.iconst 2, 1) := dk_5 (dk_at dksX9_expr_1 23 rfl rfl)
theorem dX9_expr_46 : decode cX9_expr 46 = .ok (.invokevirtual 227, 3) := dk_182 0 227 (dk_at dksX9_expr_2 0 rfl rfl)
theorem dX9_expr_49 : decode cX9_expr 49 = .ok (.ireturn, 1) := dk_172 (dk_at dksX9_expr_2 3 rfl rfl)
theorem dX9_expr_50 : decode cX9_expr 50 = .ok (.aload_n 0, 1) := dk_42 (dk_at dksX9_expr_2 4 rfl rfl)
theorem dX9_expr_51 : decode cX9_expr 51 = .ok (.invokevirtual 230, 3) := dk_182 0 230 (dk_at dksX9_expr_2 5 rfl rfl)
theorem dX9_expr_54 : decode cX9_expr 54 = .ok (.ifCond .ne 5, 3) := dk_154 0 5 (dk_at dksX9_expr_2 8 rfl rfl)
theorem dX9_expr_57 : decode cX9_expr 57 = .ok (.iconst 0, 1) := dk_3 (dk_at dksX9_expr_2 11 rfl rfl)
theorem dX9_expr_58 : decode cX9_expr 58 = .ok (.ireturn, 1) := dk_172 (dk_at dksX9_expr_2 12 rfl rfl)
theorem dX9_expr_59 : decode cX9_expr 59 = .ok (.iinc 1 1, 3) := dk_132 1 1 (dk_at dksX9_expr_2 13 rfl rfl)
theorem dX9_expr_62 : decode cX9_expr 62 = .ok (.aload_n 0, 1) := dk_42 (dk_at dksX9_expr_2 16 rfl rfl)
theorem dX9_expr_63 : decode cX9_expr 63 = .ok (.iconst 0, 1) := dk_3 (dk_at dksX9_expr_2 17 rfl rfl)
theorem dX9_expr_64 : decode cX9_expr 64 = .ok (.invokevirtual 259, 3) := dk_182 1 3 (dk_at dksX9_expr_2 18 rfl rfl)
theorem dX9_expr_67 : decode cX9_expr 67 = .ok (.goto (-46), 3) := dk_167 255 210 (dk_at dksX9_expr_2 21 rfl rfl)
theorem dX9_expr_70 : decode cX9_expr 70 = .ok (.aload_n 0, 1) := dk_42 (dk_at dksX9_expr_3 0 rfl rfl)
theorem dX9_expr_71 : decode cX9_expr 71 = .ok (.getfield 13, 3) := dk_180 0 13 (dk_at dksX9_expr_3 1 rfl rfl)
theorem dX9_expr_74 : decode cX9_expr 74 = .ok (.aload_n 0, 1) := dk_42 (dk_at dksX9_expr_3 4 rfl rfl)
theorem dX9_expr_75 : decode cX9_expr 75 = .ok (.getfield 218, 3) := dk_180 0 218 (dk_at dksX9_expr_3 5 rfl rfl)
theorem dX9_expr_78 : decode cX9_expr 78 = .ok (.iaload, 1) := dk_46 (dk_at dksX9_expr_3 8 rfl rfl)
theorem dX9_expr_79 : decode cX9_expr 79 = .ok (.iconst 3, 1) := dk_6 (dk_at dksX9_expr_3 9 rfl rfl)
theorem dX9_expr_80 : decode cX9_expr 80 = .ok (.if_icmp .ne 18, 3) := dk_160 0 18 (dk_at dksX9_expr_3 10 rfl rfl)
theorem dX9_expr_83 : decode cX9_expr 83 = .ok (.aload_n 0, 1) := dk_42 (dk_at dksX9_expr_3 13 rfl rfl)
theorem dX9_expr_84 : decode cX9_expr 84 = .ok (.getfield 19, 3) := dk_180 0 19 (dk_at dksX9_expr_3 14 rfl rfl)
theorem dX9_expr_87 : decode cX9_expr 87 = .ok (.aload_n 0, 1) := dk_42 (dk_at dksX9_expr_3 17 rfl rfl)
theorem dX9_expr_88 : decode cX9_expr 88 = .ok (.getfield 218, 3) := dk_180 0 218 (dk_at dksX9_expr_3 18 rfl rfl)
theorem dX9_expr_91 : decode cX9_expr 91 = .ok (.iaload, 1) := dk_46 (dk_at dksX9_expr_3 21 rfl rfl)
theorem dX9_expr_92 : decode cX9_expr 92 = .ok (.invokestatic 262, 3) := dk_184 1 6 (dk_at dksX9_expr_4 0 rfl rfl)
theorem dX9_expr_95 : decode cX9_expr 95 = .ok (.goto 4, 3) := dk_167 0 4 (dk_at dksX9_expr_4 3 rfl rfl)
theorem dX9_expr_98 : decode cX9_expr 98 = .ok (.iconst (-1), 1) := dk_2 (dk_at dksX9_expr_4 6 rfl rfl)
theorem dX9_expr_99 : decode cX9_expr 99 = .ok (.istore 4, 2) := dk_54 4 (dk_at dksX9_expr_4 7 rfl rfl)
theorem dX9_expr_101 : decode cX9_expr 101 = .ok (.aload_n 0, 1) := dk_42 (dk_at dksX9_expr_4 9 rfl rfl)
theorem dX9_expr_102 : decode cX9_expr 102 = .ok (.getfield 13, 3) := dk_180 0 13 (dk_at dksX9_expr_4 10 rfl rfl)
theorem dX9_expr_105 : decode cX9_expr 105 = .ok (.aload_n 0, 1) := dk_42 (dk_at dksX9_expr_4 13 rfl rfl)
theorem dX9_expr_106 : decode cX9_expr 106 = .ok (.getfield 218, 3) := dk_180 0 218 (dk_at dksX9_expr_4 14 rfl rfl)
theorem dX9_expr_109 : decode cX9_expr 109 = .ok (.iaload, 1) := dk_46 (dk_at dksX9_expr_4 17 rfl rfl)
theorem dX9_expr_110 : decode cX9_expr 110 = .ok (.iconst 1, 1) := dk_4 (dk_at dksX9_expr_4 18 rfl rfl)
theorem dX9_expr_111 : decode cX9_expr 111 = .ok (.if_icmp .eq 14, 3) := dk_159 0 14 (dk_at dksX9_expr_4 19 rfl rfl)
theorem dX9_expr_114 : decode cX9_expr 114 = .ok (.iload 4, 2) := dk_21 4 (dk_at dksX9_expr_4 22 rfl rfl)
theorem dX9_expr_116 : decode cX9_expr 116 = .ok (.ifCond .ge 9, 3) := dk_156 0 9 (dk_at dksX9_expr_5 0 rfl rfl)
theorem dX9_expr_119 : decode cX9_expr 119 = .ok (.aload_n 0, 1) := dk_42 (dk_at dksX9_expr_5 3 rfl rfl)
theorem dX9_expr_120 : decode cX9_expr 120 = .ok (.iconst 1, 1) := dk_4 (dk_at dksX9_expr_5 4 rfl rfl)
theorem dX9_expr_121 : decode cX9_expr 121 = .ok (.invokevirtual 227, 3) := dk_182 0 227 (dk_at dksX9_expr_5 5 rfl rfl)
theorem dX9_expr_124 : decode cX9_expr 124 = .ok (.ireturn, 1) := dk_172 (dk_at dksX9_expr_5 8 rfl rfl)
theorem dX9_expr_125 : decode cX9_expr 125 = .ok (.aload_n 0, 1) := dk_42 (dk_at dksX9_expr_5 9 rfl rfl)
theorem dX9_expr_126 : decode cX9_expr 126 = .ok (.iload 4, 2) := dk_21 4 (dk_at dksX9_expr_5 10 rfl rfl)
theorem dX9_expr_128 : decode cX9_expr 128 = .ok (.ifCond .ge 7, 3) := dk_156 0 7 (dk_at dksX9_expr_5 12 rfl rfl)
theorem dX9_expr_131 : decode cX9_expr 131 = .ok (.iconst 0, 1) := dk_3 (dk_at dksX9_expr_5 15 rfl rfl)
theorem dX9_expr_132 : decode cX9_expr 132 = .ok (.goto 4, 3) := dk_167 0 4 (dk_at dksX9_expr_5 16 rfl rfl)
theorem dX9_expr_135 : decode cX9_expr 135 = .ok (.iconst 1, 1) := dk_4 (dk_at dksX9_expr_5 19 rfl rfl)
theorem dX9_expr_136 : decode cX9_expr 136 = .ok (.iload 4, 2) := dk_21 4 (dk_at dksX9_expr_5 20 rfl rfl)
theorem dX9_expr_138 : decode cX9_expr 138 = .ok (.ifCond .ge 15, 3) := dk_156 0 15 (dk_at dksX9_expr_6 0 rfl rfl)
theorem dX9_expr_141 : decode cX9_expr 141 = .ok (.aload_n 0, 1) := dk_42 (dk_at dksX9_expr_6 3 rfl rfl)
theorem dX9_expr_142 : decode cX9_expr 142 = .ok (.getfield 19, 3) := dk_180 0 19 (dk_at dksX9_expr_6 4 rfl rfl)
theorem dX9_expr_145 : decode cX9_expr 145 = .ok (.aload_n 0, 1) := dk_42 (dk_at dksX9_expr_6 7 rfl rfl)
theorem dX9_expr_146 : decode cX9_expr 146 = .ok (.getfield 218, 3) := dk_180 0 218 (dk_at dksX9_expr_6 8 rfl rfl)
theorem dX9_expr_149 : decode cX9_expr 149 = .ok (.iaload, 1) := dk_46 (dk_at dksX9_expr_6 11 rfl rfl)
theorem dX9_expr_150 : decode cX9_expr 150 = .ok (.goto 5, 3) := dk_167 0 5 (dk_at dksX9_expr_6 12 rfl rfl)
theorem dX9_expr_153 : decode cX9_expr 153 = .ok (.iload 4, 2) := dk_21 4 (dk_at dksX9_expr_6 15 rfl rfl)
theorem dX9_expr_155 : decode cX9_expr 155 = .ok (.invokevirtual 250, 3) := dk_182 0 250 (dk_at dksX9_expr_6 17 rfl rfl)
theorem dX9_expr_158 : decode cX9_expr 158 = .ok (.aload_n 0, 1) := dk_42 (dk_at dksX9_expr_6 20 rfl rfl)
theorem dX9_expr_159 : decode cX9_expr 159 = .ok (.invokevirtual 230, 3) := dk_182 0 230 (dk_at dksX9_expr_6 21 rfl rfl)
theorem dX9_expr_162 : decode cX9_expr 162 = .ok (.ifCond .ne 5, 3) := dk_154 0 5 (dk_at dksX9_expr_7 0 rfl rfl)
theorem dX9_expr_165 : decode cX9_expr 165 = .ok (.iconst 0, 1) := dk_3 (dk_at dksX9_expr_7 3 rfl rfl)
theorem dX9_expr_166 : decode cX9_expr 166 = .ok (.ireturn, 1) := dk_172 (dk_at dksX9_expr_7 4 rfl rfl)
theorem dX9_expr_167 : decode cX9_expr 167 = .ok (.iconst 0, 1) := dk_3 (dk_at dksX9_expr_7 5 rfl rfl)
theorem dX9_expr_168 : decode cX9_expr 168 = .ok (.istore_n 2, 1) := dk_61 (dk_at dksX9_expr_7 6 rfl rfl)
theorem dX9_expr_169 : decode cX9_expr 169 = .ok (.goto (-148), 3) := dk_167 255 108 (dk_at dksX9_expr_7 7 rfl rfl)
theorem dX9_expr_172 : decode cX9_expr 172 = .ok (.aload_n 0, 1) := dk_42 (dk_at dksX9_expr_7 10 rfl rfl)
theorem dX9_expr_173 : decode cX9_expr 173 = .ok (.bipush 42, 2) := dk_16 42 (dk_at dksX9_expr_7 11 rfl rfl)
theorem dX9_expr_175 : decode cX9_expr 175 = .ok (.invokevirtual 256, 3) := dk_182 1 0 (dk_at dksX9_expr_7 13 rfl rfl)
theorem dX9_expr_178 : decode cX9_expr 178 = .ok (.ifCond .ne 12, 3) := dk_154 0 12 (dk_at dksX9_expr_7 16 rfl rfl)
theorem dX9_expr_181 : decode cX9_expr 181 = .ok (.aload_n 0, 1) := dk_42 (dk_at dksX9_expr_7 19 rfl rfl)
theorem dX9_expr_182 : decode cX9_expr 182 = .ok (.bipush 47, 2) := dk_16 47 (dk_at dksX9_expr_7 20 rfl rfl)
theorem dX9_expr_184 : decode cX9_expr 184 = .ok (.invokevirtual 256, 3) := dk_182 1 0 (dk_at dksX9_expr_8 0 rfl rfl)
theorem dX9_expr_187 : decode cX9_expr 187 = .ok (.ifCond .eq 41, 3) := dk_153 0 41 (dk_at dksX9_expr_8 3 rfl rfl)
theorem dX9_expr_190 : decode cX9_expr 190 = .ok (.aload_n 0, 1) := dk_42 (dk_at dksX9_expr_8 6 rfl rfl)
theorem dX9_expr_191 : decode cX9_expr 191 = .ok (.iconst 2, 1) := dk_5 (dk_at dksX9_expr_8 7 rfl rfl)
theorem dX9_expr_192 : decode cX9_expr 192 = .ok (.iconst 0, 1) := dk_3 (dk_at dksX9_expr_8 8 rfl rfl)
theorem dX9_expr_193 : decode cX9_expr 193 = .ok (.invokevirtual 265, 3) := dk_182 1 9 (dk_at dksX9_expr_8 9 rfl rfl)
theorem dX9_expr_196 : decode cX9_expr 196 = .ok (.aload_n 0, 1) := dk_42 (dk_at dksX9_expr_8 12 rfl rfl)
theorem dX9_expr_197 : decode cX9_expr 197 = .ok (.aload_n 0, 1) := dk_42 (dk_at dksX9_expr_8 13 rfl rfl)
theorem dX9_expr_198 : decode cX9_expr 198 = .ok (.bipush 42, 2) := dk_16 42 (dk_at dksX9_expr_8 14 rfl rfl)
theorem dX9_expr_200 : decode cX9_expr 200 = .ok (.invokevirtual 256, 3) := dk_182 1 0 (dk_at dksX9_expr_8 16 rfl rfl)
theorem dX9_expr_203 : decode cX9_expr 203 = .ok (.ifCond .eq 7, 3) := dk_153 0 7 (dk_at dksX9_expr_8 19 rfl rfl)
theorem dX9_expr_206 : decode cX9_expr 206 = .ok (.iconst 4, 1) := dk_7 (dk_at dksX9_expr_8 22 rfl rfl)
theorem dX9_expr_207 : decode cX9_expr 207 = .ok (.goto 4, 3) := dk_167 0 4 (dk_at dksX9_expr_9 0 rfl rfl)
theorem dX9_expr_210 : decode cX9_expr 210 = .ok (.iconst 5, 1) := dk_8 (dk_at dksX9_expr_9 3 rfl rfl)
theorem dX9_expr_211 : decode cX9_expr 211 = .ok (.invokevirtual 259, 3) := dk_182 1 3 (dk_at dksX9_expr_9 4 rfl rfl)
theorem dX9_expr_214 : decode cX9_expr 214 = .ok (.aload_n 0, 1) := dk_42 (dk_at dksX9_expr_9 7 rfl rfl)
theorem dX9_expr_215 : decode cX9_expr 215 = .ok (.invokevirtual 230, 3) := dk_182 0 230 (dk_at dksX9_expr_9 8 rfl rfl)
theorem dX9_expr_218 : decode cX9_expr 218 = .ok (.ifCond .ne 5, 3) := dk_154 0 5 (dk_at dksX9_expr_9 11 rfl rfl)
theorem dX9_expr_221 : decode cX9_expr 221 = .ok (.iconst 0, 1) := dk_3 (dk_at dksX9_expr_9 14 rfl rfl)
theorem dX9_expr_222 : decode cX9_expr 222 = .ok (.ireturn, 1) := dk_172 (dk_at dksX9_expr_9 15 rfl rfl)
theorem dX9_expr_223 : decode cX9_expr 223 = .ok (.iconst 1, 1) := dk_4 (dk_at dksX9_expr_9 16 rfl rfl)
theorem dX9_expr_224 : decode cX9_expr 224 = .ok (.istore_n 2, 1) := dk_61 (dk_at dksX9_expr_9 17 rfl rfl)
theorem dX9_expr_225 : decode cX9_expr 225 = .ok (.goto (-204), 3) := dk_167 255 52 (dk_at dksX9_expr_9 18 rfl rfl)
theorem dX9_expr_228 : decode cX9_expr 228 = .ok (.aload_n 0, 1) := dk_42 (dk_at dksX9_expr_9 21 rfl rfl)
theorem dX9_expr_229 : decode cX9_expr 229 = .ok (.bipush 43, 2) := dk_16 43 (dk_at dksX9_expr_9 22 rfl rfl)
theorem dX9_expr_231 : decode cX9_expr 231 = .ok (.invokevirtual 256, 3) := dk_182 1 0 (dk_at dksX9_expr_10 0 rfl rfl)
theorem dX9_expr_234 : decode cX9_expr 234 = .ok (.ifCond .ne 12, 3) := dk_154 0 12 (dk_at dksX9_expr_10 3 rfl rfl)
theorem dX9_expr_237 : decode cX9_expr 237 = .ok (.aload_n 0, 1) := dk_42 (dk_at dksX9_expr_10 6 rfl rfl)
theorem dX9_expr_238 : decode cX9_expr 238 = .ok (.bipush 45, 2) := dk_16 45 (dk_at dksX9_expr_10 7 rfl rfl)
theorem dX9_expr_240 : decode cX9_expr 240 = .ok (.invokevirtual 256, 3) := dk_182 1 0 (dk_at dksX9_expr_10 9 rfl rfl)
theorem dX9_expr_243 : decode cX9_expr 243 = .ok (.ifCond .eq 41, 3) := dk_153 0 41 (dk_at dksX9_expr_10 12 rfl rfl)
theorem dX9_expr_246 : decode cX9_expr 246 = .ok (.aload_n 0, 1) := dk_42 (dk_at dksX9_expr_10 15 rfl rfl)
theorem dX9_expr_247 : decode cX9_expr 247 = .ok (.iconst 1, 1) := dk_4 (dk_at dksX9_expr_10 16 rfl rfl)
theorem dX9_expr_248 : decode cX9_expr 248 = .ok (.iconst 0, 1) := dk_3 (dk_at dksX9_expr_10 17 rfl rfl)
theorem dX9_expr_249 : decode cX9_expr 249 = .ok (.invokevirtual 265, 3) := dk_182 1 9 (dk_at dksX9_expr_10 18 rfl rfl)
theorem dX9_expr_252 : decode cX9_expr 252 = .ok (.aload_n 0, 1) := dk_42 (dk_at dksX9_expr_10 21 rfl rfl)
theorem dX9_expr_253 : decode cX9_expr 253 = .ok (.aload_n 0, 1) := dk_42 (dk_at dksX9_expr_10 22 rfl rfl)
theorem dX9_expr_254 : decode cX9_expr 254 = .ok (.bipush 43, 2) := dk_16 43 (dk_at dksX9_expr_11 0 rfl rfl)
theorem dX9_expr_256 : decode cX9_expr 256 = .ok (.invokevirtual 256, 3) := dk_182 1 0 (dk_at dksX9_expr_11 2 rfl rfl)
theorem dX9_expr_259 : decode cX9_expr 259 = .ok (.ifCond .eq 7, 3) := dk_153 0 7 (dk_at dksX9_expr_11 5 rfl rfl)
theorem dX9_expr_262 : decode cX9_expr 262 = .ok (.iconst 2, 1) := dk_5 (dk_at dksX9_expr_11 8 rfl rfl)
theorem dX9_expr_263 : decode cX9_expr 263 = .ok (.goto 4, 3) := dk_167 0 4 (dk_at dksX9_expr_11 9 rfl rfl)
theorem dX9_expr_266 : decode cX9_expr 266 = .ok (.iconst 3, 1) := dk_6 (dk_at dksX9_expr_11 12 rfl rfl)
theorem dX9_expr_267 : decode cX9_expr 267 = .ok (.invokevirtual 259, 3) := dk_182 1 3 (dk_at dksX9_expr_11 13 rfl rfl)
theorem dX9_expr_270 : decode cX9_expr 270 = .ok (.aload_n 0, 1) := dk_42 (dk_at dksX9_expr_11 16 rfl rfl)
theorem dX9_expr_271 : decode cX9_expr 271 = .ok (.invokevirtual 230, 3) := dk_182 0 230 (dk_at dksX9_expr_11 17 rfl rfl)
theorem dX9_expr_274 : decode cX9_expr 274 = .ok (.ifCond .ne 5, 3) := dk_154 0 5 (dk_at dksX9_expr_11 20 rfl rfl)
theorem dX9_expr_277 : decode cX9_expr 277 = .ok (.iconst 0, 1) := dk_3 (dk_at dksX9_expr_11 23 rfl rfl)
theorem dX9_expr_278 : decode cX9_expr 278 = .ok (.ireturn, 1) := dk_172 (dk_at dksX9_expr_12 0 rfl rfl)
theorem dX9_expr_279 : decode cX9_expr 279 = .ok (.iconst 1, 1) := dk_4 (dk_at dksX9_expr_12 1 rfl rfl)
theorem dX9_expr_280 : decode cX9_expr 280 = .ok (.istore_n 2, 1) := dk_61 (dk_at dksX9_expr_12 2 rfl rfl)
theorem dX9_expr_281 : decode cX9_expr 281 = .ok (.goto (-260), 3) := dk_167 254 252 (dk_at dksX9_expr_12 3 rfl rfl)
theorem dX9_expr_284 : decode cX9_expr 284 = .ok (.iload_n 1, 1) := dk_27 (dk_at dksX9_expr_12 6 rfl rfl)
theorem dX9_expr_285 : decode cX9_expr 285 = .ok (.ifCond .le 49, 3) := dk_158 0 49 (dk_at dksX9_expr_12 7 rfl rfl)
theorem dX9_expr_288 : decode cX9_expr 288 = .ok (.aload_n 0, 1) := dk_42 (dk_at dksX9_expr_12 10 rfl rfl)
theorem dX9_expr_289 : decode cX9_expr 289 = .ok (.bipush 41, 2) := dk_16 41 (dk_at dksX9_expr_12 11 rfl rfl)
theorem dX9_expr_291 : decode cX9_expr 291 = .ok (.invokevirtual 256, 3) := dk_182 1 0 (dk_at dksX9_expr_12 13 rfl rfl)
theorem dX9_expr_294 : decode cX9_expr 294 = .ok (.ifCond .ne 9, 3) := dk_154 0 9 (dk_at dksX9_expr_12 16 rfl rfl)
theorem dX9_expr_297 : decode cX9_expr 297 = .ok (.aload_n 0, 1) := dk_42 (dk_at dksX9_expr_12 19 rfl rfl)
theorem dX9_expr_298 : decode cX9_expr 298 = .ok (.iconst 1, 1) := dk_4 (dk_at dksX9_expr_12 20 rfl rfl)
theorem dX9_expr_299 : decode cX9_expr 299 = .ok (.invokevirtual 227, 3) := dk_182 0 227 (dk_at dksX9_expr_12 21 rfl rfl)
theorem dX9_expr_302 : decode cX9_expr 302 = .ok (.ireturn, 1) := dk_172 (dk_at dksX9_expr_13 0 rfl rfl)
theorem dX9_expr_303 : decode cX9_expr 303 = .ok (.aload_n 0, 1) := dk_42 (dk_at dksX9_expr_13 1 rfl rfl)
theorem dX9_expr_304 : decode cX9_expr 304 = .ok (.invokevirtual 230, 3) := dk_182 0 230 (dk_at dksX9_expr_13 2 rfl rfl)
theorem dX9_expr_307 : decode cX9_expr 307 = .ok (.ifCond .ne 5, 3) := dk_154 0 5 (dk_at dksX9_expr_13 5 rfl rfl)
theorem dX9_expr_310 : decode cX9_expr 310 = .ok (.iconst 0, 1) := dk_3 (dk_at dksX9_expr_13 8 rfl rfl)
theorem dX9_expr_311 : decode cX9_expr 311 = .ok (.ireturn, 1) := dk_172 (dk_at dksX9_expr_13 9 rfl rfl)
theorem dX9_expr_312 : decode cX9_expr 312 = .ok (.aload_n 0, 1) := dk_42 (dk_at dksX9_expr_13 10 rfl rfl)
theorem dX9_expr_313 : decode cX9_expr 313 = .ok (.iconst 1, 1) := dk_4 (dk_at dksX9_expr_13 11 rfl rfl)
theorem dX9_expr_314 : decode cX9_expr 314 = .ok (.iconst 0, 1) := dk_3 (dk_at dksX9_expr_13 12 rfl rfl)
theorem dX9_expr_315 : decode cX9_expr 315 = .ok (.invokevirtual 265, 3) := dk_182 1 9 (dk_at dksX9_expr_13 13 rfl rfl)
theorem dX9_expr_318 : decode cX9_expr 318 = .ok (.aload_n 0, 1) := dk_42 (dk_at dksX9_expr_13 16 rfl rfl)
theorem dX9_expr_319 : decode cX9_expr 319 = .ok (.dup, 1) := dk_89 (dk_at dksX9_expr_13 17 rfl rfl)
theorem dX9_expr_320 : decode cX9_expr 320 = .ok (.getfield 244, 3) := dk_180 0 244 (dk_at dksX9_expr_13 18 rfl rfl)
theorem dX9_expr_323 : decode cX9_expr 323 = .ok (.iconst 1, 1) := dk_4 (dk_at dksX9_expr_13 21 rfl rfl)
theorem dX9_expr_324 : decode cX9_expr 324 = .ok (.isub, 1) := dk_100 (dk_at dksX9_expr_13 22 rfl rfl)
theorem dX9_expr_325 : decode cX9_expr 325 = .ok (.putfield 244, 3) := dk_181 0 244 (dk_at dksX9_expr_14 0 rfl rfl)
theorem dX9_expr_328 : decode cX9_expr 328 = .ok (.iinc 1 (-1), 3) := dk_132 1 255 (dk_at dksX9_expr_14 3 rfl rfl)
theorem dX9_expr_331 : decode cX9_expr 331 = .ok (.goto (-310), 3) := dk_167 254 202 (dk_at dksX9_expr_14 6 rfl rfl)
theorem dX9_expr_334 : decode cX9_expr 334 = .ok (.iconst 0, 1) := dk_3 (dk_at dksX9_expr_14 9 rfl rfl)
theorem dX9_expr_335 : decode cX9_expr 335 = .ok (.istore_n 3, 1) := dk_62 (dk_at dksX9_expr_14 10 rfl rfl)
theorem dX9_expr_336 : decode cX9_expr 336 = .ok (.goto (-315), 3) := dk_167 254 197 (dk_at dksX9_expr_14 11 rfl rfl)
theorem dX9_expr_339 : decode cX9_expr 339 = .ok (.aload_n 0, 1) := dk_42 (dk_at dksX9_expr_14 14 rfl rfl)
theorem dX9_expr_340 : decode cX9_expr 340 = .ok (.iconst 1, 1) := dk_4 (dk_at dksX9_expr_14 15 rfl rfl)
theorem dX9_expr_341 : decode cX9_expr 341 = .ok (.iconst 0, 1) := dk_3 (dk_at dksX9_expr_14 16 rfl rfl)
theorem dX9_expr_342 : decode cX9_expr 342 = .ok (.invokevirtual 265, 3) := dk_182 1 9 (dk_at dksX9_expr_14 17 rfl rfl)
theorem dX9_expr_345 : decode cX9_expr 345 = .ok (.iconst 1, 1) := dk_4 (dk_at dksX9_expr_14 20 rfl rfl)
theorem dX9_expr_346 : decode cX9_expr 346 = .ok (.ireturn, 1) := dk_172 (dk_at dksX9_expr_14 21 rfl rfl)
abbrev cX9_await : ByteArray := prog_23_method_23_code
def yX9_await : MethodName := ⟨RX9, "await", "(I)V"⟩
def dkwX9_await_0 : List UInt8 := [42, 180, 0, 79, 42, 180, 0, 244, 27, 79, 42, 89, 180, 0, 244, 4, 96, 181, 0, 244, 177]
abbrev dktX9_await_0 : List UInt8 := dkwX9_await_0 ++ []
theorem dksX9_await_0 : cX9_await.data.toList.drop 0 = dktX9_await_0 := by decide +kernel
theorem dX9_await_0 : decode cX9_await 0 = .ok (.aload_n 0, 1) := dk_42 (dk_at dksX9_await_0 0 rfl rfl)
theorem dX9_await_1 : decode cX9_await 1 = .ok (.getfield 79, 3) := dk_180 0 79 (dk_at dksX9_await_0 1 rfl rfl)
theorem dX9_await_4 : decode cX9_await 4 = .ok (.aload_n 0, 1) := dk_42 (dk_at dksX9_await_0 4 rfl rfl)
theorem dX9_await_5 : decode cX9_await 5 = .ok (.getfield 244, 3) := dk_180 0 244 (dk_at dksX9_await_0 5 rfl rfl)
theorem dX9_await_8 : decode cX9_await 8 = .ok (.iload_n 1, 1) := dk_27 (dk_at dksX9_await_0 8 rfl rfl)
theorem dX9_await_9 : decode cX9_await 9 = .ok (.iastore, 1) := dk_79 (dk_at dksX9_await_0 9 rfl rfl)
theorem dX9_await_10 : decode cX9_await 10 = .ok (.aload_n 0, 1) := dk_42 (dk_at dksX9_await_0 10 rfl rfl)
theorem dX9_await_11 : decode cX9_await 11 = .ok (.dup, 1) := dk_89 (dk_at dksX9_await_0 11 rfl rfl)
theorem dX9_await_12 : decode cX9_await 12 = .ok (.getfield 244, 3) := dk_180 0 244 (dk_at dksX9_await_0 12 rfl rfl)
theorem dX9_await_15 : decode cX9_await 15 = .ok (.iconst 1, 1) := dk_4 (dk_at dksX9_await_0 15 rfl rfl)
theorem dX9_await_16 : decode cX9_await 16 = .ok (.iadd, 1) := dk_96 (dk_at dksX9_await_0 16 rfl rfl)
theorem dX9_await_17 : decode cX9_await 17 = .ok (.putfield 244, 3) := dk_181 0 244 (dk_at dksX9_await_0 17 rfl rfl)
theorem dX9_await_20 : decode cX9_await 20 = .ok (.return_, 1) := dk_177 (dk_at dksX9_await_0 20 rfl rfl)
abbrev cX9_variableOf : ByteArray := prog_23_method_24_code
def yX9_variableOf : MethodName := ⟨RX9, "variableOf", "(I)I"⟩
def dkwX9_variableOf_0 : List UInt8 := [26, 16, 12, 164, 0, 16, 26, 16, 22, 162, 0, 10, 26, 16, 13, 100, 167, 0, 4, 2, 172]
abbrev dktX9_variableOf_0 : List UInt8 := dkwX9_variableOf_0 ++ []
theorem dksX9_variableOf_0 : cX9_variableOf.data.toList.drop 0 = dktX9_variableOf_0 := by decide +kernel
theorem dX9_variableOf_0 : decode cX9_variableOf 0 = .ok (.iload_n 0, 1) := dk_26 (dk_at dksX9_variableOf_0 0 rfl rfl)
theorem dX9_variableOf_1 : decode cX9_variableOf 1 = .ok (.bipush 12, 2) := dk_16 12 (dk_at dksX9_variableOf_0 1 rfl rfl)
theorem dX9_variableOf_3 : decode cX9_variableOf 3 = .ok (.if_icmp .le 16, 3) := dk_164 0 16 (dk_at dksX9_variableOf_0 3 rfl rfl)
theorem dX9_variableOf_6 : decode cX9_variableOf 6 = .ok (.iload_n 0, 1) := dk_26 (dk_at dksX9_variableOf_0 6 rfl rfl)
theorem dX9_variableOf_7 : decode cX9_variableOf 7 = .ok (.bipush 22, 2) := dk_16 22 (dk_at dksX9_variableOf_0 7 rfl rfl)
theorem dX9_variableOf_9 : decode cX9_variableOf 9 = .ok (.if_icmp .ge 10, 3) := dk_162 0 10 (dk_at dksX9_variableOf_0 9 rfl rfl)
theorem dX9_variableOf_12 : decode cX9_variableOf 12 = .ok (.iload_n 0, 1) := dk_26 (dk_at dksX9_variableOf_0 12 rfl rfl)
theorem dX9_variableOf_13 : decode cX9_variableOf 13 = .ok (.bipush 13, 2) := dk_16 13 (dk_at dksX9_variableOf_0 13 rfl rfl)
theorem dX9_variableOf_15 : decode cX9_variableOf 15 = .ok (.isub, 1) := dk_100 (dk_at dksX9_variableOf_0 15 rfl rfl)
theorem dX9_variableOf_16 : decode cX9_variableOf 16 = .ok (.goto 4, 3) := dk_167 0 4 (dk_at dksX9_variableOf_0 16 rfl rfl)
theorem dX9_variableOf_19 : decode cX9_variableOf 19 = .ok (.iconst (-1), 1) := dk_2 (dk_at dksX9_variableOf_0 19 rfl rfl)
theorem dX9_variableOf_20 : decode cX9_variableOf 20 = .ok (.ireturn, 1) := dk_172 (dk_at dksX9_variableOf_0 20 rfl rfl)
abbrev cX9_emit : ByteArray := prog_23_method_20_code
def yX9_emit : MethodName := ⟨RX9, "emit", "(II)V"⟩
def dkwX9_emit_1 : List UInt8 := [180, 0, 36, 4, 46, 96, 28, 79, 42, 180, 0, 36, 4, 92, 46, 4, 96, 79, 177]
abbrev dktX9_emit_1 : List UInt8 := dkwX9_emit_1 ++ []
def dkwX9_emit_0 : List UInt8 := [42, 180, 0, 39, 17, 1, 244, 42, 180, 0, 36, 4, 46, 96, 27, 79, 42, 180, 0, 42, 17, 1, 244, 42]
abbrev dktX9_emit_0 : List UInt8 := dkwX9_emit_0 ++ dktX9_emit_1
theorem dksX9_emit_0 : cX9_emit.data.toList.drop 0 = dktX9_emit_0 := by decide +kernel
theorem dksX9_emit_1 : cX9_emit.data.toList.drop 24 = dktX9_emit_1 := dk_seg dksX9_emit_0 24 rfl rfl
theorem dX9_emit_0 : decode cX9_emit 0 = .ok (.aload_n 0, 1) := dk_42 (dk_at dksX9_emit_0 0 rfl rfl)
theorem dX9_emit_1 : decode cX9_emit 1 = .ok (.getfield 39, 3) := dk_180 0 39 (dk_at dksX9_emit_0 1 rfl rfl)
theorem dX9_emit_4 : decode cX9_emit 4 = .ok (.sipush 500, 3) := dk_17 1 244 (dk_at dksX9_emit_0 4 rfl rfl)
theorem dX9_emit_7 : decode cX9_emit 7 = .ok (.aload_n 0, 1) := dk_42 (dk_at dksX9_emit_0 7 rfl rfl)
theorem dX9_emit_8 : decode cX9_emit 8 = .ok (.getfield 36, 3) := dk_180 0 36 (dk_at dksX9_emit_0 8 rfl rfl)
theorem dX9_emit_11 : decode cX9_emit 11 = .ok (.iconst 1, 1) := dk_4 (dk_at dksX9_emit_0 11 rfl rfl)
theorem dX9_emit_12 : decode cX9_emit 12 = .ok (.iaload, 1) := dk_46 (dk_at dksX9_emit_0 12 rfl rfl)
theorem dX9_emit_13 : decode cX9_emit 13 = .ok (.iadd, 1) := dk_96 (dk_at dksX9_emit_0 13 rfl rfl)
theorem dX9_emit_14 : decode cX9_emit 14 = .ok (.iload_n 1, 1) := dk_27 (dk_at dksX9_emit_0 14 rfl rfl)
theorem dX9_emit_15 : decode cX9_emit 15 = .ok (.iastore, 1) := dk_79 (dk_at dksX9_emit_0 15 rfl rfl)
theorem dX9_emit_16 : decode cX9_emit 16 = .ok (.aload_n 0, 1) := dk_42 (dk_at dksX9_emit_0 16 rfl rfl)
theorem dX9_emit_17 : decode cX9_emit 17 = .ok (.getfield 42, 3) := dk_180 0 42 (dk_at dksX9_emit_0 17 rfl rfl)
theorem dX9_emit_20 : decode cX9_emit 20 = .ok (.sipush 500, 3) := dk_17 1 244 (dk_at dksX9_emit_0 20 rfl rfl)
theorem dX9_emit_23 : decode cX9_emit 23 = .ok (.aload_n 0, 1) := dk_42 (dk_at dksX9_emit_0 23 rfl rfl)
theorem dX9_emit_24 : decode cX9_emit 24 = .ok (.getfield 36, 3) := dk_180 0 36 (dk_at dksX9_emit_1 0 rfl rfl)
theorem dX9_emit_27 : decode cX9_emit 27 = .ok (.iconst 1, 1) := dk_4 (dk_at dksX9_emit_1 3 rfl rfl)
theorem dX9_emit_28 : decode cX9_emit 28 = .ok (.iaload, 1) := dk_46 (dk_at dksX9_emit_1 4 rfl rfl)
theorem dX9_emit_29 : decode cX9_emit 29 = .ok (.iadd, 1) := dk_96 (dk_at dksX9_emit_1 5 rfl rfl)
theorem dX9_emit_30 : decode cX9_emit 30 = .ok (.iload_n 2, 1) := dk_28 (dk_at dksX9_emit_1 6 rfl rfl)
theorem dX9_emit_31 : decode cX9_emit 31 = .ok (.iastore, 1) := dk_79 (dk_at dksX9_emit_1 7 rfl rfl)
theorem dX9_emit_32 : decode cX9_emit 32 = .ok (.aload_n 0, 1) := dk_42 (dk_at dksX9_emit_1 8 rfl rfl)
theorem dX9_emit_33 : decode cX9_emit 33 = .ok (.getfield 36, 3) := dk_180 0 36 (dk_at dksX9_emit_1 9 rfl rfl)
theorem dX9_emit_36 : decode cX9_emit 36 = .ok (.iconst 1, 1) := dk_4 (dk_at dksX9_emit_1 12 rfl rfl)
theorem dX9_emit_37 : decode cX9_emit 37 = .ok (.dup2, 1) := dk_92 (dk_at dksX9_emit_1 13 rfl rfl)
theorem dX9_emit_38 : decode cX9_emit 38 = .ok (.iaload, 1) := dk_46 (dk_at dksX9_emit_1 14 rfl rfl)
theorem dX9_emit_39 : decode cX9_emit 39 = .ok (.iconst 1, 1) := dk_4 (dk_at dksX9_emit_1 15 rfl rfl)
theorem dX9_emit_40 : decode cX9_emit 40 = .ok (.iadd, 1) := dk_96 (dk_at dksX9_emit_1 16 rfl rfl)
theorem dX9_emit_41 : decode cX9_emit 41 = .ok (.iastore, 1) := dk_79 (dk_at dksX9_emit_1 17 rfl rfl)
theorem dX9_emit_42 : decode cX9_emit 42 = .ok (.return_, 1) := dk_177 (dk_at dksX9_emit_1 18 rfl rfl)
abbrev cX9_reduce : ByteArray := prog_23_method_22_code
def yX9_reduce : MethodName := ⟨RX9, "reduce", "(II)V"⟩
def dkwX9_reduce_2 : List UInt8 := [182, 0, 250, 167, 255, 206, 177]
abbrev dktX9_reduce_2 : List UInt8 := dkwX9_reduce_2 ++ []
def dkwX9_reduce_1 : List UInt8 := [161, 0, 30, 42, 89, 180, 0, 244, 4, 100, 181, 0, 244, 42, 42, 180, 0, 79, 42, 180, 0, 244, 46, 3]
abbrev dktX9_reduce_1 : List UInt8 := dkwX9_reduce_1 ++ dktX9_reduce_2
def dkwX9_reduce_0 : List UInt8 := [42, 180, 0, 244, 28, 164, 0, 48, 42, 180, 0, 79, 42, 180, 0, 244, 4, 100, 46, 184, 0, 247, 27]
abbrev dktX9_reduce_0 : List UInt8 := dkwX9_reduce_0 ++ dktX9_reduce_1
theorem dksX9_reduce_0 : cX9_reduce.data.toList.drop 0 = dktX9_reduce_0 := by decide +kernel
theorem dksX9_reduce_1 : cX9_reduce.data.toList.drop 23 = dktX9_reduce_1 := dk_seg dksX9_reduce_0 23 rfl rfl
theorem dksX9_reduce_2 : cX9_reduce.data.toList.drop 47 = dktX9_reduce_2 := dk_seg dksX9_reduce_1 24 rfl rfl
theorem dX9_reduce_0 : decode cX9_reduce 0 = .ok (.aload_n 0, 1) := dk_42 (dk_at dksX9_reduce_0 0 rfl rfl)
theorem dX9_reduce_1 : decode cX9_reduce 1 = .ok (.getfield 244, 3) := dk_180 0 244 (dk_at dksX9_reduce_0 1 rfl rfl)
theorem dX9_reduce_4 : decode cX9_reduce 4 = .ok (.iload_n 2, 1) := dk_28 (dk_at dksX9_reduce_0 4 rfl rfl)
theorem dX9_reduce_5 : decode cX9_reduce 5 = .ok (.if_icmp .le 48, 3) := dk_164 0 48 (dk_at dksX9_reduce_0 5 rfl rfl)
theorem dX9_reduce_8 : decode cX9_reduce 8 = .ok (.aload_n 0, 1) := dk_42 (dk_at dksX9_reduce_0 8 rfl rfl)
theorem dX9_reduce_9 : decode cX9_reduce 9 = .ok (.getfield 79, 3) := dk_180 0 79 (dk_at dksX9_reduce_0 9 rfl rfl)
theorem dX9_reduce_12 : decode cX9_reduce 12 = .ok (.aload_n 0, 1) := dk_42 (dk_at dksX9_reduce_0 12 rfl rfl)
theorem dX9_reduce_13 : decode cX9_reduce 13 = .ok (.getfield 244, 3) := dk_180 0 244 (dk_at dksX9_reduce_0 13 rfl rfl)
theorem dX9_reduce_16 : decode cX9_reduce 16 = .ok (.iconst 1, 1) := dk_4 (dk_at dksX9_reduce_0 16 rfl rfl)
theorem dX9_reduce_17 : decode cX9_reduce 17 = .ok (.isub, 1) := dk_100 (dk_at dksX9_reduce_0 17 rfl rfl)
theorem dX9_reduce_18 : decode cX9_reduce 18 = .ok (.iaload, 1) := dk_46 (dk_at dksX9_reduce_0 18 rfl rfl)
theorem dX9_reduce_19 : decode cX9_reduce 19 = .ok (.invokestatic 247, 3) := dk_184 0 247 (dk_at dksX9_reduce_0 19 rfl rfl)
theorem dX9_reduce_22 : decode cX9_reduce 22 = .ok (.iload_n 1, 1) := dk_27 (dk_at dksX9_reduce_0 22 rfl rfl)
theorem dX9_reduce_23 : decode cX9_reduce 23 = .ok (.if_icmp .lt 30, 3) := dk_161 0 30 (dk_at dksX9_reduce_1 0 rfl rfl)
theorem dX9_reduce_26 : decode cX9_reduce 26 = .ok (.aload_n 0, 1) := dk_42 (dk_at dksX9_reduce_1 3 rfl rfl)
theorem dX9_reduce_27 : decode cX9_reduce 27 = .ok (.dup, 1) := dk_89 (dk_at dksX9_reduce_1 4 rfl rfl)
theorem dX9_reduce_28 : decode cX9_reduce 28 = .ok (.getfield 244, 3) := dk_180 0 244 (dk_at dksX9_reduce_1 5 rfl rfl)
theorem dX9_reduce_31 : decode cX9_reduce 31 = .ok (.iconst 1, 1) := dk_4 (dk_at dksX9_reduce_1 8 rfl rfl)
theorem dX9_reduce_32 : decode cX9_reduce 32 = .ok (.isub, 1) := dk_100 (dk_at dksX9_reduce_1 9 rfl rfl)
theorem dX9_reduce_33 : decode cX9_reduce 33 = .ok (.putfield 244, 3) := dk_181 0 244 (dk_at dksX9_reduce_1 10 rfl rfl)
theorem dX9_reduce_36 : decode cX9_reduce 36 = .ok (.aload_n 0, 1) := dk_42 (dk_at dksX9_reduce_1 13 rfl rfl)
theorem dX9_reduce_37 : decode cX9_reduce 37 = .ok (.aload_n 0, 1) := dk_42 (dk_at dksX9_reduce_1 14 rfl rfl)
theorem dX9_reduce_38 : decode cX9_reduce 38 = .ok (.getfield 79, 3) := dk_180 0 79 (dk_at dksX9_reduce_1 15 rfl rfl)
theorem dX9_reduce_41 : decode cX9_reduce 41 = .ok (.aload_n 0, 1) := dk_42 (dk_at dksX9_reduce_1 18 rfl rfl)
theorem dX9_reduce_42 : decode cX9_reduce 42 = .ok (.getfield 244, 3) := dk_180 0 244 (dk_at dksX9_reduce_1 19 rfl rfl)
theorem dX9_reduce_45 : decode cX9_reduce 45 = .ok (.iaload, 1) := dk_46 (dk_at dksX9_reduce_1 22 rfl rfl)
theorem dX9_reduce_46 : decode cX9_reduce 46 = .ok (.iconst 0, 1) := dk_3 (dk_at dksX9_reduce_1 23 rfl rfl)
theorem dX9_reduce_47 : decode cX9_reduce 47 = .ok (.invokevirtual 250, 3) := dk_182 0 250 (dk_at dksX9_reduce_2 0 rfl rfl)
theorem dX9_reduce_50 : decode cX9_reduce 50 = .ok (.goto (-50), 3) := dk_167 255 206 (dk_at dksX9_reduce_2 3 rfl rfl)
theorem dX9_reduce_53 : decode cX9_reduce 53 = .ok (.return_, 1) := dk_177 (dk_at dksX9_reduce_2 6 rfl rfl)
abbrev cX9_rank : ByteArray := prog_23_method_21_code
def yX9_rank : MethodName := ⟨RX9, "rank", "(I)I"⟩
def dkwX9_rank_0 : List UInt8 := [26, 6, 164, 0, 7, 5, 167, 0, 13, 26, 4, 164, 0, 7, 4, 167, 0, 4, 3, 172]
abbrev dktX9_rank_0 : List UInt8 := dkwX9_rank_0 ++ []
theorem dksX9_rank_0 : cX9_rank.data.toList.drop 0 = dktX9_rank_0 := by decide +kernel
theorem dX9_rank_0 : decode cX9_rank 0 = .ok (.iload_n 0, 1) := dk_26 (dk_at dksX9_rank_0 0 rfl rfl)
theorem dX9_rank_1 : decode cX9_rank 1 = .ok (.iconst 3, 1) := dk_6 (dk_at dksX9_rank_0 1 rfl rfl)
theorem dX9_rank_2 : decode cX9_rank 2 = .ok (.if_icmp .le 7, 3) := dk_164 0 7 (dk_at dksX9_rank_0 2 rfl rfl)
theorem dX9_rank_5 : decode cX9_rank 5 = .ok (.iconst 2, 1) := dk_5 (dk_at dksX9_rank_0 5 rfl rfl)
theorem dX9_rank_6 : decode cX9_rank 6 = .ok (.goto 13, 3) := dk_167 0 13 (dk_at dksX9_rank_0 6 rfl rfl)
theorem dX9_rank_9 : decode cX9_rank 9 = .ok (.iload_n 0, 1) := dk_26 (dk_at dksX9_rank_0 9 rfl rfl)
theorem dX9_rank_10 : decode cX9_rank 10 = .ok (.iconst 1, 1) := dk_4 (dk_at dksX9_rank_0 10 rfl rfl)
theorem dX9_rank_11 : decode cX9_rank 11 = .ok (.if_icmp .le 7, 3) := dk_164 0 7 (dk_at dksX9_rank_0 11 rfl rfl)
theorem dX9_rank_14 : decode cX9_rank 14 = .ok (.iconst 1, 1) := dk_4 (dk_at dksX9_rank_0 14 rfl rfl)
theorem dX9_rank_15 : decode cX9_rank 15 = .ok (.goto 4, 3) := dk_167 0 4 (dk_at dksX9_rank_0 15 rfl rfl)
theorem dX9_rank_18 : decode cX9_rank 18 = .ok (.iconst 0, 1) := dk_3 (dk_at dksX9_rank_0 18 rfl rfl)
theorem dX9_rank_19 : decode cX9_rank 19 = .ok (.ireturn, 1) := dk_172 (dk_at dksX9_rank_0 19 rfl rfl)
abbrev cX9_tellRule : ByteArray := prog_23_method_43_code
def yX9_tellRule : MethodName := ⟨RX9, "tellRule", "(II)Z"⟩
def dkwX9_tellRule_3 : List UInt8 := [96, 42, 180, 0, 45, 4, 46, 182, 1, 36, 4, 172]
abbrev dktX9_tellRule_3 : List UInt8 := dkwX9_tellRule_3 ++ []
def dkwX9_tellRule_2 : List UInt8 := [153, 0, 10, 42, 182, 1, 52, 154, 0, 5, 3, 172, 42, 29, 42, 180, 1, 12, 182, 1, 36, 42, 29, 4]
abbrev dktX9_tellRule_2 : List UInt8 := dkwX9_tellRule_2 ++ dktX9_tellRule_3
def dkwX9_tellRule_1 : List UInt8 := [154, 0, 5, 3, 172, 42, 16, 8, 182, 1, 15, 154, 0, 9, 42, 4, 182, 0, 227, 172, 42, 182, 0, 230]
abbrev dktX9_tellRule_1 : List UInt8 := dkwX9_tellRule_1 ++ dktX9_tellRule_2
def dkwX9_tellRule_0 : List UInt8 := [42, 27, 7, 28, 5, 182, 1, 39, 62, 29, 156, 0, 9, 42, 5, 182, 0, 227, 172, 42, 182, 0, 230]
abbrev dktX9_tellRule_0 : List UInt8 := dkwX9_tellRule_0 ++ dktX9_tellRule_1
theorem dksX9_tellRule_0 : cX9_tellRule.data.toList.drop 0 = dktX9_tellRule_0 := by decide +kernel
theorem dksX9_tellRule_1 : cX9_tellRule.data.toList.drop 23 = dktX9_tellRule_1 := dk_seg dksX9_tellRule_0 23 rfl rfl
theorem dksX9_tellRule_2 : cX9_tellRule.data.toList.drop 47 = dktX9_tellRule_2 := dk_seg dksX9_tellRule_1 24 rfl rfl
theorem dksX9_tellRule_3 : cX9_tellRule.data.toList.drop 71 = dktX9_tellRule_3 := dk_seg dksX9_tellRule_2 24 rfl rfl
theorem dX9_tellRule_0 : decode cX9_tellRule 0 = .ok (.aload_n 0, 1) := dk_42 (dk_at dksX9_tellRule_0 0 rfl rfl)
theorem dX9_tellRule_1 : decode cX9_tellRule 1 = .ok (.iload_n 1, 1) := dk_27 (dk_at dksX9_tellRule_0 1 rfl rfl)
theorem dX9_tellRule_2 : decode cX9_tellRule 2 = .ok (.iconst 4, 1) := dk_7 (dk_at dksX9_tellRule_0 2 rfl rfl)
theorem dX9_tellRule_3 : decode cX9_tellRule 3 = .ok (.iload_n 2, 1) := dk_28 (dk_at dksX9_tellRule_0 3 rfl rfl)
theorem dX9_tellRule_4 : decode cX9_tellRule 4 = .ok (.iconst 2, 1) := dk_5 (dk_at dksX9_tellRule_0 4 rfl rfl)
theorem dX9_tellRule_5 : decode cX9_tellRule 5 = .ok (.invokevirtual 295, 3) := dk_182 1 39 (dk_at dksX9_tellRule_0 5 rfl rfl)
theorem dX9_tellRule_8 : decode cX9_tellRule 8 = .ok (.istore_n 3, 1) := dk_62 (dk_at dksX9_tellRule_0 8 rfl rfl)
theorem dX9_tellRule_9 : decode cX9_tellRule 9 = .ok (.iload_n 3, 1) := dk_29 (dk_at dksX9_tellRule_0 9 rfl rfl)
theorem dX9_tellRule_10 : decode cX9_tellRule 10 = .ok (.ifCond .ge 9, 3) := dk_156 0 9 (dk_at dksX9_tellRule_0 10 rfl rfl)
theorem dX9_tellRule_13 : decode cX9_tellRule 13 = .ok (.aload_n 0, 1) := dk_42 (dk_at dksX9_tellRule_0 13 rfl rfl)
theorem dX9_tellRule_14 : decode cX9_tellRule 14 = .ok (.iconst 2, 1) := dk_5 (dk_at dksX9_tellRule_0 14 rfl rfl)
theorem dX9_tellRule_15 : decode cX9_tellRule 15 = .ok (.invokevirtual 227, 3) := dk_182 0 227 (dk_at dksX9_tellRule_0 15 rfl rfl)
theorem dX9_tellRule_18 : decode cX9_tellRule 18 = .ok (.ireturn, 1) := dk_172 (dk_at dksX9_tellRule_0 18 rfl rfl)
theorem dX9_tellRule_19 : decode cX9_tellRule 19 = .ok (.aload_n 0, 1) := dk_42 (dk_at dksX9_tellRule_0 19 rfl rfl)
theorem dX9_tellRule_20 : decode cX9_tellRule 20 = .ok (.invokevirtual 230, 3) := dk_182 0 230 (dk_at dksX9_tellRule_0 20 rfl rfl)
theorem dX9_tellRule_23 : decode cX9_tellRule 23 = .ok (.ifCond .ne 5, 3) := dk_154 0 5 (dk_at dksX9_tellRule_1 0 rfl rfl)
theorem dX9_tellRule_26 : decode cX9_tellRule 26 = .ok (.iconst 0, 1) := dk_3 (dk_at dksX9_tellRule_1 3 rfl rfl)
theorem dX9_tellRule_27 : decode cX9_tellRule 27 = .ok (.ireturn, 1) := dk_172 (dk_at dksX9_tellRule_1 4 rfl rfl)
theorem dX9_tellRule_28 : decode cX9_tellRule 28 = .ok (.aload_n 0, 1) := dk_42 (dk_at dksX9_tellRule_1 5 rfl rfl)
theorem dX9_tellRule_29 : decode cX9_tellRule 29 = .ok (.bipush 8, 2) := dk_16 8 (dk_at dksX9_tellRule_1 6 rfl rfl)
theorem dX9_tellRule_31 : decode cX9_tellRule 31 = .ok (.invokevirtual 271, 3) := dk_182 1 15 (dk_at dksX9_tellRule_1 8 rfl rfl)
theorem dX9_tellRule_34 : decode cX9_tellRule 34 = .ok (.ifCond .ne 9, 3) := dk_154 0 9 (dk_at dksX9_tellRule_1 11 rfl rfl)
theorem dX9_tellRule_37 : decode cX9_tellRule 37 = .ok (.aload_n 0, 1) := dk_42 (dk_at dksX9_tellRule_1 14 rfl rfl)
theorem dX9_tellRule_38 : decode cX9_tellRule 38 = .ok (.iconst 1, 1) := dk_4 (dk_at dksX9_tellRule_1 15 rfl rfl)
theorem dX9_tellRule_39 : decode cX9_tellRule 39 = .ok (.invokevirtual 227, 3) := dk_182 0 227 (dk_at dksX9_tellRule_1 16 rfl rfl)
theorem dX9_tellRule_42 : decode cX9_tellRule 42 = .ok (.ireturn, 1) := dk_172 (dk_at dksX9_tellRule_1 19 rfl rfl)
theorem dX9_tellRule_43 : decode cX9_tellRule 43 = .ok (.aload_n 0, 1) := dk_42 (dk_at dksX9_tellRule_1 20 rfl rfl)
theorem dX9_tellRule_44 : decode cX9_tellRule 44 = .ok (.invokevirtual 230, 3) := dk_182 0 230 (dk_at dksX9_tellRule_1 21 rfl rfl)
theorem dX9_tellRule_47 : decode cX9_tellRule 47 = .ok (.ifCond .eq 10, 3) := dk_153 0 10 (dk_at dksX9_tellRule_2 0 rfl rfl)
theorem dX9_tellRule_50 : decode cX9_tellRule 50 = .ok (.aload_n 0, 1) := dk_42 (dk_at dksX9_tellRule_2 3 rfl rfl)
theorem dX9_tellRule_51 : decode cX9_tellRule 51 = .ok (.invokevirtual 308, 3) := dk_182 1 52 (dk_at dksX9_tellRule_2 4 rfl rfl)
theorem dX9_tellRule_54 : decode cX9_tellRule 54 = .ok (.ifCond .ne 5, 3) := dk_154 0 5 (dk_at dksX9_tellRule_2 7 rfl rfl)
theorem dX9_tellRule_57 : decode cX9_tellRule 57 = .ok (.iconst 0, 1) := dk_3 (dk_at dksX9_tellRule_2 10 rfl rfl)
theorem dX9_tellRule_58 : decode cX9_tellRule 58 = .ok (.ireturn, 1) := dk_172 (dk_at dksX9_tellRule_2 11 rfl rfl)
theorem dX9_tellRule_59 : decode cX9_tellRule 59 = .ok (.aload_n 0, 1) := dk_42 (dk_at dksX9_tellRule_2 12 rfl rfl)
theorem dX9_tellRule_60 : decode cX9_tellRule 60 = .ok (.iload_n 3, 1) := dk_29 (dk_at dksX9_tellRule_2 13 rfl rfl)
theorem dX9_tellRule_61 : decode cX9_tellRule 61 = .ok (.aload_n 0, 1) := dk_42 (dk_at dksX9_tellRule_2 14 rfl rfl)
theorem dX9_tellRule_62 : decode cX9_tellRule 62 = .ok (.getfield 268, 3) := dk_180 1 12 (dk_at dksX9_tellRule_2 15 rfl rfl)
theorem dX9_tellRule_65 : decode cX9_tellRule 65 = .ok (.invokevirtual 292, 3) := dk_182 1 36 (dk_at dksX9_tellRule_2 18 rfl rfl)
theorem dX9_tellRule_68 : decode cX9_tellRule 68 = .ok (.aload_n 0, 1) := dk_42 (dk_at dksX9_tellRule_2 21 rfl rfl)
theorem dX9_tellRule_69 : decode cX9_tellRule 69 = .ok (.iload_n 3, 1) := dk_29 (dk_at dksX9_tellRule_2 22 rfl rfl)
theorem dX9_tellRule_70 : decode cX9_tellRule 70 = .ok (.iconst 1, 1) := dk_4 (dk_at dksX9_tellRule_2 23 rfl rfl)
theorem dX9_tellRule_71 : decode cX9_tellRule 71 = .ok (.iadd, 1) := dk_96 (dk_at dksX9_tellRule_3 0 rfl rfl)
theorem dX9_tellRule_72 : decode cX9_tellRule 72 = .ok (.aload_n 0, 1) := dk_42 (dk_at dksX9_tellRule_3 1 rfl rfl)
theorem dX9_tellRule_73 : decode cX9_tellRule 73 = .ok (.getfield 45, 3) := dk_180 0 45 (dk_at dksX9_tellRule_3 2 rfl rfl)
theorem dX9_tellRule_76 : decode cX9_tellRule 76 = .ok (.iconst 1, 1) := dk_4 (dk_at dksX9_tellRule_3 5 rfl rfl)
theorem dX9_tellRule_77 : decode cX9_tellRule 77 = .ok (.iaload, 1) := dk_46 (dk_at dksX9_tellRule_3 6 rfl rfl)
theorem dX9_tellRule_78 : decode cX9_tellRule 78 = .ok (.invokevirtual 292, 3) := dk_182 1 36 (dk_at dksX9_tellRule_3 7 rfl rfl)
theorem dX9_tellRule_81 : decode cX9_tellRule 81 = .ok (.iconst 1, 1) := dk_4 (dk_at dksX9_tellRule_3 10 rfl rfl)
theorem dX9_tellRule_82 : decode cX9_tellRule 82 = .ok (.ireturn, 1) := dk_172 (dk_at dksX9_tellRule_3 11 rfl rfl)
