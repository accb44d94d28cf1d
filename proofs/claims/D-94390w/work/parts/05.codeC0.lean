set_option maxRecDepth 100000
abbrev cX0_init : ByteArray := prog_1_method_4_code
def yX0_init : MethodName := ⟨RX0, "<init>", "()V"⟩
def dkwX0_init_9 : List UInt8 := [180, 0, 103, 27, 2, 79, 132, 1, 1, 167, 255, 237, 177]
abbrev dktX0_init_9 : List UInt8 := dkwX0_init_9 ++ []
def dkwX0_init_8 : List UInt8 := [183, 0, 65, 83, 132, 1, 1, 167, 255, 234, 3, 60, 27, 16, 16, 162, 0, 19, 42, 180, 0, 48]
abbrev dktX0_init_8 : List UInt8 := dkwX0_init_8 ++ dktX0_init_9
def dkwX0_init_7 : List UInt8 := [197, 0, 78, 2, 181, 0, 100, 3, 60, 27, 16, 20, 162, 0, 22, 42, 180, 0, 70, 27, 187, 0, 63, 89]
abbrev dktX0_init_7 : List UInt8 := dkwX0_init_7 ++ dktX0_init_8
def dkwX0_init_6 : List UInt8 := [42, 17, 1, 0, 188, 4, 181, 0, 93, 42, 16, 16, 188, 10, 181, 0, 97, 42, 16, 13, 16, 100]
abbrev dktX0_init_6 : List UInt8 := dkwX0_init_6 ++ dktX0_init_7
def dkwX0_init_5 : List UInt8 := [16, 8, 188, 10, 181, 0, 83, 42, 16, 8, 188, 10, 181, 0, 86, 42, 17, 1, 0, 188, 8, 181, 0, 89]
abbrev dktX0_init_5 : List UInt8 := dkwX0_init_5 ++ dktX0_init_6
def dkwX0_init_4 : List UInt8 := [181, 0, 70, 42, 16, 12, 188, 10, 181, 0, 74, 42, 16, 9, 16, 100, 197, 0, 78, 2, 181, 0, 80, 42]
abbrev dktX0_init_4 : List UInt8 := dkwX0_init_4 ++ dktX0_init_5
def dkwX0_init_3 : List UInt8 := [183, 0, 58, 181, 0, 59, 42, 187, 0, 63, 89, 183, 0, 65, 181, 0, 66, 42, 16, 20, 189, 0, 63]
abbrev dktX0_init_3 : List UInt8 := dkwX0_init_3 ++ dktX0_init_4
def dkwX0_init_2 : List UInt8 := [187, 0, 45, 89, 183, 0, 47, 181, 0, 48, 42, 5, 189, 0, 45, 181, 0, 52, 42, 187, 0, 56, 89]
abbrev dktX0_init_2 : List UInt8 := dkwX0_init_2 ++ dktX0_init_3
def dkwX0_init_1 : List UInt8 := [183, 0, 27, 181, 0, 30, 42, 2, 181, 0, 34, 42, 187, 0, 38, 89, 183, 0, 40, 181, 0, 41, 42]
abbrev dktX0_init_1 : List UInt8 := dkwX0_init_1 ++ dktX0_init_2
def dkwX0_init_0 : List UInt8 := [42, 183, 0, 12, 42, 187, 0, 18, 89, 183, 0, 20, 181, 0, 21, 42, 187, 0, 25, 89, 42, 180, 0, 21]
abbrev dktX0_init_0 : List UInt8 := dkwX0_init_0 ++ dktX0_init_1
theorem dksX0_init_0 : cX0_init.data.toList.drop 0 = dktX0_init_0 := by decide +kernel
theorem dksX0_init_1 : cX0_init.data.toList.drop 24 = dktX0_init_1 := dk_seg dksX0_init_0 24 rfl rfl
theorem dksX0_init_2 : cX0_init.data.toList.drop 47 = dktX0_init_2 := dk_seg dksX0_init_1 23 rfl rfl
theorem dksX0_init_3 : cX0_init.data.toList.drop 70 = dktX0_init_3 := dk_seg dksX0_init_2 23 rfl rfl
theorem dksX0_init_4 : cX0_init.data.toList.drop 93 = dktX0_init_4 := dk_seg dksX0_init_3 23 rfl rfl
theorem dksX0_init_5 : cX0_init.data.toList.drop 117 = dktX0_init_5 := dk_seg dksX0_init_4 24 rfl rfl
theorem dksX0_init_6 : cX0_init.data.toList.drop 141 = dktX0_init_6 := dk_seg dksX0_init_5 24 rfl rfl
theorem dksX0_init_7 : cX0_init.data.toList.drop 163 = dktX0_init_7 := dk_seg dksX0_init_6 22 rfl rfl
theorem dksX0_init_8 : cX0_init.data.toList.drop 187 = dktX0_init_8 := dk_seg dksX0_init_7 24 rfl rfl
theorem dksX0_init_9 : cX0_init.data.toList.drop 209 = dktX0_init_9 := dk_seg dksX0_init_8 22 rfl rfl
theorem dX0_init_0 : decode cX0_init 0 = .ok (.aload_n 0, 1) := dk_42 (dk_at dksX0_init_0 0 rfl rfl)
theorem dX0_init_1 : decode cX0_init 1 = .ok (.invokespecial 12, 3) := dk_183 0 12 (dk_at dksX0_init_0 1 rfl rfl)
theorem dX0_init_4 : decode cX0_init 4 = .ok (.aload_n 0, 1) := dk_42 (dk_at dksX0_init_0 4 rfl rfl)
theorem dX0_init_5 : decode cX0_init 5 = .ok (.new 18, 3) := dk_187 0 18 (dk_at dksX0_init_0 5 rfl rfl)
theorem dX0_init_8 : decode cX0_init 8 = .ok (.dup, 1) := dk_89 (dk_at dksX0_init_0 8 rfl rfl)
theorem dX0_init_9 : decode cX0_init 9 = .ok (.invokespecial 20, 3) := dk_183 0 20 (dk_at dksX0_init_0 9 rfl rfl)
theorem dX0_init_12 : decode cX0_init 12 = .ok (.putfield 21, 3) := dk_181 0 21 (dk_at dksX0_init_0 12 rfl rfl)
theorem dX0_init_15 : decode cX0_init 15 = .ok (.aload_n 0, 1) := dk_42 (dk_at dksX0_init_0 15 rfl rfl)
theorem dX0_init_16 : decode cX0_init 16 = .ok (.new 25, 3) := dk_187 0 25 (dk_at dksX0_init_0 16 rfl rfl)
theorem dX0_init_19 : decode cX0_init 19 = .ok (.dup, 1) := dk_89 (dk_at dksX0_init_0 19 rfl rfl)
theorem dX0_init_20 : decode cX0_init 20 = .ok (.aload_n 0, 1) := dk_42 (dk_at dksX0_init_0 20 rfl rfl)
theorem dX0_init_21 : decode cX0_init 21 = .ok (.getfield 21, 3) := dk_180 0 21 (dk_at dksX0_init_0 21 rfl rfl)
theorem dX0_init_24 : decode cX0_init 24 = .ok (.invokespecial 27, 3) := dk_183 0 27 (dk_at dksX0_init_1 0 rfl rfl)
theorem dX0_init_27 : decode cX0_init 27 = .ok (.putfield 30, 3) := dk_181 0 30 (dk_at dksX0_init_1 3 rfl rfl)
theorem dX0_init_30 : decode cX0_init 30 = .ok (.aload_n 0, 1) := dk_42 (dk_at dksX0_init_1 6 rfl rfl)
theorem dX0_init_31 : decode cX0_init 31 = .ok (.iconst (-1), 1) := dk_2 (dk_at dksX0_init_1 7 rfl rfl)
theorem dX0_init_32 : decode cX0_init 32 = .ok (.putfield 34, 3) := dk_181 0 34 (dk_at dksX0_init_1 8 rfl rfl)
theorem dX0_init_35 : decode cX0_init 35 = .ok (.aload_n 0, 1) := dk_42 (dk_at dksX0_init_1 11 rfl rfl)
theorem dX0_init_36 : decode cX0_init 36 = .ok (.new 38, 3) := dk_187 0 38 (dk_at dksX0_init_1 12 rfl rfl)
theorem dX0_init_39 : decode cX0_init 39 = .ok (.dup, 1) := dk_89 (dk_at dksX0_init_1 15 rfl rfl)
theorem dX0_init_40 : decode cX0_init 40 = .ok (.invokespecial 40, 3) := dk_183 0 40 (dk_at dksX0_init_1 16 rfl rfl)
theorem dX0_init_43 : decode cX0_init 43 = .ok (.putfield 41, 3) := dk_181 0 41 (dk_at dksX0_init_1 19 rfl rfl)
theorem dX0_init_46 : decode cX0_init 46 = .ok (.aload_n 0, 1) := dk_42 (dk_at dksX0_init_1 22 rfl rfl)
theorem dX0_init_47 : decode cX0_init 47 = .ok (.new 45, 3) := dk_187 0 45 (dk_at dksX0_init_2 0 rfl rfl)
theorem dX0_init_50 : decode cX0_init 50 = .ok (.dup, 1) := dk_89 (dk_at dksX0_init_2 3 rfl rfl)
theorem dX0_init_51 : decode cX0_init 51 = .ok (.invokespecial 47, 3) := dk_183 0 47 (dk_at dksX0_init_2 4 rfl rfl)
theorem dX0_init_54 : decode cX0_init 54 = .ok (.putfield 48, 3) := dk_181 0 48 (dk_at dksX0_init_2 7 rfl rfl)
theorem dX0_init_57 : decode cX0_init 57 = .ok (.aload_n 0, 1) := dk_42 (dk_at dksX0_init_2 10 rfl rfl)
theorem dX0_init_58 : decode cX0_init 58 = .ok (.iconst 2, 1) := dk_5 (dk_at dksX0_init_2 11 rfl rfl)
theorem dX0_init_59 : decode cX0_init 59 = .ok (.anewarray 45, 3) := dk_189 0 45 (dk_at dksX0_init_2 12 rfl rfl)
theorem dX0_init_62 : decode cX0_init 62 = .ok (.putfield 52, 3) := dk_181 0 52 (dk_at dksX0_init_2 15 rfl rfl)
theorem dX0_init_65 : decode cX0_init 65 = .ok (.aload_n 0, 1) := dk_42 (dk_at dksX0_init_2 18 rfl rfl)
theorem dX0_init_66 : decode cX0_init 66 = .ok (.new 56, 3) := dk_187 0 56 (dk_at dksX0_init_2 19 rfl rfl)
theorem dX0_init_69 : decode cX0_init 69 = .ok (.dup, 1) := dk_89 (dk_at dksX0_init_2 22 rfl rfl)
theorem dX0_init_70 : decode cX0_init 70 = .ok (.invokespecial 58, 3) := dk_183 0 58 (dk_at dksX0_init_3 0 rfl rfl)
theorem dX0_init_73 : decode cX0_init 73 = .ok (.putfield 59, 3) := dk_181 0 59 (dk_at dksX0_init_3 3 rfl rfl)
theorem dX0_init_76 : decode cX0_init 76 = .ok (.aload_n 0, 1) := dk_42 (dk_at dksX0_init_3 6 rfl rfl)
theorem dX0_init_77 : decode cX0_init 77 = .ok (.new 63, 3) := dk_187 0 63 (dk_at dksX0_init_3 7 rfl rfl)
theorem dX0_init_80 : decode cX0_init 80 = .ok (.dup, 1) := dk_89 (dk_at dksX0_init_3 10 rfl rfl)
theorem dX0_init_81 : decode cX0_init 81 = .ok (.invokespecial 65, 3) := dk_183 0 65 (dk_at dksX0_init_3 11 rfl rfl)
theorem dX0_init_84 : decode cX0_init 84 = .ok (.putfield 66, 3) := dk_181 0 66 (dk_at dksX0_init_3 14 rfl rfl)
theorem dX0_init_87 : decode cX0_init 87 = .ok (.aload_n 0, 1) := dk_42 (dk_at dksX0_init_3 17 rfl rfl)
theorem dX0_init_88 : decode cX0_init 88 = .ok (.bipush 20, 2) := dk_16 20 (dk_at dksX0_init_3 18 rfl rfl)
theorem dX0_init_90 : decode cX0_init 90 = .ok (.anewarray 63, 3) := dk_189 0 63 (dk_at dksX0_init_3 20 rfl rfl)
theorem dX0_init_93 : decode cX0_init 93 = .ok (.putfield 70, 3) := dk_181 0 70 (dk_at dksX0_init_4 0 rfl rfl)
theorem dX0_init_96 : decode cX0_init 96 = .ok (.aload_n 0, 1) := dk_42 (dk_at dksX0_init_4 3 rfl rfl)
theorem dX0_init_97 : decode cX0_init 97 = .ok (.bipush 12, 2) := dk_16 12 (dk_at dksX0_init_4 4 rfl rfl)
theorem dX0_init_99 : decode cX0_init 99 = .ok (.newarray .int, 2) := dk_188_10 (dk_at dksX0_init_4 6 rfl rfl)
theorem dX0_init_101 : decode cX0_init 101 = .ok (.putfield 74, 3) := dk_181 0 74 (dk_at dksX0_init_4 8 rfl rfl)
theorem dX0_init_104 : decode cX0_init 104 = .ok (.aload_n 0, 1) := dk_42 (dk_at dksX0_init_4 11 rfl rfl)
theorem dX0_init_105 : decode cX0_init 105 = .ok (.bipush 9, 2) := dk_16 9 (dk_at dksX0_init_4 12 rfl rfl)
theorem dX0_init_107 : decode cX0_init 107 = .ok (.bipush 100, 2) := dk_16 100 (dk_at dksX0_init_4 14 rfl rfl)
theorem dX0_init_109 : decode cX0_init 109 = .ok (.multianewarray 78 2, 4) := by decide +kernel
theorem dX0_init_113 : decode cX0_init 113 = .ok (.putfield 80, 3) := dk_181 0 80 (dk_at dksX0_init_4 20 rfl rfl)
theorem dX0_init_116 : decode cX0_init 116 = .ok (.aload_n 0, 1) := dk_42 (dk_at dksX0_init_4 23 rfl rfl)
theorem dX0_init_117 : decode cX0_init 117 = .ok (.bipush 8, 2) := dk_16 8 (dk_at dksX0_init_5 0 rfl rfl)
theorem dX0_init_119 : decode cX0_init 119 = .ok (.newarray .int, 2) := dk_188_10 (dk_at dksX0_init_5 2 rfl rfl)
theorem dX0_init_121 : decode cX0_init 121 = .ok (.putfield 83, 3) := dk_181 0 83 (dk_at dksX0_init_5 4 rfl rfl)
theorem dX0_init_124 : decode cX0_init 124 = .ok (.aload_n 0, 1) := dk_42 (dk_at dksX0_init_5 7 rfl rfl)
theorem dX0_init_125 : decode cX0_init 125 = .ok (.bipush 8, 2) := dk_16 8 (dk_at dksX0_init_5 8 rfl rfl)
theorem dX0_init_127 : decode cX0_init 127 = .ok (.newarray .int, 2) := dk_188_10 (dk_at dksX0_init_5 10 rfl rfl)
theorem dX0_init_129 : decode cX0_init 129 = .ok (.putfield 86, 3) := dk_181 0 86 (dk_at dksX0_init_5 12 rfl rfl)
theorem dX0_init_132 : decode cX0_init 132 = .ok (.aload_n 0, 1) := dk_42 (dk_at dksX0_init_5 15 rfl rfl)
theorem dX0_init_133 : decode cX0_init 133 = .ok (.sipush 256, 3) := dk_17 1 0 (dk_at dksX0_init_5 16 rfl rfl)
theorem dX0_init_136 : decode cX0_init 136 = .ok (.newarray .byte, 2) := dk_188_8 (dk_at dksX0_init_5 19 rfl rfl)
theorem dX0_init_138 : decode cX0_init 138 = .ok (.putfield 89, 3) := dk_181 0 89 (dk_at dksX0_init_5 21 rfl rfl)
theorem dX0_init_141 : decode cX0_init 141 = .ok (.aload_n 0, 1) := dk_42 (dk_at dksX0_init_6 0 rfl rfl)
theorem dX0_init_142 : decode cX0_init 142 = .ok (.sipush 256, 3) := dk_17 1 0 (dk_at dksX0_init_6 1 rfl rfl)
theorem dX0_init_145 : decode cX0_init 145 = .ok (.newarray .boolean, 2) := dk_188_4 (dk_at dksX0_init_6 4 rfl rfl)
theorem dX0_init_147 : decode cX0_init 147 = .ok (.putfield 93, 3) := dk_181 0 93 (dk_at dksX0_init_6 6 rfl rfl)
theorem dX0_init_150 : decode cX0_init 150 = .ok (.aload_n 0, 1) := dk_42 (dk_at dksX0_init_6 9 rfl rfl)
theorem dX0_init_151 : decode cX0_init 151 = .ok (.bipush 16, 2) := dk_16 16 (dk_at dksX0_init_6 10 rfl rfl)
theorem dX0_init_153 : decode cX0_init 153 = .ok (.newarray .int, 2) := dk_188_10 (dk_at dksX0_init_6 12 rfl rfl)
theorem dX0_init_155 : decode cX0_init 155 = .ok (.putfield 97, 3) := dk_181 0 97 (dk_at dksX0_init_6 14 rfl rfl)
theorem dX0_init_158 : decode cX0_init 158 = .ok (.aload_n 0, 1) := dk_42 (dk_at dksX0_init_6 17 rfl rfl)
theorem dX0_init_159 : decode cX0_init 159 = .ok (.bipush 13, 2) := dk_16 13 (dk_at dksX0_init_6 18 rfl rfl)
theorem dX0_init_161 : decode cX0_init 161 = .ok (.bipush 100, 2) := dk_16 100 (dk_at dksX0_init_6 20 rfl rfl)
theorem dX0_init_163 : decode cX0_init 163 = .ok (.multianewarray 78 2, 4) := by decide +kernel
theorem dX0_init_167 : decode cX0_init 167 = .ok (.putfield 100, 3) := dk_181 0 100 (dk_at dksX0_init_7 4 rfl rfl)
theorem dX0_init_170 : decode cX0_init 170 = .ok (.iconst 0, 1) := dk_3 (dk_at dksX0_init_7 7 rfl rfl)
theorem dX0_init_171 : decode cX0_init 171 = .ok (.istore_n 1, 1) := dk_60 (dk_at dksX0_init_7 8 rfl rfl)
theorem dX0_init_172 : decode cX0_init 172 = .ok (.iload_n 1, 1) := dk_27 (dk_at dksX0_init_7 9 rfl rfl)
theorem dX0_init_173 : decode cX0_init 173 = .ok (.bipush 20, 2) := dk_16 20 (dk_at dksX0_init_7 10 rfl rfl)
theorem dX0_init_175 : decode cX0_init 175 = .ok (.if_icmp .ge 22, 3) := dk_162 0 22 (dk_at dksX0_init_7 12 rfl rfl)
theorem dX0_init_178 : decode cX0_init 178 = .ok (.aload_n 0, 1) := dk_42 (dk_at dksX0_init_7 15 rfl rfl)
theorem dX0_init_179 : decode cX0_init 179 = .ok (.getfield 70, 3) := dk_180 0 70 (dk_at dksX0_init_7 16 rfl rfl)
theorem dX0_init_182 : decode cX0_init 182 = .ok (.iload_n 1, 1) := dk_27 (dk_at dksX0_init_7 19 rfl rfl)
theorem dX0_init_183 : decode cX0_init 183 = .ok (.new 63, 3) := dk_187 0 63 (dk_at dksX0_init_7 20 rfl rfl)
theorem dX0_init_186 : decode cX0_init 186 = .ok (.dup, 1) := dk_89 (dk_at dksX0_init_7 23 rfl rfl)
theorem dX0_init_187 : decode cX0_init 187 = .ok (.invokespecial 65, 3) := dk_183 0 65 (dk_at dksX0_init_8 0 rfl rfl)
theorem dX0_init_190 : decode cX0_init 190 = .ok (.aastore, 1) := dk_83 (dk_at dksX0_init_8 3 rfl rfl)
theorem dX0_init_191 : decode cX0_init 191 = .ok (.iinc 1 1, 3) := dk_132 1 1 (dk_at dksX0_init_8 4 rfl rfl)
theorem dX0_init_194 : decode cX0_init 194 = .ok (.goto (-22), 3) := dk_167 255 234 (dk_at dksX0_init_8 7 rfl rfl)
theorem dX0_init_197 : decode cX0_init 197 = .ok (.iconst 0, 1) := dk_3 (dk_at dksX0_init_8 10 rfl rfl)
theorem dX0_init_198 : decode cX0_init 198 = .ok (.istore_n 1, 1) := dk_60 (dk_at dksX0_init_8 11 rfl rfl)
theorem dX0_init_199 : decode cX0_init 199 = .ok (.iload_n 1, 1) := dk_27 (dk_at dksX0_init_8 12 rfl rfl)
theorem dX0_init_200 : decode cX0_init 200 = .ok (.bipush 16, 2) := dk_16 16 (dk_at dksX0_init_8 13 rfl rfl)
theorem dX0_init_202 : decode cX0_init 202 = .ok (.if_icmp .ge 19, 3) := dk_162 0 19 (dk_at dksX0_init_8 15 rfl rfl)
theorem dX0_init_205 : decode cX0_init 205 = .ok (.aload_n 0, 1) := dk_42 (dk_at dksX0_init_8 18 rfl rfl)
theorem dX0_init_206 : decode cX0_init 206 = .ok (.getfield 48, 3) := dk_180 0 48 (dk_at dksX0_init_8 19 rfl rfl)
theorem dX0_init_209 : decode cX0_init 209 = .ok (.getfield 103, 3) := dk_180 0 103 (dk_at dksX0_init_9 0 rfl rfl)
theorem dX0_init_212 : decode cX0_init 212 = .ok (.iload_n 1, 1) := dk_27 (dk_at dksX0_init_9 3 rfl rfl)
theorem dX0_init_213 : decode cX0_init 213 = .ok (.iconst (-1), 1) := dk_2 (dk_at dksX0_init_9 4 rfl rfl)
theorem dX0_init_214 : decode cX0_init 214 = .ok (.iastore, 1) := dk_79 (dk_at dksX0_init_9 5 rfl rfl)
theorem dX0_init_215 : decode cX0_init 215 = .ok (.iinc 1 1, 3) := dk_132 1 1 (dk_at dksX0_init_9 6 rfl rfl)
theorem dX0_init_218 : decode cX0_init 218 = .ok (.goto (-19), 3) := dk_167 255 237 (dk_at dksX0_init_9 9 rfl rfl)
theorem dX0_init_221 : decode cX0_init 221 = .ok (.return_, 1) := dk_177 (dk_at dksX0_init_9 12 rfl rfl)
abbrev cX0_feed : ByteArray := prog_1_method_5_code
def yX0_feed : MethodName := ⟨RX0, "feed", "(IIIII)I"⟩
def dkwX0_feed_0 : List UInt8 := [42, 180, 0, 21, 27, 28, 29, 21, 4, 21, 5, 182, 0, 106, 172]
abbrev dktX0_feed_0 : List UInt8 := dkwX0_feed_0 ++ []
theorem dksX0_feed_0 : cX0_feed.data.toList.drop 0 = dktX0_feed_0 := by decide +kernel
theorem dX0_feed_0 : decode cX0_feed 0 = .ok (.aload_n 0, 1) := dk_42 (dk_at dksX0_feed_0 0 rfl rfl)
theorem dX0_feed_1 : decode cX0_feed 1 = .ok (.getfield 21, 3) := dk_180 0 21 (dk_at dksX0_feed_0 1 rfl rfl)
theorem dX0_feed_4 : decode cX0_feed 4 = .ok (.iload_n 1, 1) := dk_27 (dk_at dksX0_feed_0 4 rfl rfl)
theorem dX0_feed_5 : decode cX0_feed 5 = .ok (.iload_n 2, 1) := dk_28 (dk_at dksX0_feed_0 5 rfl rfl)
theorem dX0_feed_6 : decode cX0_feed 6 = .ok (.iload_n 3, 1) := dk_29 (dk_at dksX0_feed_0 6 rfl rfl)
theorem dX0_feed_7 : decode cX0_feed 7 = .ok (.iload 4, 2) := dk_21 4 (dk_at dksX0_feed_0 7 rfl rfl)
theorem dX0_feed_9 : decode cX0_feed 9 = .ok (.iload 5, 2) := dk_21 5 (dk_at dksX0_feed_0 9 rfl rfl)
theorem dX0_feed_11 : decode cX0_feed 11 = .ok (.invokevirtual 106, 3) := dk_182 0 106 (dk_at dksX0_feed_0 11 rfl rfl)
theorem dX0_feed_14 : decode cX0_feed 14 = .ok (.ireturn, 1) := dk_172 (dk_at dksX0_feed_0 14 rfl rfl)
abbrev cX0_back : ByteArray := prog_1_method_6_code
def yX0_back : MethodName := ⟨RX0, "back", "(I)I"⟩
def dkwX0_back_0 : List UInt8 := [42, 180, 0, 21, 27, 182, 0, 110, 172]
abbrev dktX0_back_0 : List UInt8 := dkwX0_back_0 ++ []
theorem dksX0_back_0 : cX0_back.data.toList.drop 0 = dktX0_back_0 := by decide +kernel
theorem dX0_back_0 : decode cX0_back 0 = .ok (.aload_n 0, 1) := dk_42 (dk_at dksX0_back_0 0 rfl rfl)
theorem dX0_back_1 : decode cX0_back 1 = .ok (.getfield 21, 3) := dk_180 0 21 (dk_at dksX0_back_0 1 rfl rfl)
theorem dX0_back_4 : decode cX0_back 4 = .ok (.iload_n 1, 1) := dk_27 (dk_at dksX0_back_0 4 rfl rfl)
theorem dX0_back_5 : decode cX0_back 5 = .ok (.invokevirtual 110, 3) := dk_182 0 110 (dk_at dksX0_back_0 5 rfl rfl)
theorem dX0_back_8 : decode cX0_back 8 = .ok (.ireturn, 1) := dk_172 (dk_at dksX0_back_0 8 rfl rfl)
abbrev cX0_within : ByteArray := prog_1_method_1_code
def yX0_within : MethodName := ⟨RX0, "within", "(III)Z"⟩
def dkwX0_within_0 : List UInt8 := [26, 27, 161, 0, 12, 26, 28, 163, 0, 7, 4, 167, 0, 4, 3, 172]
abbrev dktX0_within_0 : List UInt8 := dkwX0_within_0 ++ []
theorem dksX0_within_0 : cX0_within.data.toList.drop 0 = dktX0_within_0 := by decide +kernel
theorem dX0_within_0 : decode cX0_within 0 = .ok (.iload_n 0, 1) := dk_26 (dk_at dksX0_within_0 0 rfl rfl)
theorem dX0_within_1 : decode cX0_within 1 = .ok (.iload_n 1, 1) := dk_27 (dk_at dksX0_within_0 1 rfl rfl)
theorem dX0_within_2 : decode cX0_within 2 = .ok (.if_icmp .lt 12, 3) := dk_161 0 12 (dk_at dksX0_within_0 2 rfl rfl)
theorem dX0_within_5 : decode cX0_within 5 = .ok (.iload_n 0, 1) := dk_26 (dk_at dksX0_within_0 5 rfl rfl)
theorem dX0_within_6 : decode cX0_within 6 = .ok (.iload_n 2, 1) := dk_28 (dk_at dksX0_within_0 6 rfl rfl)
theorem dX0_within_7 : decode cX0_within 7 = .ok (.if_icmp .gt 7, 3) := dk_163 0 7 (dk_at dksX0_within_0 7 rfl rfl)
theorem dX0_within_10 : decode cX0_within 10 = .ok (.iconst 1, 1) := dk_4 (dk_at dksX0_within_0 10 rfl rfl)
theorem dX0_within_11 : decode cX0_within 11 = .ok (.goto 4, 3) := dk_167 0 4 (dk_at dksX0_within_0 11 rfl rfl)
theorem dX0_within_14 : decode cX0_within 14 = .ok (.iconst 0, 1) := dk_3 (dk_at dksX0_within_0 14 rfl rfl)
theorem dX0_within_15 : decode cX0_within 15 = .ok (.ireturn, 1) := dk_172 (dk_at dksX0_within_0 15 rfl rfl)
abbrev cX0_read : ByteArray := prog_1_method_7_code
def yX0_read : MethodName := ⟨RX0, "read", "()I"⟩
def dkwX0_read_8 : List UInt8 := [172]
abbrev dktX0_read_8 : List UInt8 := dkwX0_read_8 ++ []
def dkwX0_read_7 : List UInt8 := [180, 0, 52, 3, 1, 83, 42, 180, 0, 52, 4, 1, 83, 42, 3, 181, 0, 166, 42, 3, 181, 0, 169, 3]
abbrev dktX0_read_7 : List UInt8 := dkwX0_read_7 ++ dktX0_read_8
def dkwX0_read_6 : List UInt8 := [182, 0, 140, 192, 0, 161, 180, 0, 163, 79, 132, 2, 1, 167, 255, 216, 42, 43, 181, 0, 48, 42]
abbrev dktX0_read_6 : List UInt8 := dkwX0_read_6 ++ dktX0_read_7
def dkwX0_read_5 : List UInt8 := [180, 0, 155, 182, 0, 131, 162, 0, 32, 43, 180, 0, 158, 28, 42, 180, 0, 41, 180, 0, 155, 28]
abbrev dktX0_read_5 : List UInt8 := dkwX0_read_5 ++ dktX0_read_6
def dkwX0_read_4 : List UInt8 := [180, 0, 41, 180, 0, 148, 3, 43, 180, 0, 103, 3, 16, 16, 184, 0, 149, 3, 61, 28, 42, 180, 0, 41]
abbrev dktX0_read_4 : List UInt8 := dkwX0_read_4 ++ dktX0_read_5
def dkwX0_read_3 : List UInt8 := [180, 0, 41, 180, 0, 127, 28, 182, 0, 140, 192, 0, 144, 180, 0, 146, 79, 132, 2, 1, 167, 255, 216, 42]
abbrev dktX0_read_3 : List UInt8 := dkwX0_read_3 ++ dktX0_read_4
def dkwX0_read_2 : List UInt8 := [76, 3, 61, 28, 42, 180, 0, 41, 180, 0, 127, 182, 0, 131, 162, 0, 32, 43, 180, 0, 137, 28, 42]
abbrev dktX0_read_2 : List UInt8 := dkwX0_read_2 ++ dktX0_read_3
def dkwX0_read_1 : List UInt8 := [167, 0, 17, 76, 42, 43, 180, 0, 123, 181, 0, 34, 43, 180, 0, 124, 172, 187, 0, 45, 89, 183, 0, 47]
abbrev dktX0_read_1 : List UInt8 := dkwX0_read_1 ++ dktX0_read_2
def dkwX0_read_0 : List UInt8 := [42, 180, 0, 21, 182, 0, 114, 42, 2, 181, 0, 34, 42, 42, 180, 0, 30, 182, 0, 117, 181, 0, 41]
abbrev dktX0_read_0 : List UInt8 := dkwX0_read_0 ++ dktX0_read_1
theorem dksX0_read_0 : cX0_read.data.toList.drop 0 = dktX0_read_0 := by decide +kernel
theorem dksX0_read_1 : cX0_read.data.toList.drop 23 = dktX0_read_1 := dk_seg dksX0_read_0 23 rfl rfl
theorem dksX0_read_2 : cX0_read.data.toList.drop 47 = dktX0_read_2 := dk_seg dksX0_read_1 24 rfl rfl
theorem dksX0_read_3 : cX0_read.data.toList.drop 70 = dktX0_read_3 := dk_seg dksX0_read_2 23 rfl rfl
theorem dksX0_read_4 : cX0_read.data.toList.drop 94 = dktX0_read_4 := dk_seg dksX0_read_3 24 rfl rfl
theorem dksX0_read_5 : cX0_read.data.toList.drop 118 = dktX0_read_5 := dk_seg dksX0_read_4 24 rfl rfl
theorem dksX0_read_6 : cX0_read.data.toList.drop 140 = dktX0_read_6 := dk_seg dksX0_read_5 22 rfl rfl
theorem dksX0_read_7 : cX0_read.data.toList.drop 162 = dktX0_read_7 := dk_seg dksX0_read_6 22 rfl rfl
theorem dksX0_read_8 : cX0_read.data.toList.drop 186 = dktX0_read_8 := dk_seg dksX0_read_7 24 rfl rfl
theorem dX0_read_0 : decode cX0_read 0 = .ok (.aload_n 0, 1) := dk_42 (dk_at dksX0_read_0 0 rfl rfl)
theorem dX0_read_1 : decode cX0_read 1 = .ok (.getfield 21, 3) := dk_180 0 21 (dk_at dksX0_read_0 1 rfl rfl)
theorem dX0_read_4 : decode cX0_read 4 = .ok (.invokevirtual 114, 3) := dk_182 0 114 (dk_at dksX0_read_0 4 rfl rfl)
theorem dX0_read_7 : decode cX0_read 7 = .ok (.aload_n 0, 1) := dk_42 (dk_at dksX0_read_0 7 rfl rfl)
theorem dX0_read_8 : decode cX0_read 8 = .ok (.iconst (-1), 1) := dk_2 (dk_at dksX0_read_0 8 rfl rfl)
theorem dX0_read_9 : decode cX0_read 9 = .ok (.putfield 34, 3) := dk_181 0 34 (dk_at dksX0_read_0 9 rfl rfl)
theorem dX0_read_12 : decode cX0_read 12 = .ok (.aload_n 0, 1) := dk_42 (dk_at dksX0_read_0 12 rfl rfl)
theorem dX0_read_13 : decode cX0_read 13 = .ok (.aload_n 0, 1) := dk_42 (dk_at dksX0_read_0 13 rfl rfl)
theorem dX0_read_14 : decode cX0_read 14 = .ok (.getfield 30, 3) := dk_180 0 30 (dk_at dksX0_read_0 14 rfl rfl)
theorem dX0_read_17 : decode cX0_read 17 = .ok (.invokevirtual 117, 3) := dk_182 0 117 (dk_at dksX0_read_0 17 rfl rfl)
theorem dX0_read_20 : decode cX0_read 20 = .ok (.putfield 41, 3) := dk_181 0 41 (dk_at dksX0_read_0 20 rfl rfl)
theorem dX0_read_23 : decode cX0_read 23 = .ok (.goto 17, 3) := dk_167 0 17 (dk_at dksX0_read_1 0 rfl rfl)
theorem dX0_read_26 : decode cX0_read 26 = .ok (.astore_n 1, 1) := dk_76 (dk_at dksX0_read_1 3 rfl rfl)
theorem dX0_read_27 : decode cX0_read 27 = .ok (.aload_n 0, 1) := dk_42 (dk_at dksX0_read_1 4 rfl rfl)
theorem dX0_read_28 : decode cX0_read 28 = .ok (.aload_n 1, 1) := dk_43 (dk_at dksX0_read_1 5 rfl rfl)
theorem dX0_read_29 : decode cX0_read 29 = .ok (.getfield 123, 3) := dk_180 0 123 (dk_at dksX0_read_1 6 rfl rfl)
theorem dX0_read_32 : decode cX0_read 32 = .ok (.putfield 34, 3) := dk_181 0 34 (dk_at dksX0_read_1 9 rfl rfl)
theorem dX0_read_35 : decode cX0_read 35 = .ok (.aload_n 1, 1) := dk_43 (dk_at dksX0_read_1 12 rfl rfl)
theorem dX0_read_36 : decode cX0_read 36 = .ok (.getfield 124, 3) := dk_180 0 124 (dk_at dksX0_read_1 13 rfl rfl)
theorem dX0_read_39 : decode cX0_read 39 = .ok (.ireturn, 1) := dk_172 (dk_at dksX0_read_1 16 rfl rfl)
theorem dX0_read_40 : decode cX0_read 40 = .ok (.new 45, 3) := dk_187 0 45 (dk_at dksX0_read_1 17 rfl rfl)
theorem dX0_read_43 : decode cX0_read 43 = .ok (.dup, 1) := dk_89 (dk_at dksX0_read_1 20 rfl rfl)
theorem dX0_read_44 : decode cX0_read 44 = .ok (.invokespecial 47, 3) := dk_183 0 47 (dk_at dksX0_read_1 21 rfl rfl)
theorem dX0_read_47 : decode cX0_read 47 = .ok (.astore_n 1, 1) := dk_76 (dk_at dksX0_read_2 0 rfl rfl)
theorem dX0_read_48 : decode cX0_read 48 = .ok (.iconst 0, 1) := dk_3 (dk_at dksX0_read_2 1 rfl rfl)
theorem dX0_read_49 : decode cX0_read 49 = .ok (.istore_n 2, 1) := dk_61 (dk_at dksX0_read_2 2 rfl rfl)
theorem dX0_read_50 : decode cX0_read 50 = .ok (.iload_n 2, 1) := dk_28 (dk_at dksX0_read_2 3 rfl rfl)
theorem dX0_read_51 : decode cX0_read 51 = .ok (.aload_n 0, 1) := dk_42 (dk_at dksX0_read_2 4 rfl rfl)
theorem dX0_read_52 : decode cX0_read 52 = .ok (.getfield 41, 3) := dk_180 0 41 (dk_at dksX0_read_2 5 rfl rfl)
theorem dX0_read_55 : decode cX0_read 55 = .ok (.getfield 127, 3) := dk_180 0 127 (dk_at dksX0_read_2 8 rfl rfl)
theorem dX0_read_58 : decode cX0_read 58 = .ok (.invokevirtual 131, 3) := dk_182 0 131 (dk_at dksX0_read_2 11 rfl rfl)
theorem dX0_read_61 : decode cX0_read 61 = .ok (.if_icmp .ge 32, 3) := dk_162 0 32 (dk_at dksX0_read_2 14 rfl rfl)
theorem dX0_read_64 : decode cX0_read 64 = .ok (.aload_n 1, 1) := dk_43 (dk_at dksX0_read_2 17 rfl rfl)
theorem dX0_read_65 : decode cX0_read 65 = .ok (.getfield 137, 3) := dk_180 0 137 (dk_at dksX0_read_2 18 rfl rfl)
theorem dX0_read_68 : decode cX0_read 68 = .ok (.iload_n 2, 1) := dk_28 (dk_at dksX0_read_2 21 rfl rfl)
theorem dX0_read_69 : decode cX0_read 69 = .ok (.aload_n 0, 1) := dk_42 (dk_at dksX0_read_2 22 rfl rfl)
theorem dX0_read_70 : decode cX0_read 70 = .ok (.getfield 41, 3) := dk_180 0 41 (dk_at dksX0_read_3 0 rfl rfl)
theorem dX0_read_73 : decode cX0_read 73 = .ok (.getfield 127, 3) := dk_180 0 127 (dk_at dksX0_read_3 3 rfl rfl)
theorem dX0_read_76 : decode cX0_read 76 = .ok (.iload_n 2, 1) := dk_28 (dk_at dksX0_read_3 6 rfl rfl)
theorem dX0_read_77 : decode cX0_read 77 = .ok (.invokevirtual 140, 3) := dk_182 0 140 (dk_at dksX0_read_3 7 rfl rfl)
theorem dX0_read_80 : decode cX0_read 80 = .ok (.checkcast 144, 3) := dk_192 0 144 (dk_at dksX0_read_3 10 rfl rfl)
theorem dX0_read_83 : decode cX0_read 83 = .ok (.getfield 146, 3) := dk_180 0 146 (dk_at dksX0_read_3 13 rfl rfl)
theorem dX0_read_86 : decode cX0_read 86 = .ok (.iastore, 1) := dk_79 (dk_at dksX0_read_3 16 rfl rfl)
theorem dX0_read_87 : decode cX0_read 87 = .ok (.iinc 2 1, 3) := dk_132 2 1 (dk_at dksX0_read_3 17 rfl rfl)
theorem dX0_read_90 : decode cX0_read 90 = .ok (.goto (-40), 3) := dk_167 255 216 (dk_at dksX0_read_3 20 rfl rfl)
theorem dX0_read_93 : decode cX0_read 93 = .ok (.aload_n 0, 1) := dk_42 (dk_at dksX0_read_3 23 rfl rfl)
theorem dX0_read_94 : decode cX0_read 94 = .ok (.getfield 41, 3) := dk_180 0 41 (dk_at dksX0_read_4 0 rfl rfl)
theorem dX0_read_97 : decode cX0_read 97 = .ok (.getfield 148, 3) := dk_180 0 148 (dk_at dksX0_read_4 3 rfl rfl)
theorem dX0_read_100 : decode cX0_read 100 = .ok (.iconst 0, 1) := dk_3 (dk_at dksX0_read_4 6 rfl rfl)
theorem dX0_read_101 : decode cX0_read 101 = .ok (.aload_n 1, 1) := dk_43 (dk_at dksX0_read_4 7 rfl rfl)
theorem dX0_read_102 : decode cX0_read 102 = .ok (.getfield 103, 3) := dk_180 0 103 (dk_at dksX0_read_4 8 rfl rfl)
theorem dX0_read_105 : decode cX0_read 105 = .ok (.iconst 0, 1) := dk_3 (dk_at dksX0_read_4 11 rfl rfl)
theorem dX0_read_106 : decode cX0_read 106 = .ok (.bipush 16, 2) := dk_16 16 (dk_at dksX0_read_4 12 rfl rfl)
theorem dX0_read_108 : decode cX0_read 108 = .ok (.invokestatic 149, 3) := dk_184 0 149 (dk_at dksX0_read_4 14 rfl rfl)
theorem dX0_read_111 : decode cX0_read 111 = .ok (.iconst 0, 1) := dk_3 (dk_at dksX0_read_4 17 rfl rfl)
theorem dX0_read_112 : decode cX0_read 112 = .ok (.istore_n 2, 1) := dk_61 (dk_at dksX0_read_4 18 rfl rfl)
theorem dX0_read_113 : decode cX0_read 113 = .ok (.iload_n 2, 1) := dk_28 (dk_at dksX0_read_4 19 rfl rfl)
theorem dX0_read_114 : decode cX0_read 114 = .ok (.aload_n 0, 1) := dk_42 (dk_at dksX0_read_4 20 rfl rfl)
theorem dX0_read_115 : decode cX0_read 115 = .ok (.getfield 41, 3) := dk_180 0 41 (dk_at dksX0_read_4 21 rfl rfl)
theorem dX0_read_118 : decode cX0_read 118 = .ok (.getfield 155, 3) := dk_180 0 155 (dk_at dksX0_read_5 0 rfl rfl)
theorem dX0_read_121 : decode cX0_read 121 = .ok (.invokevirtual 131, 3) := dk_182 0 131 (dk_at dksX0_read_5 3 rfl rfl)
theorem dX0_read_124 : decode cX0_read 124 = .ok (.if_icmp .ge 32, 3) := dk_162 0 32 (dk_at dksX0_read_5 6 rfl rfl)
theorem dX0_read_127 : decode cX0_read 127 = .ok (.aload_n 1, 1) := dk_43 (dk_at dksX0_read_5 9 rfl rfl)
theorem dX0_read_128 : decode cX0_read 128 = .ok (.getfield 158, 3) := dk_180 0 158 (dk_at dksX0_read_5 10 rfl rfl)
theorem dX0_read_131 : decode cX0_read 131 = .ok (.iload_n 2, 1) := dk_28 (dk_at dksX0_read_5 13 rfl rfl)
theorem dX0_read_132 : decode cX0_read 132 = .ok (.aload_n 0, 1) := dk_42 (dk_at dksX0_read_5 14 rfl rfl)
theorem dX0_read_133 : decode cX0_read 133 = .ok (.getfield 41, 3) := dk_180 0 41 (dk_at dksX0_read_5 15 rfl rfl)
theorem dX0_read_136 : decode cX0_read 136 = .ok (.getfield 155, 3) := dk_180 0 155 (dk_at dksX0_read_5 18 rfl rfl)
theorem dX0_read_139 : decode cX0_read 139 = .ok (.iload_n 2, 1) := dk_28 (dk_at dksX0_read_5 21 rfl rfl)
theorem dX0_read_140 : decode cX0_read 140 = .ok (.invokevirtual 140, 3) := dk_182 0 140 (dk_at dksX0_read_6 0 rfl rfl)
theorem dX0_read_143 : decode cX0_read 143 = .ok (.checkcast 161, 3) := dk_192 0 161 (dk_at dksX0_read_6 3 rfl rfl)
theorem dX0_read_146 : decode cX0_read 146 = .ok (.getfield 163, 3) := dk_180 0 163 (dk_at dksX0_read_6 6 rfl rfl)
theorem dX0_read_149 : decode cX0_read 149 = .ok (.iastore, 1) := dk_79 (dk_at dksX0_read_6 9 rfl rfl)
theorem dX0_read_150 : decode cX0_read 150 = .ok (.iinc 2 1, 3) := dk_132 2 1 (dk_at dksX0_read_6 10 rfl rfl)
theorem dX0_read_153 : decode cX0_read 153 = .ok (.goto (-40), 3) := dk_167 255 216 (dk_at dksX0_read_6 13 rfl rfl)
theorem dX0_read_156 : decode cX0_read 156 = .ok (.aload_n 0, 1) := dk_42 (dk_at dksX0_read_6 16 rfl rfl)
theorem dX0_read_157 : decode cX0_read 157 = .ok (.aload_n 1, 1) := dk_43 (dk_at dksX0_read_6 17 rfl rfl)
theorem dX0_read_158 : decode cX0_read 158 = .ok (.putfield 48, 3) := dk_181 0 48 (dk_at dksX0_read_6 18 rfl rfl)
theorem dX0_read_161 : decode cX0_read 161 = .ok (.aload_n 0, 1) := dk_42 (dk_at dksX0_read_6 21 rfl rfl)
theorem dX0_read_162 : decode cX0_read 162 = .ok (.getfield 52, 3) := dk_180 0 52 (dk_at dksX0_read_7 0 rfl rfl)
theorem dX0_read_165 : decode cX0_read 165 = .ok (.iconst 0, 1) := dk_3 (dk_at dksX0_read_7 3 rfl rfl)
theorem dX0_read_166 : decode cX0_read 166 = .ok (.aconst_null, 1) := dk_1 (dk_at dksX0_read_7 4 rfl rfl)
theorem dX0_read_167 : decode cX0_read 167 = .ok (.aastore, 1) := dk_83 (dk_at dksX0_read_7 5 rfl rfl)
theorem dX0_read_168 : decode cX0_read 168 = .ok (.aload_n 0, 1) := dk_42 (dk_at dksX0_read_7 6 rfl rfl)
theorem dX0_read_169 : decode cX0_read 169 = .ok (.getfield 52, 3) := dk_180 0 52 (dk_at dksX0_read_7 7 rfl rfl)
theorem dX0_read_172 : decode cX0_read 172 = .ok (.iconst 1, 1) := dk_4 (dk_at dksX0_read_7 10 rfl rfl)
theorem dX0_read_173 : decode cX0_read 173 = .ok (.aconst_null, 1) := dk_1 (dk_at dksX0_read_7 11 rfl rfl)
theorem dX0_read_174 : decode cX0_read 174 = .ok (.aastore, 1) := dk_83 (dk_at dksX0_read_7 12 rfl rfl)
theorem dX0_read_175 : decode cX0_read 175 = .ok (.aload_n 0, 1) := dk_42 (dk_at dksX0_read_7 13 rfl rfl)
theorem dX0_read_176 : decode cX0_read 176 = .ok (.iconst 0, 1) := dk_3 (dk_at dksX0_read_7 14 rfl rfl)
theorem dX0_read_177 : decode cX0_read 177 = .ok (.putfield 166, 3) := dk_181 0 166 (dk_at dksX0_read_7 15 rfl rfl)
theorem dX0_read_180 : decode cX0_read 180 = .ok (.aload_n 0, 1) := dk_42 (dk_at dksX0_read_7 18 rfl rfl)
theorem dX0_read_181 : decode cX0_read 181 = .ok (.iconst 0, 1) := dk_3 (dk_at dksX0_read_7 19 rfl rfl)
theorem dX0_read_182 : decode cX0_read 182 = .ok (.putfield 169, 3) := dk_181 0 169 (dk_at dksX0_read_7 20 rfl rfl)
theorem dX0_read_185 : decode cX0_read 185 = .ok (.iconst 0, 1) := dk_3 (dk_at dksX0_read_7 23 rfl rfl)
theorem dX0_read_186 : decode cX0_read 186 = .ok (.ireturn, 1) := dk_172 (dk_at dksX0_read_8 0 rfl rfl)
abbrev cX0_gives : ByteArray := prog_1_method_3_code
def yX0_gives : MethodName := ⟨RX0, "gives", "([III)V"⟩
def dkwX0_gives_1 : List UInt8 := [132, 3, 1, 167, 255, 231, 42, 27, 28, 79, 177]
abbrev dktX0_gives_1 : List UInt8 := dkwX0_gives_1 ++ []
def dkwX0_gives_0 : List UInt8 := [3, 62, 29, 16, 16, 162, 0, 25, 28, 2, 159, 0, 20, 42, 29, 46, 28, 160, 0, 7, 42, 29, 2, 79]
abbrev dktX0_gives_0 : List UInt8 := dkwX0_gives_0 ++ dktX0_gives_1
theorem dksX0_gives_0 : cX0_gives.data.toList.drop 0 = dktX0_gives_0 := by decide +kernel
theorem dksX0_gives_1 : cX0_gives.data.toList.drop 24 = dktX0_gives_1 := dk_seg dksX0_gives_0 24 rfl rfl
theorem dX0_gives_0 : decode cX0_gives 0 = .ok (.iconst 0, 1) := dk_3 (dk_at dksX0_gives_0 0 rfl rfl)
theorem dX0_gives_1 : decode cX0_gives 1 = .ok (.istore_n 3, 1) := dk_62 (dk_at dksX0_gives_0 1 rfl rfl)
theorem dX0_gives_2 : decode cX0_gives 2 = .ok (.iload_n 3, 1) := dk_29 (dk_at dksX0_gives_0 2 rfl rfl)
theorem dX0_gives_3 : decode cX0_gives 3 = .ok (.bipush 16, 2) := dk_16 16 (dk_at dksX0_gives_0 3 rfl rfl)
theorem dX0_gives_5 : decode cX0_gives 5 = .ok (.if_icmp .ge 25, 3) := dk_162 0 25 (dk_at dksX0_gives_0 5 rfl rfl)
theorem dX0_gives_8 : decode cX0_gives 8 = .ok (.iload_n 2, 1) := dk_28 (dk_at dksX0_gives_0 8 rfl rfl)
theorem dX0_gives_9 : decode cX0_gives 9 = .ok (.iconst (-1), 1) := dk_2 (dk_at dksX0_gives_0 9 rfl rfl)
theorem dX0_gives_10 : decode cX0_gives 10 = .ok (.if_icmp .eq 20, 3) := dk_159 0 20 (dk_at dksX0_gives_0 10 rfl rfl)
theorem dX0_gives_13 : decode cX0_gives 13 = .ok (.aload_n 0, 1) := dk_42 (dk_at dksX0_gives_0 13 rfl rfl)
theorem dX0_gives_14 : decode cX0_gives 14 = .ok (.iload_n 3, 1) := dk_29 (dk_at dksX0_gives_0 14 rfl rfl)
theorem dX0_gives_15 : decode cX0_gives 15 = .ok (.iaload, 1) := dk_46 (dk_at dksX0_gives_0 15 rfl rfl)
theorem dX0_gives_16 : decode cX0_gives 16 = .ok (.iload_n 2, 1) := dk_28 (dk_at dksX0_gives_0 16 rfl rfl)
theorem dX0_gives_17 : decode cX0_gives 17 = .ok (.if_icmp .ne 7, 3) := dk_160 0 7 (dk_at dksX0_gives_0 17 rfl rfl)
theorem dX0_gives_20 : decode cX0_gives 20 = .ok (.aload_n 0, 1) := dk_42 (dk_at dksX0_gives_0 20 rfl rfl)
theorem dX0_gives_21 : decode cX0_gives 21 = .ok (.iload_n 3, 1) := dk_29 (dk_at dksX0_gives_0 21 rfl rfl)
theorem dX0_gives_22 : decode cX0_gives 22 = .ok (.iconst (-1), 1) := dk_2 (dk_at dksX0_gives_0 22 rfl rfl)
theorem dX0_gives_23 : decode cX0_gives 23 = .ok (.iastore, 1) := dk_79 (dk_at dksX0_gives_0 23 rfl rfl)
theorem dX0_gives_24 : decode cX0_gives 24 = .ok (.iinc 3 1, 3) := dk_132 3 1 (dk_at dksX0_gives_1 0 rfl rfl)
theorem dX0_gives_27 : decode cX0_gives 27 = .ok (.goto (-25), 3) := dk_167 255 231 (dk_at dksX0_gives_1 3 rfl rfl)
theorem dX0_gives_30 : decode cX0_gives 30 = .ok (.aload_n 0, 1) := dk_42 (dk_at dksX0_gives_1 6 rfl rfl)
theorem dX0_gives_31 : decode cX0_gives 31 = .ok (.iload_n 1, 1) := dk_27 (dk_at dksX0_gives_1 7 rfl rfl)
theorem dX0_gives_32 : decode cX0_gives 32 = .ok (.iload_n 2, 1) := dk_28 (dk_at dksX0_gives_1 8 rfl rfl)
theorem dX0_gives_33 : decode cX0_gives 33 = .ok (.iastore, 1) := dk_79 (dk_at dksX0_gives_1 9 rfl rfl)
theorem dX0_gives_34 : decode cX0_gives 34 = .ok (.return_, 1) := dk_177 (dk_at dksX0_gives_1 10 rfl rfl)
abbrev cX0_place : ByteArray := prog_1_method_8_code
def yX0_place : MethodName := ⟨RX0, "place", "()I"⟩
theorem dX0_place_0 : decode cX0_place 0 = .ok (.aload_n 0, 1) := by decide +kernel
theorem dX0_place_1 : decode cX0_place 1 = .ok (.getfield 34, 3) := by decide +kernel
theorem dX0_place_4 : decode cX0_place 4 = .ok (.ireturn, 1) := by decide +kernel
abbrev cX0_house : ByteArray := prog_1_method_16_code
def yX0_house : MethodName := ⟨RX0, "house", "(II)I"⟩
def dkwX0_house_5 : List UInt8 := [180, 0, 103, 27, 46, 172, 42, 27, 182, 0, 190, 172, 42, 27, 182, 0, 214, 172, 2, 172]
abbrev dktX0_house_5 : List UInt8 := dkwX0_house_5 ++ []
def dkwX0_house_4 : List UInt8 := [42, 180, 0, 48, 180, 0, 103, 27, 46, 2, 160, 0, 8, 16, 254, 167, 0, 12, 42, 180, 0, 48]
abbrev dktX0_house_4 : List UInt8 := dkwX0_house_4 ++ dktX0_house_5
def dkwX0_house_3 : List UInt8 := [180, 0, 137, 27, 46, 172, 42, 180, 0, 41, 180, 0, 127, 27, 182, 0, 140, 192, 0, 144, 180, 0, 193, 172]
abbrev dktX0_house_3 : List UInt8 := dkwX0_house_3 ++ dktX0_house_4
def dkwX0_house_2 : List UInt8 := [42, 180, 0, 41, 180, 0, 127, 27, 182, 0, 140, 192, 0, 144, 180, 0, 196, 172, 42, 180, 0, 48]
abbrev dktX0_house_2 : List UInt8 := dkwX0_house_2 ++ dktX0_house_3
def dkwX0_house_1 : List UInt8 := [170, 0, 0, 0, 123, 0, 0, 0, 0, 0, 0, 0, 5, 0, 0, 0, 37, 0, 0, 0, 55, 0, 0, 0, 65, 0, 0, 0, 83, 0, 0, 0, 111, 0, 0, 0, 117]
abbrev dktX0_house_1 : List UInt8 := dkwX0_house_1 ++ dktX0_house_2
def dkwX0_house_0 : List UInt8 := [42, 27, 182, 0, 210, 154, 0, 5, 2, 172, 28]
abbrev dktX0_house_0 : List UInt8 := dkwX0_house_0 ++ dktX0_house_1
theorem dksX0_house_0 : cX0_house.data.toList.drop 0 = dktX0_house_0 := by decide +kernel
theorem dksX0_house_1 : cX0_house.data.toList.drop 11 = dktX0_house_1 := dk_seg dksX0_house_0 11 rfl rfl
theorem dksX0_house_2 : cX0_house.data.toList.drop 48 = dktX0_house_2 := dk_seg dksX0_house_1 37 rfl rfl
theorem dksX0_house_3 : cX0_house.data.toList.drop 70 = dktX0_house_3 := dk_seg dksX0_house_2 22 rfl rfl
theorem dksX0_house_4 : cX0_house.data.toList.drop 94 = dktX0_house_4 := dk_seg dksX0_house_3 24 rfl rfl
theorem dksX0_house_5 : cX0_house.data.toList.drop 116 = dktX0_house_5 := dk_seg dksX0_house_4 22 rfl rfl
theorem dX0_house_0 : decode cX0_house 0 = .ok (.aload_n 0, 1) := dk_42 (dk_at dksX0_house_0 0 rfl rfl)
theorem dX0_house_1 : decode cX0_house 1 = .ok (.iload_n 1, 1) := dk_27 (dk_at dksX0_house_0 1 rfl rfl)
theorem dX0_house_2 : decode cX0_house 2 = .ok (.invokevirtual 210, 3) := dk_182 0 210 (dk_at dksX0_house_0 2 rfl rfl)
theorem dX0_house_5 : decode cX0_house 5 = .ok (.ifCond .ne 5, 3) := dk_154 0 5 (dk_at dksX0_house_0 5 rfl rfl)
theorem dX0_house_8 : decode cX0_house 8 = .ok (.iconst (-1), 1) := dk_2 (dk_at dksX0_house_0 8 rfl rfl)
theorem dX0_house_9 : decode cX0_house 9 = .ok (.ireturn, 1) := dk_172 (dk_at dksX0_house_0 9 rfl rfl)
theorem dX0_house_10 : decode cX0_house 10 = .ok (.iload_n 2, 1) := dk_28 (dk_at dksX0_house_0 10 rfl rfl)
theorem dX0_house_11 : decode cX0_house 11 = .ok (.tableswitch 123 0 5 #[37, 55, 65, 83, 111, 117], 37) := by decide +kernel
theorem dX0_house_48 : decode cX0_house 48 = .ok (.aload_n 0, 1) := dk_42 (dk_at dksX0_house_2 0 rfl rfl)
theorem dX0_house_49 : decode cX0_house 49 = .ok (.getfield 41, 3) := dk_180 0 41 (dk_at dksX0_house_2 1 rfl rfl)
theorem dX0_house_52 : decode cX0_house 52 = .ok (.getfield 127, 3) := dk_180 0 127 (dk_at dksX0_house_2 4 rfl rfl)
theorem dX0_house_55 : decode cX0_house 55 = .ok (.iload_n 1, 1) := dk_27 (dk_at dksX0_house_2 7 rfl rfl)
theorem dX0_house_56 : decode cX0_house 56 = .ok (.invokevirtual 140, 3) := dk_182 0 140 (dk_at dksX0_house_2 8 rfl rfl)
theorem dX0_house_59 : decode cX0_house 59 = .ok (.checkcast 144, 3) := dk_192 0 144 (dk_at dksX0_house_2 11 rfl rfl)
theorem dX0_house_62 : decode cX0_house 62 = .ok (.getfield 196, 3) := dk_180 0 196 (dk_at dksX0_house_2 14 rfl rfl)
theorem dX0_house_65 : decode cX0_house 65 = .ok (.ireturn, 1) := dk_172 (dk_at dksX0_house_2 17 rfl rfl)
theorem dX0_house_66 : decode cX0_house 66 = .ok (.aload_n 0, 1) := dk_42 (dk_at dksX0_house_2 18 rfl rfl)
theorem dX0_house_67 : decode cX0_house 67 = .ok (.getfield 48, 3) := dk_180 0 48 (dk_at dksX0_house_2 19 rfl rfl)
theorem dX0_house_70 : decode cX0_house 70 = .ok (.getfield 137, 3) := dk_180 0 137 (dk_at dksX0_house_3 0 rfl rfl)
theorem dX0_house_73 : decode cX0_house 73 = .ok (.iload_n 1, 1) := dk_27 (dk_at dksX0_house_3 3 rfl rfl)
theorem dX0_house_74 : decode cX0_house 74 = .ok (.iaload, 1) := dk_46 (dk_at dksX0_house_3 4 rfl rfl)
theorem dX0_house_75 : decode cX0_house 75 = .ok (.ireturn, 1) := dk_172 (dk_at dksX0_house_3 5 rfl rfl)
theorem dX0_house_76 : decode cX0_house 76 = .ok (.aload_n 0, 1) := dk_42 (dk_at dksX0_house_3 6 rfl rfl)
theorem dX0_house_77 : decode cX0_house 77 = .ok (.getfield 41, 3) := dk_180 0 41 (dk_at dksX0_house_3 7 rfl rfl)
theorem dX0_house_80 : decode cX0_house 80 = .ok (.getfield 127, 3) := dk_180 0 127 (dk_at dksX0_house_3 10 rfl rfl)
theorem dX0_house_83 : decode cX0_house 83 = .ok (.iload_n 1, 1) := dk_27 (dk_at dksX0_house_3 13 rfl rfl)
theorem dX0_house_84 : decode cX0_house 84 = .ok (.invokevirtual 140, 3) := dk_182 0 140 (dk_at dksX0_house_3 14 rfl rfl)
theorem dX0_house_87 : decode cX0_house 87 = .ok (.checkcast 144, 3) := dk_192 0 144 (dk_at dksX0_house_3 17 rfl rfl)
theorem dX0_house_90 : decode cX0_house 90 = .ok (.getfield 193, 3) := dk_180 0 193 (dk_at dksX0_house_3 20 rfl rfl)
theorem dX0_house_93 : decode cX0_house 93 = .ok (.ireturn, 1) := dk_172 (dk_at dksX0_house_3 23 rfl rfl)
theorem dX0_house_94 : decode cX0_house 94 = .ok (.aload_n 0, 1) := dk_42 (dk_at dksX0_house_4 0 rfl rfl)
theorem dX0_house_95 : decode cX0_house 95 = .ok (.getfield 48, 3) := dk_180 0 48 (dk_at dksX0_house_4 1 rfl rfl)
theorem dX0_house_98 : decode cX0_house 98 = .ok (.getfield 103, 3) := dk_180 0 103 (dk_at dksX0_house_4 4 rfl rfl)
theorem dX0_house_101 : decode cX0_house 101 = .ok (.iload_n 1, 1) := dk_27 (dk_at dksX0_house_4 7 rfl rfl)
theorem dX0_house_102 : decode cX0_house 102 = .ok (.iaload, 1) := dk_46 (dk_at dksX0_house_4 8 rfl rfl)
theorem dX0_house_103 : decode cX0_house 103 = .ok (.iconst (-1), 1) := dk_2 (dk_at dksX0_house_4 9 rfl rfl)
theorem dX0_house_104 : decode cX0_house 104 = .ok (.if_icmp .ne 8, 3) := dk_160 0 8 (dk_at dksX0_house_4 10 rfl rfl)
theorem dX0_house_107 : decode cX0_house 107 = .ok (.bipush (-2), 2) := dk_16 254 (dk_at dksX0_house_4 13 rfl rfl)
theorem dX0_house_109 : decode cX0_house 109 = .ok (.goto 12, 3) := dk_167 0 12 (dk_at dksX0_house_4 15 rfl rfl)
theorem dX0_house_112 : decode cX0_house 112 = .ok (.aload_n 0, 1) := dk_42 (dk_at dksX0_house_4 18 rfl rfl)
theorem dX0_house_113 : decode cX0_house 113 = .ok (.getfield 48, 3) := dk_180 0 48 (dk_at dksX0_house_4 19 rfl rfl)
theorem dX0_house_116 : decode cX0_house 116 = .ok (.getfield 103, 3) := dk_180 0 103 (dk_at dksX0_house_5 0 rfl rfl)
theorem dX0_house_119 : decode cX0_house 119 = .ok (.iload_n 1, 1) := dk_27 (dk_at dksX0_house_5 3 rfl rfl)
theorem dX0_house_120 : decode cX0_house 120 = .ok (.iaload, 1) := dk_46 (dk_at dksX0_house_5 4 rfl rfl)
theorem dX0_house_121 : decode cX0_house 121 = .ok (.ireturn, 1) := dk_172 (dk_at dksX0_house_5 5 rfl rfl)
theorem dX0_house_122 : decode cX0_house 122 = .ok (.aload_n 0, 1) := dk_42 (dk_at dksX0_house_5 6 rfl rfl)
theorem dX0_house_123 : decode cX0_house 123 = .ok (.iload_n 1, 1) := dk_27 (dk_at dksX0_house_5 7 rfl rfl)
theorem dX0_house_124 : decode cX0_house 124 = .ok (.invokevirtual 190, 3) := dk_182 0 190 (dk_at dksX0_house_5 8 rfl rfl)
theorem dX0_house_127 : decode cX0_house 127 = .ok (.ireturn, 1) := dk_172 (dk_at dksX0_house_5 11 rfl rfl)
theorem dX0_house_128 : decode cX0_house 128 = .ok (.aload_n 0, 1) := dk_42 (dk_at dksX0_house_5 12 rfl rfl)
theorem dX0_house_129 : decode cX0_house 129 = .ok (.iload_n 1, 1) := dk_27 (dk_at dksX0_house_5 13 rfl rfl)
theorem dX0_house_130 : decode cX0_house 130 = .ok (.invokevirtual 214, 3) := dk_182 0 214 (dk_at dksX0_house_5 14 rfl rfl)
theorem dX0_house_133 : decode cX0_house 133 = .ok (.ireturn, 1) := dk_172 (dk_at dksX0_house_5 17 rfl rfl)
theorem dX0_house_134 : decode cX0_house 134 = .ok (.iconst (-1), 1) := dk_2 (dk_at dksX0_house_5 18 rfl rfl)
theorem dX0_house_135 : decode cX0_house 135 = .ok (.ireturn, 1) := dk_172 (dk_at dksX0_house_5 19 rfl rfl)
abbrev cX0_isHouse : ByteArray := prog_1_method_10_code
def yX0_isHouse : MethodName := ⟨RX0, "isHouse", "(I)Z"⟩
def dkwX0_isHouse_0 : List UInt8 := [27, 3, 42, 182, 0, 172, 4, 100, 184, 0, 174, 172]
abbrev dktX0_isHouse_0 : List UInt8 := dkwX0_isHouse_0 ++ []
theorem dksX0_isHouse_0 : cX0_isHouse.data.toList.drop 0 = dktX0_isHouse_0 := by decide +kernel
theorem dX0_isHouse_0 : decode cX0_isHouse 0 = .ok (.iload_n 1, 1) := dk_27 (dk_at dksX0_isHouse_0 0 rfl rfl)
theorem dX0_isHouse_1 : decode cX0_isHouse 1 = .ok (.iconst 0, 1) := dk_3 (dk_at dksX0_isHouse_0 1 rfl rfl)
theorem dX0_isHouse_2 : decode cX0_isHouse 2 = .ok (.aload_n 0, 1) := dk_42 (dk_at dksX0_isHouse_0 2 rfl rfl)
theorem dX0_isHouse_3 : decode cX0_isHouse 3 = .ok (.invokevirtual 172, 3) := dk_182 0 172 (dk_at dksX0_isHouse_0 3 rfl rfl)
theorem dX0_isHouse_6 : decode cX0_isHouse 6 = .ok (.iconst 1, 1) := dk_4 (dk_at dksX0_isHouse_0 6 rfl rfl)
theorem dX0_isHouse_7 : decode cX0_isHouse 7 = .ok (.isub, 1) := dk_100 (dk_at dksX0_isHouse_0 7 rfl rfl)
theorem dX0_isHouse_8 : decode cX0_isHouse 8 = .ok (.invokestatic 174, 3) := dk_184 0 174 (dk_at dksX0_isHouse_0 8 rfl rfl)
theorem dX0_isHouse_11 : decode cX0_isHouse 11 = .ok (.ireturn, 1) := dk_172 (dk_at dksX0_isHouse_0 11 rfl rfl)
abbrev cX0_houses : ByteArray := prog_1_method_9_code
def yX0_houses : MethodName := ⟨RX0, "houses", "()I"⟩
def dkwX0_houses_0 : List UInt8 := [42, 180, 0, 41, 180, 0, 127, 182, 0, 131, 172]
abbrev dktX0_houses_0 : List UInt8 := dkwX0_houses_0 ++ []
theorem dksX0_houses_0 : cX0_houses.data.toList.drop 0 = dktX0_houses_0 := by decide +kernel
theorem dX0_houses_0 : decode cX0_houses 0 = .ok (.aload_n 0, 1) := dk_42 (dk_at dksX0_houses_0 0 rfl rfl)
theorem dX0_houses_1 : decode cX0_houses 1 = .ok (.getfield 41, 3) := dk_180 0 41 (dk_at dksX0_houses_0 1 rfl rfl)
theorem dX0_houses_4 : decode cX0_houses 4 = .ok (.getfield 127, 3) := dk_180 0 127 (dk_at dksX0_houses_0 4 rfl rfl)
theorem dX0_houses_7 : decode cX0_houses 7 = .ok (.invokevirtual 131, 3) := dk_182 0 131 (dk_at dksX0_houses_0 7 rfl rfl)
theorem dX0_houses_10 : decode cX0_houses 10 = .ok (.ireturn, 1) := dk_172 (dk_at dksX0_houses_0 10 rfl rfl)
abbrev cX0_rankOf : ByteArray := prog_1_method_13_code
def yX0_rankOf : MethodName := ⟨RX0, "rankOf", "(I)I"⟩
def dkwX0_rankOf_1 : List UInt8 := [42, 180, 0, 48, 180, 0, 103, 27, 46, 46, 172]
abbrev dktX0_rankOf_1 : List UInt8 := dkwX0_rankOf_1 ++ []
def dkwX0_rankOf_0 : List UInt8 := [42, 180, 0, 48, 180, 0, 103, 27, 46, 2, 160, 0, 7, 3, 167, 0, 20, 42, 180, 0, 41, 180, 0, 181]
abbrev dktX0_rankOf_0 : List UInt8 := dkwX0_rankOf_0 ++ dktX0_rankOf_1
theorem dksX0_rankOf_0 : cX0_rankOf.data.toList.drop 0 = dktX0_rankOf_0 := by decide +kernel
theorem dksX0_rankOf_1 : cX0_rankOf.data.toList.drop 24 = dktX0_rankOf_1 := dk_seg dksX0_rankOf_0 24 rfl rfl
theorem dX0_rankOf_0 : decode cX0_rankOf 0 = .ok (.aload_n 0, 1) := dk_42 (dk_at dksX0_rankOf_0 0 rfl rfl)
theorem dX0_rankOf_1 : decode cX0_rankOf 1 = .ok (.getfield 48, 3) := dk_180 0 48 (dk_at dksX0_rankOf_0 1 rfl rfl)
theorem dX0_rankOf_4 : decode cX0_rankOf 4 = .ok (.getfield 103, 3) := dk_180 0 103 (dk_at dksX0_rankOf_0 4 rfl rfl)
theorem dX0_rankOf_7 : decode cX0_rankOf 7 = .ok (.iload_n 1, 1) := dk_27 (dk_at dksX0_rankOf_0 7 rfl rfl)
theorem dX0_rankOf_8 : decode cX0_rankOf 8 = .ok (.iaload, 1) := dk_46 (dk_at dksX0_rankOf_0 8 rfl rfl)
theorem dX0_rankOf_9 : decode cX0_rankOf 9 = .ok (.iconst (-1), 1) := dk_2 (dk_at dksX0_rankOf_0 9 rfl rfl)
theorem dX0_rankOf_10 : decode cX0_rankOf 10 = .ok (.if_icmp .ne 7, 3) := dk_160 0 7 (dk_at dksX0_rankOf_0 10 rfl rfl)
theorem dX0_rankOf_13 : decode cX0_rankOf 13 = .ok (.iconst 0, 1) := dk_3 (dk_at dksX0_rankOf_0 13 rfl rfl)
theorem dX0_rankOf_14 : decode cX0_rankOf 14 = .ok (.goto 20, 3) := dk_167 0 20 (dk_at dksX0_rankOf_0 14 rfl rfl)
theorem dX0_rankOf_17 : decode cX0_rankOf 17 = .ok (.aload_n 0, 1) := dk_42 (dk_at dksX0_rankOf_0 17 rfl rfl)
theorem dX0_rankOf_18 : decode cX0_rankOf 18 = .ok (.getfield 41, 3) := dk_180 0 41 (dk_at dksX0_rankOf_0 18 rfl rfl)
theorem dX0_rankOf_21 : decode cX0_rankOf 21 = .ok (.getfield 181, 3) := dk_180 0 181 (dk_at dksX0_rankOf_0 21 rfl rfl)
theorem dX0_rankOf_24 : decode cX0_rankOf 24 = .ok (.aload_n 0, 1) := dk_42 (dk_at dksX0_rankOf_1 0 rfl rfl)
theorem dX0_rankOf_25 : decode cX0_rankOf 25 = .ok (.getfield 48, 3) := dk_180 0 48 (dk_at dksX0_rankOf_1 1 rfl rfl)
theorem dX0_rankOf_28 : decode cX0_rankOf 28 = .ok (.getfield 103, 3) := dk_180 0 103 (dk_at dksX0_rankOf_1 4 rfl rfl)
theorem dX0_rankOf_31 : decode cX0_rankOf 31 = .ok (.iload_n 1, 1) := dk_27 (dk_at dksX0_rankOf_1 7 rfl rfl)
theorem dX0_rankOf_32 : decode cX0_rankOf 32 = .ok (.iaload, 1) := dk_46 (dk_at dksX0_rankOf_1 8 rfl rfl)
theorem dX0_rankOf_33 : decode cX0_rankOf 33 = .ok (.iaload, 1) := dk_46 (dk_at dksX0_rankOf_1 9 rfl rfl)
theorem dX0_rankOf_34 : decode cX0_rankOf 34 = .ok (.ireturn, 1) := dk_172 (dk_at dksX0_rankOf_1 10 rfl rfl)
abbrev cX0_dueOf : ByteArray := prog_1_method_15_code
def yX0_dueOf : MethodName := ⟨RX0, "dueOf", "(I)I"⟩
def dkwX0_dueOf_1 : List UInt8 := [180, 0, 203, 16, 99, 182, 0, 206, 172]
abbrev dktX0_dueOf_1 : List UInt8 := dkwX0_dueOf_1 ++ []
def dkwX0_dueOf_0 : List UInt8 := [42, 27, 182, 0, 199, 42, 180, 0, 59, 180, 0, 187, 3, 3, 79, 42, 180, 0, 59, 42, 180, 0, 41]
abbrev dktX0_dueOf_0 : List UInt8 := dkwX0_dueOf_0 ++ dktX0_dueOf_1
theorem dksX0_dueOf_0 : cX0_dueOf.data.toList.drop 0 = dktX0_dueOf_0 := by decide +kernel
theorem dksX0_dueOf_1 : cX0_dueOf.data.toList.drop 23 = dktX0_dueOf_1 := dk_seg dksX0_dueOf_0 23 rfl rfl
theorem dX0_dueOf_0 : decode cX0_dueOf 0 = .ok (.aload_n 0, 1) := dk_42 (dk_at dksX0_dueOf_0 0 rfl rfl)
theorem dX0_dueOf_1 : decode cX0_dueOf 1 = .ok (.iload_n 1, 1) := dk_27 (dk_at dksX0_dueOf_0 1 rfl rfl)
theorem dX0_dueOf_2 : decode cX0_dueOf 2 = .ok (.invokevirtual 199, 3) := dk_182 0 199 (dk_at dksX0_dueOf_0 2 rfl rfl)
theorem dX0_dueOf_5 : decode cX0_dueOf 5 = .ok (.aload_n 0, 1) := dk_42 (dk_at dksX0_dueOf_0 5 rfl rfl)
theorem dX0_dueOf_6 : decode cX0_dueOf 6 = .ok (.getfield 59, 3) := dk_180 0 59 (dk_at dksX0_dueOf_0 6 rfl rfl)
theorem dX0_dueOf_9 : decode cX0_dueOf 9 = .ok (.getfield 187, 3) := dk_180 0 187 (dk_at dksX0_dueOf_0 9 rfl rfl)
theorem dX0_dueOf_12 : decode cX0_dueOf 12 = .ok (.iconst 0, 1) := dk_3 (dk_at dksX0_dueOf_0 12 rfl rfl)
theorem dX0_dueOf_13 : decode cX0_dueOf 13 = .ok (.iconst 0, 1) := dk_3 (dk_at dksX0_dueOf_0 13 rfl rfl)
theorem dX0_dueOf_14 : decode cX0_dueOf 14 = .ok (.iastore, 1) := dk_79 (dk_at dksX0_dueOf_0 14 rfl rfl)
theorem dX0_dueOf_15 : decode cX0_dueOf 15 = .ok (.aload_n 0, 1) := dk_42 (dk_at dksX0_dueOf_0 15 rfl rfl)
theorem dX0_dueOf_16 : decode cX0_dueOf 16 = .ok (.getfield 59, 3) := dk_180 0 59 (dk_at dksX0_dueOf_0 16 rfl rfl)
theorem dX0_dueOf_19 : decode cX0_dueOf 19 = .ok (.aload_n 0, 1) := dk_42 (dk_at dksX0_dueOf_0 19 rfl rfl)
theorem dX0_dueOf_20 : decode cX0_dueOf 20 = .ok (.getfield 41, 3) := dk_180 0 41 (dk_at dksX0_dueOf_0 20 rfl rfl)
theorem dX0_dueOf_23 : decode cX0_dueOf 23 = .ok (.getfield 203, 3) := dk_180 0 203 (dk_at dksX0_dueOf_1 0 rfl rfl)
theorem dX0_dueOf_26 : decode cX0_dueOf 26 = .ok (.bipush 99, 2) := dk_16 99 (dk_at dksX0_dueOf_1 3 rfl rfl)
theorem dX0_dueOf_28 : decode cX0_dueOf 28 = .ok (.invokevirtual 206, 3) := dk_182 0 206 (dk_at dksX0_dueOf_1 5 rfl rfl)
theorem dX0_dueOf_31 : decode cX0_dueOf 31 = .ok (.ireturn, 1) := dk_172 (dk_at dksX0_dueOf_1 8 rfl rfl)
abbrev cX0_look : ByteArray := prog_1_method_14_code
def yX0_look : MethodName := ⟨RX0, "look", "(I)V"⟩
def dkwX0_look_3 : List UInt8 := [6, 42, 180, 0, 41, 180, 0, 127, 27, 182, 0, 140, 192, 0, 144, 180, 0, 196, 79, 177]
abbrev dktX0_look_3 : List UInt8 := dkwX0_look_3 ++ []
def dkwX0_look_2 : List UInt8 := [180, 0, 41, 180, 0, 127, 27, 182, 0, 140, 192, 0, 144, 180, 0, 193, 79, 42, 180, 0, 59, 180, 0, 187]
abbrev dktX0_look_2 : List UInt8 := dkwX0_look_2 ++ dktX0_look_3
def dkwX0_look_1 : List UInt8 := [79, 42, 180, 0, 59, 180, 0, 187, 4, 42, 27, 182, 0, 190, 79, 42, 180, 0, 59, 180, 0, 187, 5, 42]
abbrev dktX0_look_1 : List UInt8 := dkwX0_look_1 ++ dktX0_look_2
def dkwX0_look_0 : List UInt8 := [42, 180, 0, 59, 182, 0, 184, 42, 180, 0, 59, 180, 0, 187, 3, 42, 180, 0, 48, 180, 0, 137, 27, 46]
abbrev dktX0_look_0 : List UInt8 := dkwX0_look_0 ++ dktX0_look_1
theorem dksX0_look_0 : cX0_look.data.toList.drop 0 = dktX0_look_0 := by decide +kernel
theorem dksX0_look_1 : cX0_look.data.toList.drop 24 = dktX0_look_1 := dk_seg dksX0_look_0 24 rfl rfl
theorem dksX0_look_2 : cX0_look.data.toList.drop 48 = dktX0_look_2 := dk_seg dksX0_look_1 24 rfl rfl
theorem dksX0_look_3 : cX0_look.data.toList.drop 72 = dktX0_look_3 := dk_seg dksX0_look_2 24 rfl rfl
theorem dX0_look_0 : decode cX0_look 0 = .ok (.aload_n 0, 1) := dk_42 (dk_at dksX0_look_0 0 rfl rfl)
theorem dX0_look_1 : decode cX0_look 1 = .ok (.getfield 59, 3) := dk_180 0 59 (dk_at dksX0_look_0 1 rfl rfl)
theorem dX0_look_4 : decode cX0_look 4 = .ok (.invokevirtual 184, 3) := dk_182 0 184 (dk_at dksX0_look_0 4 rfl rfl)
theorem dX0_look_7 : decode cX0_look 7 = .ok (.aload_n 0, 1) := dk_42 (dk_at dksX0_look_0 7 rfl rfl)
theorem dX0_look_8 : decode cX0_look 8 = .ok (.getfield 59, 3) := dk_180 0 59 (dk_at dksX0_look_0 8 rfl rfl)
theorem dX0_look_11 : decode cX0_look 11 = .ok (.getfield 187, 3) := dk_180 0 187 (dk_at dksX0_look_0 11 rfl rfl)
theorem dX0_look_14 : decode cX0_look 14 = .ok (.iconst 0, 1) := dk_3 (dk_at dksX0_look_0 14 rfl rfl)
theorem dX0_look_15 : decode cX0_look 15 = .ok (.aload_n 0, 1) := dk_42 (dk_at dksX0_look_0 15 rfl rfl)
theorem dX0_look_16 : decode cX0_look 16 = .ok (.getfield 48, 3) := dk_180 0 48 (dk_at dksX0_look_0 16 rfl rfl)
theorem dX0_look_19 : decode cX0_look 19 = .ok (.getfield 137, 3) := dk_180 0 137 (dk_at dksX0_look_0 19 rfl rfl)
theorem dX0_look_22 : decode cX0_look 22 = .ok (.iload_n 1, 1) := dk_27 (dk_at dksX0_look_0 22 rfl rfl)
theorem dX0_look_23 : decode cX0_look 23 = .ok (.iaload, 1) := dk_46 (dk_at dksX0_look_0 23 rfl rfl)
theorem dX0_look_24 : decode cX0_look 24 = .ok (.iastore, 1) := dk_79 (dk_at dksX0_look_1 0 rfl rfl)
theorem dX0_look_25 : decode cX0_look 25 = .ok (.aload_n 0, 1) := dk_42 (dk_at dksX0_look_1 1 rfl rfl)
theorem dX0_look_26 : decode cX0_look 26 = .ok (.getfield 59, 3) := dk_180 0 59 (dk_at dksX0_look_1 2 rfl rfl)
theorem dX0_look_29 : decode cX0_look 29 = .ok (.getfield 187, 3) := dk_180 0 187 (dk_at dksX0_look_1 5 rfl rfl)
theorem dX0_look_32 : decode cX0_look 32 = .ok (.iconst 1, 1) := dk_4 (dk_at dksX0_look_1 8 rfl rfl)
theorem dX0_look_33 : decode cX0_look 33 = .ok (.aload_n 0, 1) := dk_42 (dk_at dksX0_look_1 9 rfl rfl)
theorem dX0_look_34 : decode cX0_look 34 = .ok (.iload_n 1, 1) := dk_27 (dk_at dksX0_look_1 10 rfl rfl)
theorem dX0_look_35 : decode cX0_look 35 = .ok (.invokevirtual 190, 3) := dk_182 0 190 (dk_at dksX0_look_1 11 rfl rfl)
theorem dX0_look_38 : decode cX0_look 38 = .ok (.iastore, 1) := dk_79 (dk_at dksX0_look_1 14 rfl rfl)
theorem dX0_look_39 : decode cX0_look 39 = .ok (.aload_n 0, 1) := dk_42 (dk_at dksX0_look_1 15 rfl rfl)
theorem dX0_look_40 : decode cX0_look 40 = .ok (.getfield 59, 3) := dk_180 0 59 (dk_at dksX0_look_1 16 rfl rfl)
theorem dX0_look_43 : decode cX0_look 43 = .ok (.getfield 187, 3) := dk_180 0 187 (dk_at dksX0_look_1 19 rfl rfl)
theorem dX0_look_46 : decode cX0_look 46 = .ok (.iconst 2, 1) := dk_5 (dk_at dksX0_look_1 22 rfl rfl)
theorem dX0_look_47 : decode cX0_look 47 = .ok (.aload_n 0, 1) := dk_42 (dk_at dksX0_look_1 23 rfl rfl)
theorem dX0_look_48 : decode cX0_look 48 = .ok (.getfield 41, 3) := dk_180 0 41 (dk_at dksX0_look_2 0 rfl rfl)
theorem dX0_look_51 : decode cX0_look 51 = .ok (.getfield 127, 3) := dk_180 0 127 (dk_at dksX0_look_2 3 rfl rfl)
theorem dX0_look_54 : decode cX0_look 54 = .ok (.iload_n 1, 1) := dk_27 (dk_at dksX0_look_2 6 rfl rfl)
theorem dX0_look_55 : decode cX0_look 55 = .ok (.invokevirtual 140, 3) := dk_182 0 140 (dk_at dksX0_look_2 7 rfl rfl)
theorem dX0_look_58 : decode cX0_look 58 = .ok (.checkcast 144, 3) := dk_192 0 144 (dk_at dksX0_look_2 10 rfl rfl)
theorem dX0_look_61 : decode cX0_look 61 = .ok (.getfield 193, 3) := dk_180 0 193 (dk_at dksX0_look_2 13 rfl rfl)
theorem dX0_look_64 : decode cX0_look 64 = .ok (.iastore, 1) := dk_79 (dk_at dksX0_look_2 16 rfl rfl)
theorem dX0_look_65 : decode cX0_look 65 = .ok (.aload_n 0, 1) := dk_42 (dk_at dksX0_look_2 17 rfl rfl)
theorem dX0_look_66 : decode cX0_look 66 = .ok (.getfield 59, 3) := dk_180 0 59 (dk_at dksX0_look_2 18 rfl rfl)
theorem dX0_look_69 : decode cX0_look 69 = .ok (.getfield 187, 3) := dk_180 0 187 (dk_at dksX0_look_2 21 rfl rfl)
theorem dX0_look_72 : decode cX0_look 72 = .ok (.iconst 3, 1) := dk_6 (dk_at dksX0_look_3 0 rfl rfl)
theorem dX0_look_73 : decode cX0_look 73 = .ok (.aload_n 0, 1) := dk_42 (dk_at dksX0_look_3 1 rfl rfl)
theorem dX0_look_74 : decode cX0_look 74 = .ok (.getfield 41, 3) := dk_180 0 41 (dk_at dksX0_look_3 2 rfl rfl)
theorem dX0_look_77 : decode cX0_look 77 = .ok (.getfield 127, 3) := dk_180 0 127 (dk_at dksX0_look_3 5 rfl rfl)
theorem dX0_look_80 : decode cX0_look 80 = .ok (.iload_n 1, 1) := dk_27 (dk_at dksX0_look_3 8 rfl rfl)
theorem dX0_look_81 : decode cX0_look 81 = .ok (.invokevirtual 140, 3) := dk_182 0 140 (dk_at dksX0_look_3 9 rfl rfl)
theorem dX0_look_84 : decode cX0_look 84 = .ok (.checkcast 144, 3) := dk_192 0 144 (dk_at dksX0_look_3 12 rfl rfl)
theorem dX0_look_87 : decode cX0_look 87 = .ok (.getfield 196, 3) := dk_180 0 196 (dk_at dksX0_look_3 15 rfl rfl)
theorem dX0_look_90 : decode cX0_look 90 = .ok (.iastore, 1) := dk_79 (dk_at dksX0_look_3 18 rfl rfl)
theorem dX0_look_91 : decode cX0_look 91 = .ok (.return_, 1) := dk_177 (dk_at dksX0_look_3 19 rfl rfl)
abbrev cX0_held : ByteArray := prog_1_method_2_code
def yX0_held : MethodName := ⟨RX0, "held", "(II)I"⟩
def dkwX0_held_0 : List UInt8 := [26, 3, 184, 0, 1, 27, 184, 0, 7, 172]
abbrev dktX0_held_0 : List UInt8 := dkwX0_held_0 ++ []
theorem dksX0_held_0 : cX0_held.data.toList.drop 0 = dktX0_held_0 := by decide +kernel
theorem dX0_held_0 : decode cX0_held 0 = .ok (.iload_n 0, 1) := dk_26 (dk_at dksX0_held_0 0 rfl rfl)
theorem dX0_held_1 : decode cX0_held 1 = .ok (.iconst 0, 1) := dk_3 (dk_at dksX0_held_0 1 rfl rfl)
theorem dX0_held_2 : decode cX0_held 2 = .ok (.invokestatic 1, 3) := dk_184 0 1 (dk_at dksX0_held_0 2 rfl rfl)
theorem dX0_held_5 : decode cX0_held 5 = .ok (.iload_n 1, 1) := dk_27 (dk_at dksX0_held_0 5 rfl rfl)
theorem dX0_held_6 : decode cX0_held 6 = .ok (.invokestatic 7, 3) := dk_184 0 7 (dk_at dksX0_held_0 6 rfl rfl)
theorem dX0_held_9 : decode cX0_held 9 = .ok (.ireturn, 1) := dk_172 (dk_at dksX0_held_0 9 rfl rfl)
abbrev cX0_give : ByteArray := prog_1_method_17_code
def yX0_give : MethodName := ⟨RX0, "give", "(II)Z"⟩
def dkwX0_give_1 : List UInt8 := [180, 0, 48, 180, 0, 103, 27, 28, 184, 0, 220, 4, 172]
abbrev dktX0_give_1 : List UInt8 := dkwX0_give_1 ++ []
def dkwX0_give_0 : List UInt8 := [42, 27, 182, 0, 210, 153, 0, 16, 28, 2, 159, 0, 13, 42, 28, 182, 0, 217, 154, 0, 5, 3, 172, 42]
abbrev dktX0_give_0 : List UInt8 := dkwX0_give_0 ++ dktX0_give_1
theorem dksX0_give_0 : cX0_give.data.toList.drop 0 = dktX0_give_0 := by decide +kernel
theorem dksX0_give_1 : cX0_give.data.toList.drop 24 = dktX0_give_1 := dk_seg dksX0_give_0 24 rfl rfl
theorem dX0_give_0 : decode cX0_give 0 = .ok (.aload_n 0, 1) := dk_42 (dk_at dksX0_give_0 0 rfl rfl)
theorem dX0_give_1 : decode cX0_give 1 = .ok (.iload_n 1, 1) := dk_27 (dk_at dksX0_give_0 1 rfl rfl)
theorem dX0_give_2 : decode cX0_give 2 = .ok (.invokevirtual 210, 3) := dk_182 0 210 (dk_at dksX0_give_0 2 rfl rfl)
theorem dX0_give_5 : decode cX0_give 5 = .ok (.ifCond .eq 16, 3) := dk_153 0 16 (dk_at dksX0_give_0 5 rfl rfl)
theorem dX0_give_8 : decode cX0_give 8 = .ok (.iload_n 2, 1) := dk_28 (dk_at dksX0_give_0 8 rfl rfl)
theorem dX0_give_9 : decode cX0_give 9 = .ok (.iconst (-1), 1) := dk_2 (dk_at dksX0_give_0 9 rfl rfl)
theorem dX0_give_10 : decode cX0_give 10 = .ok (.if_icmp .eq 13, 3) := dk_159 0 13 (dk_at dksX0_give_0 10 rfl rfl)
theorem dX0_give_13 : decode cX0_give 13 = .ok (.aload_n 0, 1) := dk_42 (dk_at dksX0_give_0 13 rfl rfl)
theorem dX0_give_14 : decode cX0_give 14 = .ok (.iload_n 2, 1) := dk_28 (dk_at dksX0_give_0 14 rfl rfl)
theorem dX0_give_15 : decode cX0_give 15 = .ok (.invokevirtual 217, 3) := dk_182 0 217 (dk_at dksX0_give_0 15 rfl rfl)
theorem dX0_give_18 : decode cX0_give 18 = .ok (.ifCond .ne 5, 3) := dk_154 0 5 (dk_at dksX0_give_0 18 rfl rfl)
theorem dX0_give_21 : decode cX0_give 21 = .ok (.iconst 0, 1) := dk_3 (dk_at dksX0_give_0 21 rfl rfl)
theorem dX0_give_22 : decode cX0_give 22 = .ok (.ireturn, 1) := dk_172 (dk_at dksX0_give_0 22 rfl rfl)
theorem dX0_give_23 : decode cX0_give 23 = .ok (.aload_n 0, 1) := dk_42 (dk_at dksX0_give_0 23 rfl rfl)
theorem dX0_give_24 : decode cX0_give 24 = .ok (.getfield 48, 3) := dk_180 0 48 (dk_at dksX0_give_1 0 rfl rfl)
theorem dX0_give_27 : decode cX0_give 27 = .ok (.getfield 103, 3) := dk_180 0 103 (dk_at dksX0_give_1 3 rfl rfl)
theorem dX0_give_30 : decode cX0_give 30 = .ok (.iload_n 1, 1) := dk_27 (dk_at dksX0_give_1 6 rfl rfl)
theorem dX0_give_31 : decode cX0_give 31 = .ok (.iload_n 2, 1) := dk_28 (dk_at dksX0_give_1 7 rfl rfl)
theorem dX0_give_32 : decode cX0_give 32 = .ok (.invokestatic 220, 3) := dk_184 0 220 (dk_at dksX0_give_1 8 rfl rfl)
theorem dX0_give_35 : decode cX0_give 35 = .ok (.iconst 1, 1) := dk_4 (dk_at dksX0_give_1 11 rfl rfl)
theorem dX0_give_36 : decode cX0_give 36 = .ok (.ireturn, 1) := dk_172 (dk_at dksX0_give_1 12 rfl rfl)
abbrev cX0_isOffice : ByteArray := prog_1_method_11_code
def yX0_isOffice : MethodName := ⟨RX0, "isOffice", "(I)Z"⟩
def dkwX0_isOffice_0 : List UInt8 := [27, 3, 42, 180, 0, 41, 180, 0, 178, 4, 100, 184, 0, 174, 172]
abbrev dktX0_isOffice_0 : List UInt8 := dkwX0_isOffice_0 ++ []
theorem dksX0_isOffice_0 : cX0_isOffice.data.toList.drop 0 = dktX0_isOffice_0 := by decide +kernel
theorem dX0_isOffice_0 : decode cX0_isOffice 0 = .ok (.iload_n 1, 1) := dk_27 (dk_at dksX0_isOffice_0 0 rfl rfl)
theorem dX0_isOffice_1 : decode cX0_isOffice 1 = .ok (.iconst 0, 1) := dk_3 (dk_at dksX0_isOffice_0 1 rfl rfl)
theorem dX0_isOffice_2 : decode cX0_isOffice 2 = .ok (.aload_n 0, 1) := dk_42 (dk_at dksX0_isOffice_0 2 rfl rfl)
theorem dX0_isOffice_3 : decode cX0_isOffice 3 = .ok (.getfield 41, 3) := dk_180 0 41 (dk_at dksX0_isOffice_0 3 rfl rfl)
theorem dX0_isOffice_6 : decode cX0_isOffice 6 = .ok (.getfield 178, 3) := dk_180 0 178 (dk_at dksX0_isOffice_0 6 rfl rfl)
theorem dX0_isOffice_9 : decode cX0_isOffice 9 = .ok (.iconst 1, 1) := dk_4 (dk_at dksX0_isOffice_0 9 rfl rfl)
theorem dX0_isOffice_10 : decode cX0_isOffice 10 = .ok (.isub, 1) := dk_100 (dk_at dksX0_isOffice_0 10 rfl rfl)
theorem dX0_isOffice_11 : decode cX0_isOffice 11 = .ok (.invokestatic 174, 3) := dk_184 0 174 (dk_at dksX0_isOffice_0 11 rfl rfl)
theorem dX0_isOffice_14 : decode cX0_isOffice 14 = .ok (.ireturn, 1) := dk_172 (dk_at dksX0_isOffice_0 14 rfl rfl)
abbrev cX0_holder : ByteArray := prog_1_method_19_code
def yX0_holder : MethodName := ⟨RX0, "holder", "(I)I"⟩
def dkwX0_holder_0 : List UInt8 := [42, 27, 182, 0, 217, 153, 0, 11, 42, 27, 182, 0, 224, 167, 0, 4, 2, 172]
abbrev dktX0_holder_0 : List UInt8 := dkwX0_holder_0 ++ []
theorem dksX0_holder_0 : cX0_holder.data.toList.drop 0 = dktX0_holder_0 := by decide +kernel
theorem dX0_holder_0 : decode cX0_holder 0 = .ok (.aload_n 0, 1) := dk_42 (dk_at dksX0_holder_0 0 rfl rfl)
theorem dX0_holder_1 : decode cX0_holder 1 = .ok (.iload_n 1, 1) := dk_27 (dk_at dksX0_holder_0 1 rfl rfl)
theorem dX0_holder_2 : decode cX0_holder 2 = .ok (.invokevirtual 217, 3) := dk_182 0 217 (dk_at dksX0_holder_0 2 rfl rfl)
theorem dX0_holder_5 : decode cX0_holder 5 = .ok (.ifCond .eq 11, 3) := dk_153 0 11 (dk_at dksX0_holder_0 5 rfl rfl)
theorem dX0_holder_8 : decode cX0_holder 8 = .ok (.aload_n 0, 1) := dk_42 (dk_at dksX0_holder_0 8 rfl rfl)
theorem dX0_holder_9 : decode cX0_holder 9 = .ok (.iload_n 1, 1) := dk_27 (dk_at dksX0_holder_0 9 rfl rfl)
theorem dX0_holder_10 : decode cX0_holder 10 = .ok (.invokevirtual 224, 3) := dk_182 0 224 (dk_at dksX0_holder_0 10 rfl rfl)
theorem dX0_holder_13 : decode cX0_holder 13 = .ok (.goto 4, 3) := dk_167 0 4 (dk_at dksX0_holder_0 13 rfl rfl)
theorem dX0_holder_16 : decode cX0_holder 16 = .ok (.iconst (-1), 1) := dk_2 (dk_at dksX0_holder_0 16 rfl rfl)
theorem dX0_holder_17 : decode cX0_holder 17 = .ok (.ireturn, 1) := dk_172 (dk_at dksX0_holder_0 17 rfl rfl)
abbrev cX0_holderOf : ByteArray := prog_1_method_18_code
def yX0_holderOf : MethodName := ⟨RX0, "holderOf", "(I)I"⟩
def dkwX0_holderOf_1 : List UInt8 := [172, 132, 2, 1, 167, 255, 230, 16, 254, 172]
abbrev dktX0_holderOf_1 : List UInt8 := dkwX0_holderOf_1 ++ []
def dkwX0_holderOf_0 : List UInt8 := [3, 61, 28, 42, 182, 0, 172, 162, 0, 24, 42, 180, 0, 48, 180, 0, 103, 28, 46, 27, 160, 0, 5, 28]
abbrev dktX0_holderOf_0 : List UInt8 := dkwX0_holderOf_0 ++ dktX0_holderOf_1
theorem dksX0_holderOf_0 : cX0_holderOf.data.toList.drop 0 = dktX0_holderOf_0 := by decide +kernel
theorem dksX0_holderOf_1 : cX0_holderOf.data.toList.drop 24 = dktX0_holderOf_1 := dk_seg dksX0_holderOf_0 24 rfl rfl
theorem dX0_holderOf_0 : decode cX0_holderOf 0 = .ok (.iconst 0, 1) := dk_3 (dk_at dksX0_holderOf_0 0 rfl rfl)
theorem dX0_holderOf_1 : decode cX0_holderOf 1 = .ok (.istore_n 2, 1) := dk_61 (dk_at dksX0_holderOf_0 1 rfl rfl)
theorem dX0_holderOf_2 : decode cX0_holderOf 2 = .ok (.iload_n 2, 1) := dk_28 (dk_at dksX0_holderOf_0 2 rfl rfl)
theorem dX0_holderOf_3 : decode cX0_holderOf 3 = .ok (.aload_n 0, 1) := dk_42 (dk_at dksX0_holderOf_0 3 rfl rfl)
theorem dX0_holderOf_4 : decode cX0_holderOf 4 = .ok (.invokevirtual 172, 3) := dk_182 0 172 (dk_at dksX0_holderOf_0 4 rfl rfl)
theorem dX0_holderOf_7 : decode cX0_holderOf 7 = .ok (.if_icmp .ge 24, 3) := dk_162 0 24 (dk_at dksX0_holderOf_0 7 rfl rfl)
theorem dX0_holderOf_10 : decode cX0_holderOf 10 = .ok (.aload_n 0, 1) := dk_42 (dk_at dksX0_holderOf_0 10 rfl rfl)
theorem dX0_holderOf_11 : decode cX0_holderOf 11 = .ok (.getfield 48, 3) := dk_180 0 48 (dk_at dksX0_holderOf_0 11 rfl rfl)
theorem dX0_holderOf_14 : decode cX0_holderOf 14 = .ok (.getfield 103, 3) := dk_180 0 103 (dk_at dksX0_holderOf_0 14 rfl rfl)
theorem dX0_holderOf_17 : decode cX0_holderOf 17 = .ok (.iload_n 2, 1) := dk_28 (dk_at dksX0_holderOf_0 17 rfl rfl)
theorem dX0_holderOf_18 : decode cX0_holderOf 18 = .ok (.iaload, 1) := dk_46 (dk_at dksX0_holderOf_0 18 rfl rfl)
theorem dX0_holderOf_19 : decode cX0_holderOf 19 = .ok (.iload_n 1, 1) := dk_27 (dk_at dksX0_holderOf_0 19 rfl rfl)
theorem dX0_holderOf_20 : decode cX0_holderOf 20 = .ok (.if_icmp .ne 5, 3) := dk_160 0 5 (dk_at dksX0_holderOf_0 20 rfl rfl)
theorem dX0_holderOf_23 : decode cX0_holderOf 23 = .ok (.iload_n 2, 1) := dk_28 (dk_at dksX0_holderOf_0 23 rfl rfl)
theorem dX0_holderOf_24 : decode cX0_holderOf 24 = .ok (.ireturn, 1) := dk_172 (dk_at dksX0_holderOf_1 0 rfl rfl)
theorem dX0_holderOf_25 : decode cX0_holderOf 25 = .ok (.iinc 2 1, 3) := dk_132 2 1 (dk_at dksX0_holderOf_1 1 rfl rfl)
theorem dX0_holderOf_28 : decode cX0_holderOf 28 = .ok (.goto (-26), 3) := dk_167 255 230 (dk_at dksX0_holderOf_1 4 rfl rfl)
theorem dX0_holderOf_31 : decode cX0_holderOf 31 = .ok (.bipush (-2), 2) := dk_16 254 (dk_at dksX0_holderOf_1 7 rfl rfl)
theorem dX0_holderOf_33 : decode cX0_holderOf 33 = .ok (.ireturn, 1) := dk_172 (dk_at dksX0_holderOf_1 9 rfl rfl)
abbrev cX0_months : ByteArray := prog_1_method_20_code
def yX0_months : MethodName := ⟨RX0, "months", "(I)I"⟩
def dkwX0_months_1 : List UInt8 := [27, 96, 16, 12, 112, 181, 0, 227, 42, 180, 0, 48, 180, 0, 227, 172]
abbrev dktX0_months_1 : List UInt8 := dkwX0_months_1 ++ []
def dkwX0_months_0 : List UInt8 := [27, 3, 17, 0, 240, 184, 0, 174, 154, 0, 5, 2, 172, 42, 180, 0, 48, 42, 180, 0, 48, 180, 0, 227]
abbrev dktX0_months_0 : List UInt8 := dkwX0_months_0 ++ dktX0_months_1
theorem dksX0_months_0 : cX0_months.data.toList.drop 0 = dktX0_months_0 := by decide +kernel
theorem dksX0_months_1 : cX0_months.data.toList.drop 24 = dktX0_months_1 := dk_seg dksX0_months_0 24 rfl rfl
theorem dX0_months_0 : decode cX0_months 0 = .ok (.iload_n 1, 1) := dk_27 (dk_at dksX0_months_0 0 rfl rfl)
theorem dX0_months_1 : decode cX0_months 1 = .ok (.iconst 0, 1) := dk_3 (dk_at dksX0_months_0 1 rfl rfl)
theorem dX0_months_2 : decode cX0_months 2 = .ok (.sipush 240, 3) := dk_17 0 240 (dk_at dksX0_months_0 2 rfl rfl)
theorem dX0_months_5 : decode cX0_months 5 = .ok (.invokestatic 174, 3) := dk_184 0 174 (dk_at dksX0_months_0 5 rfl rfl)
theorem dX0_months_8 : decode cX0_months 8 = .ok (.ifCond .ne 5, 3) := dk_154 0 5 (dk_at dksX0_months_0 8 rfl rfl)
theorem dX0_months_11 : decode cX0_months 11 = .ok (.iconst (-1), 1) := dk_2 (dk_at dksX0_months_0 11 rfl rfl)
theorem dX0_months_12 : decode cX0_months 12 = .ok (.ireturn, 1) := dk_172 (dk_at dksX0_months_0 12 rfl rfl)
theorem dX0_months_13 : decode cX0_months 13 = .ok (.aload_n 0, 1) := dk_42 (dk_at dksX0_months_0 13 rfl rfl)
theorem dX0_months_14 : decode cX0_months 14 = .ok (.getfield 48, 3) := dk_180 0 48 (dk_at dksX0_months_0 14 rfl rfl)
theorem dX0_months_17 : decode cX0_months 17 = .ok (.aload_n 0, 1) := dk_42 (dk_at dksX0_months_0 17 rfl rfl)
theorem dX0_months_18 : decode cX0_months 18 = .ok (.getfield 48, 3) := dk_180 0 48 (dk_at dksX0_months_0 18 rfl rfl)
theorem dX0_months_21 : decode cX0_months 21 = .ok (.getfield 227, 3) := dk_180 0 227 (dk_at dksX0_months_0 21 rfl rfl)
theorem dX0_months_24 : decode cX0_months 24 = .ok (.iload_n 1, 1) := dk_27 (dk_at dksX0_months_1 0 rfl rfl)
theorem dX0_months_25 : decode cX0_months 25 = .ok (.iadd, 1) := dk_96 (dk_at dksX0_months_1 1 rfl rfl)
theorem dX0_months_26 : decode cX0_months 26 = .ok (.bipush 12, 2) := dk_16 12 (dk_at dksX0_months_1 2 rfl rfl)
theorem dX0_months_28 : decode cX0_months 28 = .ok (.irem, 1) := dk_112 (dk_at dksX0_months_1 4 rfl rfl)
theorem dX0_months_29 : decode cX0_months 29 = .ok (.putfield 227, 3) := dk_181 0 227 (dk_at dksX0_months_1 5 rfl rfl)
theorem dX0_months_32 : decode cX0_months 32 = .ok (.aload_n 0, 1) := dk_42 (dk_at dksX0_months_1 8 rfl rfl)
theorem dX0_months_33 : decode cX0_months 33 = .ok (.getfield 48, 3) := dk_180 0 48 (dk_at dksX0_months_1 9 rfl rfl)
theorem dX0_months_36 : decode cX0_months 36 = .ok (.getfield 227, 3) := dk_180 0 227 (dk_at dksX0_months_1 12 rfl rfl)
theorem dX0_months_39 : decode cX0_months 39 = .ok (.ireturn, 1) := dk_172 (dk_at dksX0_months_1 15 rfl rfl)
abbrev cX0_tide : ByteArray := prog_1_method_22_code
def yX0_tide : MethodName := ⟨RX0, "tide", "(I)I"⟩
def dkwX0_tide_0 : List UInt8 := [27, 184, 0, 233, 153, 0, 11, 42, 27, 182, 0, 236, 167, 0, 4, 2, 172]
abbrev dktX0_tide_0 : List UInt8 := dkwX0_tide_0 ++ []
theorem dksX0_tide_0 : cX0_tide.data.toList.drop 0 = dktX0_tide_0 := by decide +kernel
theorem dX0_tide_0 : decode cX0_tide 0 = .ok (.iload_n 1, 1) := dk_27 (dk_at dksX0_tide_0 0 rfl rfl)
theorem dX0_tide_1 : decode cX0_tide 1 = .ok (.invokestatic 233, 3) := dk_184 0 233 (dk_at dksX0_tide_0 1 rfl rfl)
theorem dX0_tide_4 : decode cX0_tide 4 = .ok (.ifCond .eq 11, 3) := dk_153 0 11 (dk_at dksX0_tide_0 4 rfl rfl)
theorem dX0_tide_7 : decode cX0_tide 7 = .ok (.aload_n 0, 1) := dk_42 (dk_at dksX0_tide_0 7 rfl rfl)
theorem dX0_tide_8 : decode cX0_tide 8 = .ok (.iload_n 1, 1) := dk_27 (dk_at dksX0_tide_0 8 rfl rfl)
theorem dX0_tide_9 : decode cX0_tide 9 = .ok (.invokevirtual 236, 3) := dk_182 0 236 (dk_at dksX0_tide_0 9 rfl rfl)
theorem dX0_tide_12 : decode cX0_tide 12 = .ok (.goto 4, 3) := dk_167 0 4 (dk_at dksX0_tide_0 12 rfl rfl)
theorem dX0_tide_15 : decode cX0_tide 15 = .ok (.iconst (-1), 1) := dk_2 (dk_at dksX0_tide_0 15 rfl rfl)
theorem dX0_tide_16 : decode cX0_tide 16 = .ok (.ireturn, 1) := dk_172 (dk_at dksX0_tide_0 16 rfl rfl)
abbrev cX0_isHour : ByteArray := prog_1_method_12_code
def yX0_isHour : MethodName := ⟨RX0, "isHour", "(I)Z"⟩
def dkwX0_isHour_0 : List UInt8 := [26, 3, 16, 23, 184, 0, 174, 172]
abbrev dktX0_isHour_0 : List UInt8 := dkwX0_isHour_0 ++ []
theorem dksX0_isHour_0 : cX0_isHour.data.toList.drop 0 = dktX0_isHour_0 := by decide +kernel
theorem dX0_isHour_0 : decode cX0_isHour 0 = .ok (.iload_n 0, 1) := dk_26 (dk_at dksX0_isHour_0 0 rfl rfl)
theorem dX0_isHour_1 : decode cX0_isHour 1 = .ok (.iconst 0, 1) := dk_3 (dk_at dksX0_isHour_0 1 rfl rfl)
theorem dX0_isHour_2 : decode cX0_isHour 2 = .ok (.bipush 23, 2) := dk_16 23 (dk_at dksX0_isHour_0 2 rfl rfl)
theorem dX0_isHour_4 : decode cX0_isHour 4 = .ok (.invokestatic 174, 3) := dk_184 0 174 (dk_at dksX0_isHour_0 4 rfl rfl)
theorem dX0_isHour_7 : decode cX0_isHour 7 = .ok (.ireturn, 1) := dk_172 (dk_at dksX0_isHour_0 7 rfl rfl)
abbrev cX0_tideAt : ByteArray := prog_1_method_21_code
def yX0_tideAt : MethodName := ⟨RX0, "tideAt", "(I)I"⟩
def dkwX0_tideAt_2 : List UInt8 := [182, 0, 206, 172]
abbrev dktX0_tideAt_2 : List UInt8 := dkwX0_tideAt_2 ++ []
def dkwX0_tideAt_1 : List UInt8 := [8, 42, 180, 0, 48, 180, 0, 227, 79, 42, 180, 0, 59, 42, 180, 0, 41, 180, 0, 230, 16, 99]
abbrev dktX0_tideAt_1 : List UInt8 := dkwX0_tideAt_1 ++ dktX0_tideAt_2
def dkwX0_tideAt_0 : List UInt8 := [42, 180, 0, 59, 182, 0, 184, 42, 180, 0, 59, 180, 0, 187, 7, 27, 79, 42, 180, 0, 59, 180, 0, 187]
abbrev dktX0_tideAt_0 : List UInt8 := dkwX0_tideAt_0 ++ dktX0_tideAt_1
theorem dksX0_tideAt_0 : cX0_tideAt.data.toList.drop 0 = dktX0_tideAt_0 := by decide +kernel
theorem dksX0_tideAt_1 : cX0_tideAt.data.toList.drop 24 = dktX0_tideAt_1 := dk_seg dksX0_tideAt_0 24 rfl rfl
theorem dksX0_tideAt_2 : cX0_tideAt.data.toList.drop 46 = dktX0_tideAt_2 := dk_seg dksX0_tideAt_1 22 rfl rfl
theorem dX0_tideAt_0 : decode cX0_tideAt 0 = .ok (.aload_n 0, 1) := dk_42 (dk_at dksX0_tideAt_0 0 rfl rfl)
theorem dX0_tideAt_1 : decode cX0_tideAt 1 = .ok (.getfield 59, 3) := dk_180 0 59 (dk_at dksX0_tideAt_0 1 rfl rfl)
theorem dX0_tideAt_4 : decode cX0_tideAt 4 = .ok (.invokevirtual 184, 3) := dk_182 0 184 (dk_at dksX0_tideAt_0 4 rfl rfl)
theorem dX0_tideAt_7 : decode cX0_tideAt 7 = .ok (.aload_n 0, 1) := dk_42 (dk_at dksX0_tideAt_0 7 rfl rfl)
theorem dX0_tideAt_8 : decode cX0_tideAt 8 = .ok (.getfield 59, 3) := dk_180 0 59 (dk_at dksX0_tideAt_0 8 rfl rfl)
theorem dX0_tideAt_11 : decode cX0_tideAt 11 = .ok (.getfield 187, 3) := dk_180 0 187 (dk_at dksX0_tideAt_0 11 rfl rfl)
theorem dX0_tideAt_14 : decode cX0_tideAt 14 = .ok (.iconst 4, 1) := dk_7 (dk_at dksX0_tideAt_0 14 rfl rfl)
theorem dX0_tideAt_15 : decode cX0_tideAt 15 = .ok (.iload_n 1, 1) := dk_27 (dk_at dksX0_tideAt_0 15 rfl rfl)
theorem dX0_tideAt_16 : decode cX0_tideAt 16 = .ok (.iastore, 1) := dk_79 (dk_at dksX0_tideAt_0 16 rfl rfl)
theorem dX0_tideAt_17 : decode cX0_tideAt 17 = .ok (.aload_n 0, 1) := dk_42 (dk_at dksX0_tideAt_0 17 rfl rfl)
theorem dX0_tideAt_18 : decode cX0_tideAt 18 = .ok (.getfield 59, 3) := dk_180 0 59 (dk_at dksX0_tideAt_0 18 rfl rfl)
theorem dX0_tideAt_21 : decode cX0_tideAt 21 = .ok (.getfield 187, 3) := dk_180 0 187 (dk_at dksX0_tideAt_0 21 rfl rfl)
theorem dX0_tideAt_24 : decode cX0_tideAt 24 = .ok (.iconst 5, 1) := dk_8 (dk_at dksX0_tideAt_1 0 rfl rfl)
theorem dX0_tideAt_25 : decode cX0_tideAt 25 = .ok (.aload_n 0, 1) := dk_42 (dk_at dksX0_tideAt_1 1 rfl rfl)
theorem dX0_tideAt_26 : decode cX0_tideAt 26 = .ok (.getfield 48, 3) := dk_180 0 48 (dk_at dksX0_tideAt_1 2 rfl rfl)
theorem dX0_tideAt_29 : decode cX0_tideAt 29 = .ok (.getfield 227, 3) := dk_180 0 227 (dk_at dksX0_tideAt_1 5 rfl rfl)
theorem dX0_tideAt_32 : decode cX0_tideAt 32 = .ok (.iastore, 1) := dk_79 (dk_at dksX0_tideAt_1 8 rfl rfl)
theorem dX0_tideAt_33 : decode cX0_tideAt 33 = .ok (.aload_n 0, 1) := dk_42 (dk_at dksX0_tideAt_1 9 rfl rfl)
theorem dX0_tideAt_34 : decode cX0_tideAt 34 = .ok (.getfield 59, 3) := dk_180 0 59 (dk_at dksX0_tideAt_1 10 rfl rfl)
theorem dX0_tideAt_37 : decode cX0_tideAt 37 = .ok (.aload_n 0, 1) := dk_42 (dk_at dksX0_tideAt_1 13 rfl rfl)
theorem dX0_tideAt_38 : decode cX0_tideAt 38 = .ok (.getfield 41, 3) := dk_180 0 41 (dk_at dksX0_tideAt_1 14 rfl rfl)
theorem dX0_tideAt_41 : decode cX0_tideAt 41 = .ok (.getfield 230, 3) := dk_180 0 230 (dk_at dksX0_tideAt_1 17 rfl rfl)
theorem dX0_tideAt_44 : decode cX0_tideAt 44 = .ok (.bipush 99, 2) := dk_16 99 (dk_at dksX0_tideAt_1 20 rfl rfl)
theorem dX0_tideAt_46 : decode cX0_tideAt 46 = .ok (.invokevirtual 206, 3) := dk_182 0 206 (dk_at dksX0_tideAt_2 0 rfl rfl)
theorem dX0_tideAt_49 : decode cX0_tideAt 49 = .ok (.ireturn, 1) := dk_172 (dk_at dksX0_tideAt_2 3 rfl rfl)
abbrev cX0_wet : ByteArray := prog_1_method_24_code
def yX0_wet : MethodName := ⟨RX0, "wet", "(I)I"⟩
def dkwX0_wet_0 : List UInt8 := [27, 184, 0, 233, 153, 0, 15, 42, 42, 27, 182, 0, 236, 182, 0, 239, 167, 0, 4, 2, 172]
abbrev dktX0_wet_0 : List UInt8 := dkwX0_wet_0 ++ []
theorem dksX0_wet_0 : cX0_wet.data.toList.drop 0 = dktX0_wet_0 := by decide +kernel
theorem dX0_wet_0 : decode cX0_wet 0 = .ok (.iload_n 1, 1) := dk_27 (dk_at dksX0_wet_0 0 rfl rfl)
theorem dX0_wet_1 : decode cX0_wet 1 = .ok (.invokestatic 233, 3) := dk_184 0 233 (dk_at dksX0_wet_0 1 rfl rfl)
theorem dX0_wet_4 : decode cX0_wet 4 = .ok (.ifCond .eq 15, 3) := dk_153 0 15 (dk_at dksX0_wet_0 4 rfl rfl)
theorem dX0_wet_7 : decode cX0_wet 7 = .ok (.aload_n 0, 1) := dk_42 (dk_at dksX0_wet_0 7 rfl rfl)
theorem dX0_wet_8 : decode cX0_wet 8 = .ok (.aload_n 0, 1) := dk_42 (dk_at dksX0_wet_0 8 rfl rfl)
theorem dX0_wet_9 : decode cX0_wet 9 = .ok (.iload_n 1, 1) := dk_27 (dk_at dksX0_wet_0 9 rfl rfl)
theorem dX0_wet_10 : decode cX0_wet 10 = .ok (.invokevirtual 236, 3) := dk_182 0 236 (dk_at dksX0_wet_0 10 rfl rfl)
theorem dX0_wet_13 : decode cX0_wet 13 = .ok (.invokevirtual 239, 3) := dk_182 0 239 (dk_at dksX0_wet_0 13 rfl rfl)
theorem dX0_wet_16 : decode cX0_wet 16 = .ok (.goto 4, 3) := dk_167 0 4 (dk_at dksX0_wet_0 16 rfl rfl)
theorem dX0_wet_19 : decode cX0_wet 19 = .ok (.iconst (-1), 1) := dk_2 (dk_at dksX0_wet_0 19 rfl rfl)
theorem dX0_wet_20 : decode cX0_wet 20 = .ok (.ireturn, 1) := dk_172 (dk_at dksX0_wet_0 20 rfl rfl)
abbrev cX0_wetBy : ByteArray := prog_1_method_23_code
def yX0_wetBy : MethodName := ⟨RX0, "wetBy", "(I)I"⟩
def dkwX0_wetBy_1 : List UInt8 := [162, 0, 9, 28, 4, 29, 120, 128, 61, 132, 3, 1, 167, 255, 226, 28, 172]
abbrev dktX0_wetBy_1 : List UInt8 := dkwX0_wetBy_1 ++ []
def dkwX0_wetBy_0 : List UInt8 := [3, 61, 3, 62, 29, 42, 182, 0, 172, 162, 0, 28, 42, 180, 0, 48, 180, 0, 137, 29, 46, 27]
abbrev dktX0_wetBy_0 : List UInt8 := dkwX0_wetBy_0 ++ dktX0_wetBy_1
theorem dksX0_wetBy_0 : cX0_wetBy.data.toList.drop 0 = dktX0_wetBy_0 := by decide +kernel
theorem dksX0_wetBy_1 : cX0_wetBy.data.toList.drop 22 = dktX0_wetBy_1 := dk_seg dksX0_wetBy_0 22 rfl rfl
theorem dX0_wetBy_0 : decode cX0_wetBy 0 = .ok (.iconst 0, 1) := dk_3 (dk_at dksX0_wetBy_0 0 rfl rfl)
theorem dX0_wetBy_1 : decode cX0_wetBy 1 = .ok (.istore_n 2, 1) := dk_61 (dk_at dksX0_wetBy_0 1 rfl rfl)
theorem dX0_wetBy_2 : decode cX0_wetBy 2 = .ok (.iconst 0, 1) := dk_3 (dk_at dksX0_wetBy_0 2 rfl rfl)
theorem dX0_wetBy_3 : decode cX0_wetBy 3 = .ok (.istore_n 3, 1) := dk_62 (dk_at dksX0_wetBy_0 3 rfl rfl)
theorem dX0_wetBy_4 : decode cX0_wetBy 4 = .ok (.iload_n 3, 1) := dk_29 (dk_at dksX0_wetBy_0 4 rfl rfl)
theorem dX0_wetBy_5 : decode cX0_wetBy 5 = .ok (.aload_n 0, 1) := dk_42 (dk_at dksX0_wetBy_0 5 rfl rfl)
theorem dX0_wetBy_6 : decode cX0_wetBy 6 = .ok (.invokevirtual 172, 3) := dk_182 0 172 (dk_at dksX0_wetBy_0 6 rfl rfl)
theorem dX0_wetBy_9 : decode cX0_wetBy 9 = .ok (.if_icmp .ge 28, 3) := dk_162 0 28 (dk_at dksX0_wetBy_0 9 rfl rfl)
theorem dX0_wetBy_12 : decode cX0_wetBy 12 = .ok (.aload_n 0, 1) := dk_42 (dk_at dksX0_wetBy_0 12 rfl rfl)
theorem dX0_wetBy_13 : decode cX0_wetBy 13 = .ok (.getfield 48, 3) := dk_180 0 48 (dk_at dksX0_wetBy_0 13 rfl rfl)
theorem dX0_wetBy_16 : decode cX0_wetBy 16 = .ok (.getfield 137, 3) := dk_180 0 137 (dk_at dksX0_wetBy_0 16 rfl rfl)
theorem dX0_wetBy_19 : decode cX0_wetBy 19 = .ok (.iload_n 3, 1) := dk_29 (dk_at dksX0_wetBy_0 19 rfl rfl)
theorem dX0_wetBy_20 : decode cX0_wetBy 20 = .ok (.iaload, 1) := dk_46 (dk_at dksX0_wetBy_0 20 rfl rfl)
theorem dX0_wetBy_21 : decode cX0_wetBy 21 = .ok (.iload_n 1, 1) := dk_27 (dk_at dksX0_wetBy_0 21 rfl rfl)
theorem dX0_wetBy_22 : decode cX0_wetBy 22 = .ok (.if_icmp .ge 9, 3) := dk_162 0 9 (dk_at dksX0_wetBy_1 0 rfl rfl)
theorem dX0_wetBy_25 : decode cX0_wetBy 25 = .ok (.iload_n 2, 1) := dk_28 (dk_at dksX0_wetBy_1 3 rfl rfl)
theorem dX0_wetBy_26 : decode cX0_wetBy 26 = .ok (.iconst 1, 1) := dk_4 (dk_at dksX0_wetBy_1 4 rfl rfl)
theorem dX0_wetBy_27 : decode cX0_wetBy 27 = .ok (.iload_n 3, 1) := dk_29 (dk_at dksX0_wetBy_1 5 rfl rfl)
theorem dX0_wetBy_28 : decode cX0_wetBy 28 = .ok (.ishl, 1) := dk_120 (dk_at dksX0_wetBy_1 6 rfl rfl)
theorem dX0_wetBy_29 : decode cX0_wetBy 29 = .ok (.ior, 1) := dk_128 (dk_at dksX0_wetBy_1 7 rfl rfl)
theorem dX0_wetBy_30 : decode cX0_wetBy 30 = .ok (.istore_n 2, 1) := dk_61 (dk_at dksX0_wetBy_1 8 rfl rfl)
theorem dX0_wetBy_31 : decode cX0_wetBy 31 = .ok (.iinc 3 1, 3) := dk_132 3 1 (dk_at dksX0_wetBy_1 9 rfl rfl)
theorem dX0_wetBy_34 : decode cX0_wetBy 34 = .ok (.goto (-30), 3) := dk_167 255 226 (dk_at dksX0_wetBy_1 12 rfl rfl)
theorem dX0_wetBy_37 : decode cX0_wetBy 37 = .ok (.iload_n 2, 1) := dk_28 (dk_at dksX0_wetBy_1 15 rfl rfl)
theorem dX0_wetBy_38 : decode cX0_wetBy 38 = .ok (.ireturn, 1) := dk_172 (dk_at dksX0_wetBy_1 16 rfl rfl)
abbrev cX0_meets : ByteArray := prog_1_method_26_code
def yX0_meets : MethodName := ⟨RX0, "meets", "(I)I"⟩
def dkwX0_meets_2 : List UInt8 := [167, 0, 4, 3, 172]
abbrev dktX0_meets_2 : List UInt8 := dkwX0_meets_2 ++ []
def dkwX0_meets_1 : List UInt8 := [42, 42, 180, 0, 41, 180, 1, 0, 27, 182, 0, 140, 192, 0, 243, 182, 1, 3, 153, 0, 7, 4]
abbrev dktX0_meets_1 : List UInt8 := dkwX0_meets_1 ++ dktX0_meets_2
def dkwX0_meets_0 : List UInt8 := [27, 3, 42, 180, 0, 41, 180, 1, 0, 182, 0, 131, 4, 100, 184, 0, 174, 154, 0, 7, 2, 167, 0, 29]
abbrev dktX0_meets_0 : List UInt8 := dkwX0_meets_0 ++ dktX0_meets_1
theorem dksX0_meets_0 : cX0_meets.data.toList.drop 0 = dktX0_meets_0 := by decide +kernel
theorem dksX0_meets_1 : cX0_meets.data.toList.drop 24 = dktX0_meets_1 := dk_seg dksX0_meets_0 24 rfl rfl
theorem dksX0_meets_2 : cX0_meets.data.toList.drop 46 = dktX0_meets_2 := dk_seg dksX0_meets_1 22 rfl rfl
theorem dX0_meets_0 : decode cX0_meets 0 = .ok (.iload_n 1, 1) := dk_27 (dk_at dksX0_meets_0 0 rfl rfl)
theorem dX0_meets_1 : decode cX0_meets 1 = .ok (.iconst 0, 1) := dk_3 (dk_at dksX0_meets_0 1 rfl rfl)
theorem dX0_meets_2 : decode cX0_meets 2 = .ok (.aload_n 0, 1) := dk_42 (dk_at dksX0_meets_0 2 rfl rfl)
theorem dX0_meets_3 : decode cX0_meets 3 = .ok (.getfield 41, 3) := dk_180 0 41 (dk_at dksX0_meets_0 3 rfl rfl)
theorem dX0_meets_6 : decode cX0_meets 6 = .ok (.getfield 256, 3) := dk_180 1 0 (dk_at dksX0_meets_0 6 rfl rfl)
theorem dX0_meets_9 : decode cX0_meets 9 = .ok (.invokevirtual 131, 3) := dk_182 0 131 (dk_at dksX0_meets_0 9 rfl rfl)
theorem dX0_meets_12 : decode cX0_meets 12 = .ok (.iconst 1, 1) := dk_4 (dk_at dksX0_meets_0 12 rfl rfl)
theorem dX0_meets_13 : decode cX0_meets 13 = .ok (.isub, 1) := dk_100 (dk_at dksX0_meets_0 13 rfl rfl)
theorem dX0_meets_14 : decode cX0_meets 14 = .ok (.invokestatic 174, 3) := dk_184 0 174 (dk_at dksX0_meets_0 14 rfl rfl)
theorem dX0_meets_17 : decode cX0_meets 17 = .ok (.ifCond .ne 7, 3) := dk_154 0 7 (dk_at dksX0_meets_0 17 rfl rfl)
theorem dX0_meets_20 : decode cX0_meets 20 = .ok (.iconst (-1), 1) := dk_2 (dk_at dksX0_meets_0 20 rfl rfl)
theorem dX0_meets_21 : decode cX0_meets 21 = .ok (.goto 29, 3) := dk_167 0 29 (dk_at dksX0_meets_0 21 rfl rfl)
theorem dX0_meets_24 : decode cX0_meets 24 = .ok (.aload_n 0, 1) := dk_42 (dk_at dksX0_meets_1 0 rfl rfl)
theorem dX0_meets_25 : decode cX0_meets 25 = .ok (.aload_n 0, 1) := dk_42 (dk_at dksX0_meets_1 1 rfl rfl)
theorem dX0_meets_26 : decode cX0_meets 26 = .ok (.getfield 41, 3) := dk_180 0 41 (dk_at dksX0_meets_1 2 rfl rfl)
theorem dX0_meets_29 : decode cX0_meets 29 = .ok (.getfield 256, 3) := dk_180 1 0 (dk_at dksX0_meets_1 5 rfl rfl)
theorem dX0_meets_32 : decode cX0_meets 32 = .ok (.iload_n 1, 1) := dk_27 (dk_at dksX0_meets_1 8 rfl rfl)
theorem dX0_meets_33 : decode cX0_meets 33 = .ok (.invokevirtual 140, 3) := dk_182 0 140 (dk_at dksX0_meets_1 9 rfl rfl)
theorem dX0_meets_36 : decode cX0_meets 36 = .ok (.checkcast 243, 3) := dk_192 0 243 (dk_at dksX0_meets_1 12 rfl rfl)
theorem dX0_meets_39 : decode cX0_meets 39 = .ok (.invokevirtual 259, 3) := dk_182 1 3 (dk_at dksX0_meets_1 15 rfl rfl)
theorem dX0_meets_42 : decode cX0_meets 42 = .ok (.ifCond .eq 7, 3) := dk_153 0 7 (dk_at dksX0_meets_1 18 rfl rfl)
theorem dX0_meets_45 : decode cX0_meets 45 = .ok (.iconst 1, 1) := dk_4 (dk_at dksX0_meets_1 21 rfl rfl)
theorem dX0_meets_46 : decode cX0_meets 46 = .ok (.goto 4, 3) := dk_167 0 4 (dk_at dksX0_meets_2 0 rfl rfl)
theorem dX0_meets_49 : decode cX0_meets 49 = .ok (.iconst 0, 1) := dk_3 (dk_at dksX0_meets_2 3 rfl rfl)
theorem dX0_meets_50 : decode cX0_meets 50 = .ok (.ireturn, 1) := dk_172 (dk_at dksX0_meets_2 4 rfl rfl)
abbrev cX0_meets_2 : ByteArray := prog_1_method_25_code
def yX0_meets_2 : MethodName := ⟨RX0, "meets", "(LStiltTown$Stair;)Z"⟩
def dkwX0_meets_2_2 : List UInt8 := [163, 0, 7, 4, 167, 0, 4, 3, 172]
abbrev dktX0_meets_2_2 : List UInt8 := dkwX0_meets_2_2 ++ []
def dkwX0_meets_2_1 : List UInt8 := [61, 42, 180, 0, 48, 180, 0, 137, 43, 180, 0, 247, 46, 28, 100, 184, 0, 250, 43, 180, 0, 253]
abbrev dktX0_meets_2_1 : List UInt8 := dkwX0_meets_2_1 ++ dktX0_meets_2_2
def dkwX0_meets_2_0 : List UInt8 := [43, 180, 0, 242, 2, 160, 0, 7, 3, 167, 0, 15, 42, 180, 0, 48, 180, 0, 137, 43, 180, 0, 242, 46]
abbrev dktX0_meets_2_0 : List UInt8 := dkwX0_meets_2_0 ++ dktX0_meets_2_1
theorem dksX0_meets_2_0 : cX0_meets_2.data.toList.drop 0 = dktX0_meets_2_0 := by decide +kernel
theorem dksX0_meets_2_1 : cX0_meets_2.data.toList.drop 24 = dktX0_meets_2_1 := dk_seg dksX0_meets_2_0 24 rfl rfl
theorem dksX0_meets_2_2 : cX0_meets_2.data.toList.drop 46 = dktX0_meets_2_2 := dk_seg dksX0_meets_2_1 22 rfl rfl
theorem dX0_meets_2_0 : decode cX0_meets_2 0 = .ok (.aload_n 1, 1) := dk_43 (dk_at dksX0_meets_2_0 0 rfl rfl)
theorem dX0_meets_2_1 : decode cX0_meets_2 1 = .ok (.getfield 242, 3) := dk_180 0 242 (dk_at dksX0_meets_2_0 1 rfl rfl)
theorem dX0_meets_2_4 : decode cX0_meets_2 4 = .ok (.iconst (-1), 1) := dk_2 (dk_at dksX0_meets_2_0 4 rfl rfl)
theorem dX0_meets_2_5 : decode cX0_meets_2 5 = .ok (.if_icmp .ne 7, 3) := dk_160 0 7 (dk_at dksX0_meets_2_0 5 rfl rfl)
theorem dX0_meets_2_8 : decode cX0_meets_2 8 = .ok (.iconst 0, 1) := dk_3 (dk_at dksX0_meets_2_0 8 rfl rfl)
theorem dX0_meets_2_9 : decode cX0_meets_2 9 = .ok (.goto 15, 3) := dk_167 0 15 (dk_at dksX0_meets_2_0 9 rfl rfl)
theorem dX0_meets_2_12 : decode cX0_meets_2 12 = .ok (.aload_n 0, 1) := dk_42 (dk_at dksX0_meets_2_0 12 rfl rfl)
theorem dX0_meets_2_13 : decode cX0_meets_2 13 = .ok (.getfield 48, 3) := dk_180 0 48 (dk_at dksX0_meets_2_0 13 rfl rfl)
theorem dX0_meets_2_16 : decode cX0_meets_2 16 = .ok (.getfield 137, 3) := dk_180 0 137 (dk_at dksX0_meets_2_0 16 rfl rfl)
theorem dX0_meets_2_19 : decode cX0_meets_2 19 = .ok (.aload_n 1, 1) := dk_43 (dk_at dksX0_meets_2_0 19 rfl rfl)
theorem dX0_meets_2_20 : decode cX0_meets_2 20 = .ok (.getfield 242, 3) := dk_180 0 242 (dk_at dksX0_meets_2_0 20 rfl rfl)
theorem dX0_meets_2_23 : decode cX0_meets_2 23 = .ok (.iaload, 1) := dk_46 (dk_at dksX0_meets_2_0 23 rfl rfl)
theorem dX0_meets_2_24 : decode cX0_meets_2 24 = .ok (.istore_n 2, 1) := dk_61 (dk_at dksX0_meets_2_1 0 rfl rfl)
theorem dX0_meets_2_25 : decode cX0_meets_2 25 = .ok (.aload_n 0, 1) := dk_42 (dk_at dksX0_meets_2_1 1 rfl rfl)
theorem dX0_meets_2_26 : decode cX0_meets_2 26 = .ok (.getfield 48, 3) := dk_180 0 48 (dk_at dksX0_meets_2_1 2 rfl rfl)
theorem dX0_meets_2_29 : decode cX0_meets_2 29 = .ok (.getfield 137, 3) := dk_180 0 137 (dk_at dksX0_meets_2_1 5 rfl rfl)
theorem dX0_meets_2_32 : decode cX0_meets_2 32 = .ok (.aload_n 1, 1) := dk_43 (dk_at dksX0_meets_2_1 8 rfl rfl)
theorem dX0_meets_2_33 : decode cX0_meets_2 33 = .ok (.getfield 247, 3) := dk_180 0 247 (dk_at dksX0_meets_2_1 9 rfl rfl)
theorem dX0_meets_2_36 : decode cX0_meets_2 36 = .ok (.iaload, 1) := dk_46 (dk_at dksX0_meets_2_1 12 rfl rfl)
theorem dX0_meets_2_37 : decode cX0_meets_2 37 = .ok (.iload_n 2, 1) := dk_28 (dk_at dksX0_meets_2_1 13 rfl rfl)
theorem dX0_meets_2_38 : decode cX0_meets_2 38 = .ok (.isub, 1) := dk_100 (dk_at dksX0_meets_2_1 14 rfl rfl)
theorem dX0_meets_2_39 : decode cX0_meets_2 39 = .ok (.invokestatic 250, 3) := dk_184 0 250 (dk_at dksX0_meets_2_1 15 rfl rfl)
theorem dX0_meets_2_42 : decode cX0_meets_2 42 = .ok (.aload_n 1, 1) := dk_43 (dk_at dksX0_meets_2_1 18 rfl rfl)
theorem dX0_meets_2_43 : decode cX0_meets_2 43 = .ok (.getfield 253, 3) := dk_180 0 253 (dk_at dksX0_meets_2_1 19 rfl rfl)
theorem dX0_meets_2_46 : decode cX0_meets_2 46 = .ok (.if_icmp .gt 7, 3) := dk_163 0 7 (dk_at dksX0_meets_2_2 0 rfl rfl)
theorem dX0_meets_2_49 : decode cX0_meets_2 49 = .ok (.iconst 1, 1) := dk_4 (dk_at dksX0_meets_2_2 3 rfl rfl)
theorem dX0_meets_2_50 : decode cX0_meets_2 50 = .ok (.goto 4, 3) := dk_167 0 4 (dk_at dksX0_meets_2_2 4 rfl rfl)
theorem dX0_meets_2_53 : decode cX0_meets_2 53 = .ok (.iconst 0, 1) := dk_3 (dk_at dksX0_meets_2_2 7 rfl rfl)
theorem dX0_meets_2_54 : decode cX0_meets_2 54 = .ok (.ireturn, 1) := dk_172 (dk_at dksX0_meets_2_2 8 rfl rfl)
abbrev cX0_reached : ByteArray := prog_1_method_30_code
def yX0_reached : MethodName := ⟨RX0, "reached", "(I)I"⟩
def dkwX0_reached_0 : List UInt8 := [27, 184, 0, 233, 153, 0, 11, 42, 27, 182, 1, 18, 167, 0, 4, 2, 172]
abbrev dktX0_reached_0 : List UInt8 := dkwX0_reached_0 ++ []
theorem dksX0_reached_0 : cX0_reached.data.toList.drop 0 = dktX0_reached_0 := by decide +kernel
theorem dX0_reached_0 : decode cX0_reached 0 = .ok (.iload_n 1, 1) := dk_27 (dk_at dksX0_reached_0 0 rfl rfl)
theorem dX0_reached_1 : decode cX0_reached 1 = .ok (.invokestatic 233, 3) := dk_184 0 233 (dk_at dksX0_reached_0 1 rfl rfl)
theorem dX0_reached_4 : decode cX0_reached 4 = .ok (.ifCond .eq 11, 3) := dk_153 0 11 (dk_at dksX0_reached_0 4 rfl rfl)
theorem dX0_reached_7 : decode cX0_reached 7 = .ok (.aload_n 0, 1) := dk_42 (dk_at dksX0_reached_0 7 rfl rfl)
theorem dX0_reached_8 : decode cX0_reached 8 = .ok (.iload_n 1, 1) := dk_27 (dk_at dksX0_reached_0 8 rfl rfl)
theorem dX0_reached_9 : decode cX0_reached 9 = .ok (.invokevirtual 274, 3) := dk_182 1 18 (dk_at dksX0_reached_0 9 rfl rfl)
theorem dX0_reached_12 : decode cX0_reached 12 = .ok (.goto 4, 3) := dk_167 0 4 (dk_at dksX0_reached_0 12 rfl rfl)
theorem dX0_reached_15 : decode cX0_reached 15 = .ok (.iconst (-1), 1) := dk_2 (dk_at dksX0_reached_0 15 rfl rfl)
theorem dX0_reached_16 : decode cX0_reached 16 = .ok (.ireturn, 1) := dk_172 (dk_at dksX0_reached_0 16 rfl rfl)
abbrev cX0_reachedAt : ByteArray := prog_1_method_29_code
def yX0_reachedAt : MethodName := ⟨RX0, "reachedAt", "(I)I"⟩
def dkwX0_reachedAt_0 : List UInt8 := [42, 42, 27, 182, 0, 236, 2, 2, 182, 1, 14, 172]
abbrev dktX0_reachedAt_0 : List UInt8 := dkwX0_reachedAt_0 ++ []
theorem dksX0_reachedAt_0 : cX0_reachedAt.data.toList.drop 0 = dktX0_reachedAt_0 := by decide +kernel
theorem dX0_reachedAt_0 : decode cX0_reachedAt 0 = .ok (.aload_n 0, 1) := dk_42 (dk_at dksX0_reachedAt_0 0 rfl rfl)
theorem dX0_reachedAt_1 : decode cX0_reachedAt 1 = .ok (.aload_n 0, 1) := dk_42 (dk_at dksX0_reachedAt_0 1 rfl rfl)
theorem dX0_reachedAt_2 : decode cX0_reachedAt 2 = .ok (.iload_n 1, 1) := dk_27 (dk_at dksX0_reachedAt_0 2 rfl rfl)
theorem dX0_reachedAt_3 : decode cX0_reachedAt 3 = .ok (.invokevirtual 236, 3) := dk_182 0 236 (dk_at dksX0_reachedAt_0 3 rfl rfl)
theorem dX0_reachedAt_6 : decode cX0_reachedAt 6 = .ok (.iconst (-1), 1) := dk_2 (dk_at dksX0_reachedAt_0 6 rfl rfl)
theorem dX0_reachedAt_7 : decode cX0_reachedAt 7 = .ok (.iconst (-1), 1) := dk_2 (dk_at dksX0_reachedAt_0 7 rfl rfl)
theorem dX0_reachedAt_8 : decode cX0_reachedAt 8 = .ok (.invokevirtual 270, 3) := dk_182 1 14 (dk_at dksX0_reachedAt_0 8 rfl rfl)
theorem dX0_reachedAt_11 : decode cX0_reachedAt 11 = .ok (.ireturn, 1) := dk_172 (dk_at dksX0_reachedAt_0 11 rfl rfl)
abbrev cX0_reachedBy : ByteArray := prog_1_method_27_code
def yX0_reachedBy : MethodName := ⟨RX0, "reachedBy", "(III)I"⟩
def dkwX0_reachedBy_6 : List UInt8 := [54, 5, 132, 7, 1, 167, 255, 200, 167, 255, 183, 21, 5, 172]
abbrev dktX0_reachedBy_6 : List UInt8 := dkwX0_reachedBy_6 ++ []
def dkwX0_reachedBy_5 : List UInt8 := [180, 1, 0, 21, 7, 182, 0, 140, 192, 0, 243, 21, 5, 27, 182, 1, 10, 21, 4, 2, 130, 126, 128]
abbrev dktX0_reachedBy_5 : List UInt8 := dkwX0_reachedBy_5 ++ dktX0_reachedBy_6
def dkwX0_reachedBy_4 : List UInt8 := [180, 1, 0, 182, 0, 131, 162, 0, 47, 21, 7, 28, 159, 0, 35, 21, 5, 42, 42, 180, 0, 41]
abbrev dktX0_reachedBy_4 : List UInt8 := dkwX0_reachedBy_4 ++ dktX0_reachedBy_5
def dkwX0_reachedBy_3 : List UInt8 := [2, 54, 6, 21, 6, 21, 5, 159, 0, 72, 21, 5, 54, 6, 3, 54, 7, 21, 7, 42, 180, 0, 41]
abbrev dktX0_reachedBy_3 : List UInt8 := dkwX0_reachedBy_3 ++ dktX0_reachedBy_4
def dkwX0_reachedBy_2 : List UInt8 := [21, 5, 4, 21, 6, 120, 128, 54, 5, 132, 6, 1, 167, 255, 222, 21, 5, 21, 4, 2, 130, 126, 54, 5]
abbrev dktX0_reachedBy_2 : List UInt8 := dkwX0_reachedBy_2 ++ dktX0_reachedBy_3
def dkwX0_reachedBy_1 : List UInt8 := [54, 6, 21, 6, 42, 182, 0, 172, 162, 0, 31, 42, 180, 0, 41, 180, 1, 7, 21, 6, 51, 153, 0, 12]
abbrev dktX0_reachedBy_1 : List UInt8 := dkwX0_reachedBy_1 ++ dktX0_reachedBy_2
def dkwX0_reachedBy_0 : List UInt8 := [42, 27, 182, 0, 239, 29, 2, 160, 0, 7, 3, 167, 0, 6, 4, 29, 120, 128, 54, 4, 3, 54, 5, 3]
abbrev dktX0_reachedBy_0 : List UInt8 := dkwX0_reachedBy_0 ++ dktX0_reachedBy_1
theorem dksX0_reachedBy_0 : cX0_reachedBy.data.toList.drop 0 = dktX0_reachedBy_0 := by decide +kernel
theorem dksX0_reachedBy_1 : cX0_reachedBy.data.toList.drop 24 = dktX0_reachedBy_1 := dk_seg dksX0_reachedBy_0 24 rfl rfl
theorem dksX0_reachedBy_2 : cX0_reachedBy.data.toList.drop 48 = dktX0_reachedBy_2 := dk_seg dksX0_reachedBy_1 24 rfl rfl
theorem dksX0_reachedBy_3 : cX0_reachedBy.data.toList.drop 72 = dktX0_reachedBy_3 := dk_seg dksX0_reachedBy_2 24 rfl rfl
theorem dksX0_reachedBy_4 : cX0_reachedBy.data.toList.drop 95 = dktX0_reachedBy_4 := dk_seg dksX0_reachedBy_3 23 rfl rfl
theorem dksX0_reachedBy_5 : cX0_reachedBy.data.toList.drop 117 = dktX0_reachedBy_5 := dk_seg dksX0_reachedBy_4 22 rfl rfl
theorem dksX0_reachedBy_6 : cX0_reachedBy.data.toList.drop 140 = dktX0_reachedBy_6 := dk_seg dksX0_reachedBy_5 23 rfl rfl
theorem dX0_reachedBy_0 : decode cX0_reachedBy 0 = .ok (.aload_n 0, 1) := dk_42 (dk_at dksX0_reachedBy_0 0 rfl rfl)
theorem dX0_reachedBy_1 : decode cX0_reachedBy 1 = .ok (.iload_n 1, 1) := dk_27 (dk_at dksX0_reachedBy_0 1 rfl rfl)
theorem dX0_reachedBy_2 : decode cX0_reachedBy 2 = .ok (.invokevirtual 239, 3) := dk_182 0 239 (dk_at dksX0_reachedBy_0 2 rfl rfl)
theorem dX0_reachedBy_5 : decode cX0_reachedBy 5 = .ok (.iload_n 3, 1) := dk_29 (dk_at dksX0_reachedBy_0 5 rfl rfl)
theorem dX0_reachedBy_6 : decode cX0_reachedBy 6 = .ok (.iconst (-1), 1) := dk_2 (dk_at dksX0_reachedBy_0 6 rfl rfl)
theorem dX0_reachedBy_7 : decode cX0_reachedBy 7 = .ok (.if_icmp .ne 7, 3) := dk_160 0 7 (dk_at dksX0_reachedBy_0 7 rfl rfl)
theorem dX0_reachedBy_10 : decode cX0_reachedBy 10 = .ok (.iconst 0, 1) := dk_3 (dk_at dksX0_reachedBy_0 10 rfl rfl)
theorem dX0_reachedBy_11 : decode cX0_reachedBy 11 = .ok (.goto 6, 3) := dk_167 0 6 (dk_at dksX0_reachedBy_0 11 rfl rfl)
theorem dX0_reachedBy_14 : decode cX0_reachedBy 14 = .ok (.iconst 1, 1) := dk_4 (dk_at dksX0_reachedBy_0 14 rfl rfl)
theorem dX0_reachedBy_15 : decode cX0_reachedBy 15 = .ok (.iload_n 3, 1) := dk_29 (dk_at dksX0_reachedBy_0 15 rfl rfl)
theorem dX0_reachedBy_16 : decode cX0_reachedBy 16 = .ok (.ishl, 1) := dk_120 (dk_at dksX0_reachedBy_0 16 rfl rfl)
theorem dX0_reachedBy_17 : decode cX0_reachedBy 17 = .ok (.ior, 1) := dk_128 (dk_at dksX0_reachedBy_0 17 rfl rfl)
theorem dX0_reachedBy_18 : decode cX0_reachedBy 18 = .ok (.istore 4, 2) := dk_54 4 (dk_at dksX0_reachedBy_0 18 rfl rfl)
theorem dX0_reachedBy_20 : decode cX0_reachedBy 20 = .ok (.iconst 0, 1) := dk_3 (dk_at dksX0_reachedBy_0 20 rfl rfl)
theorem dX0_reachedBy_21 : decode cX0_reachedBy 21 = .ok (.istore 5, 2) := dk_54 5 (dk_at dksX0_reachedBy_0 21 rfl rfl)
theorem dX0_reachedBy_23 : decode cX0_reachedBy 23 = .ok (.iconst 0, 1) := dk_3 (dk_at dksX0_reachedBy_0 23 rfl rfl)
theorem dX0_reachedBy_24 : decode cX0_reachedBy 24 = .ok (.istore 6, 2) := dk_54 6 (dk_at dksX0_reachedBy_1 0 rfl rfl)
theorem dX0_reachedBy_26 : decode cX0_reachedBy 26 = .ok (.iload 6, 2) := dk_21 6 (dk_at dksX0_reachedBy_1 2 rfl rfl)
theorem dX0_reachedBy_28 : decode cX0_reachedBy 28 = .ok (.aload_n 0, 1) := dk_42 (dk_at dksX0_reachedBy_1 4 rfl rfl)
theorem dX0_reachedBy_29 : decode cX0_reachedBy 29 = .ok (.invokevirtual 172, 3) := dk_182 0 172 (dk_at dksX0_reachedBy_1 5 rfl rfl)
theorem dX0_reachedBy_32 : decode cX0_reachedBy 32 = .ok (.if_icmp .ge 31, 3) := dk_162 0 31 (dk_at dksX0_reachedBy_1 8 rfl rfl)
theorem dX0_reachedBy_35 : decode cX0_reachedBy 35 = .ok (.aload_n 0, 1) := dk_42 (dk_at dksX0_reachedBy_1 11 rfl rfl)
theorem dX0_reachedBy_36 : decode cX0_reachedBy 36 = .ok (.getfield 41, 3) := dk_180 0 41 (dk_at dksX0_reachedBy_1 12 rfl rfl)
theorem dX0_reachedBy_39 : decode cX0_reachedBy 39 = .ok (.getfield 263, 3) := dk_180 1 7 (dk_at dksX0_reachedBy_1 15 rfl rfl)
theorem dX0_reachedBy_42 : decode cX0_reachedBy 42 = .ok (.iload 6, 2) := dk_21 6 (dk_at dksX0_reachedBy_1 18 rfl rfl)
theorem dX0_reachedBy_44 : decode cX0_reachedBy 44 = .ok (.baload, 1) := dk_51 (dk_at dksX0_reachedBy_1 20 rfl rfl)
theorem dX0_reachedBy_45 : decode cX0_reachedBy 45 = .ok (.ifCond .eq 12, 3) := dk_153 0 12 (dk_at dksX0_reachedBy_1 21 rfl rfl)
theorem dX0_reachedBy_48 : decode cX0_reachedBy 48 = .ok (.iload 5, 2) := dk_21 5 (dk_at dksX0_reachedBy_2 0 rfl rfl)
theorem dX0_reachedBy_50 : decode cX0_reachedBy 50 = .ok (.iconst 1, 1) := dk_4 (dk_at dksX0_reachedBy_2 2 rfl rfl)
theorem dX0_reachedBy_51 : decode cX0_reachedBy 51 = .ok (.iload 6, 2) := dk_21 6 (dk_at dksX0_reachedBy_2 3 rfl rfl)
theorem dX0_reachedBy_53 : decode cX0_reachedBy 53 = .ok (.ishl, 1) := dk_120 (dk_at dksX0_reachedBy_2 5 rfl rfl)
theorem dX0_reachedBy_54 : decode cX0_reachedBy 54 = .ok (.ior, 1) := dk_128 (dk_at dksX0_reachedBy_2 6 rfl rfl)
theorem dX0_reachedBy_55 : decode cX0_reachedBy 55 = .ok (.istore 5, 2) := dk_54 5 (dk_at dksX0_reachedBy_2 7 rfl rfl)
theorem dX0_reachedBy_57 : decode cX0_reachedBy 57 = .ok (.iinc 6 1, 3) := dk_132 6 1 (dk_at dksX0_reachedBy_2 9 rfl rfl)
theorem dX0_reachedBy_60 : decode cX0_reachedBy 60 = .ok (.goto (-34), 3) := dk_167 255 222 (dk_at dksX0_reachedBy_2 12 rfl rfl)
theorem dX0_reachedBy_63 : decode cX0_reachedBy 63 = .ok (.iload 5, 2) := dk_21 5 (dk_at dksX0_reachedBy_2 15 rfl rfl)
theorem dX0_reachedBy_65 : decode cX0_reachedBy 65 = .ok (.iload 4, 2) := dk_21 4 (dk_at dksX0_reachedBy_2 17 rfl rfl)
theorem dX0_reachedBy_67 : decode cX0_reachedBy 67 = .ok (.iconst (-1), 1) := dk_2 (dk_at dksX0_reachedBy_2 19 rfl rfl)
theorem dX0_reachedBy_68 : decode cX0_reachedBy 68 = .ok (.ixor, 1) := dk_130 (dk_at dksX0_reachedBy_2 20 rfl rfl)
theorem dX0_reachedBy_69 : decode cX0_reachedBy 69 = .ok (.iand, 1) := dk_126 (dk_at dksX0_reachedBy_2 21 rfl rfl)
theorem dX0_reachedBy_70 : decode cX0_reachedBy 70 = .ok (.istore 5, 2) := dk_54 5 (dk_at dksX0_reachedBy_2 22 rfl rfl)
theorem dX0_reachedBy_72 : decode cX0_reachedBy 72 = .ok (.iconst (-1), 1) := dk_2 (dk_at dksX0_reachedBy_3 0 rfl rfl)
theorem dX0_reachedBy_73 : decode cX0_reachedBy 73 = .ok (.istore 6, 2) := dk_54 6 (dk_at dksX0_reachedBy_3 1 rfl rfl)
theorem dX0_reachedBy_75 : decode cX0_reachedBy 75 = .ok (.iload 6, 2) := dk_21 6 (dk_at dksX0_reachedBy_3 3 rfl rfl)
theorem dX0_reachedBy_77 : decode cX0_reachedBy 77 = .ok (.iload 5, 2) := dk_21 5 (dk_at dksX0_reachedBy_3 5 rfl rfl)
theorem dX0_reachedBy_79 : decode cX0_reachedBy 79 = .ok (.if_icmp .eq 72, 3) := dk_159 0 72 (dk_at dksX0_reachedBy_3 7 rfl rfl)
theorem dX0_reachedBy_82 : decode cX0_reachedBy 82 = .ok (.iload 5, 2) := dk_21 5 (dk_at dksX0_reachedBy_3 10 rfl rfl)
theorem dX0_reachedBy_84 : decode cX0_reachedBy 84 = .ok (.istore 6, 2) := dk_54 6 (dk_at dksX0_reachedBy_3 12 rfl rfl)
theorem dX0_reachedBy_86 : decode cX0_reachedBy 86 = .ok (.iconst 0, 1) := dk_3 (dk_at dksX0_reachedBy_3 14 rfl rfl)
theorem dX0_reachedBy_87 : decode cX0_reachedBy 87 = .ok (.istore 7, 2) := dk_54 7 (dk_at dksX0_reachedBy_3 15 rfl rfl)
theorem dX0_reachedBy_89 : decode cX0_reachedBy 89 = .ok (.iload 7, 2) := dk_21 7 (dk_at dksX0_reachedBy_3 17 rfl rfl)
theorem dX0_reachedBy_91 : decode cX0_reachedBy 91 = .ok (.aload_n 0, 1) := dk_42 (dk_at dksX0_reachedBy_3 19 rfl rfl)
theorem dX0_reachedBy_92 : decode cX0_reachedBy 92 = .ok (.getfield 41, 3) := dk_180 0 41 (dk_at dksX0_reachedBy_3 20 rfl rfl)
theorem dX0_reachedBy_95 : decode cX0_reachedBy 95 = .ok (.getfield 256, 3) := dk_180 1 0 (dk_at dksX0_reachedBy_4 0 rfl rfl)
theorem dX0_reachedBy_98 : decode cX0_reachedBy 98 = .ok (.invokevirtual 131, 3) := dk_182 0 131 (dk_at dksX0_reachedBy_4 3 rfl rfl)
theorem dX0_reachedBy_101 : decode cX0_reachedBy 101 = .ok (.if_icmp .ge 47, 3) := dk_162 0 47 (dk_at dksX0_reachedBy_4 6 rfl rfl)
theorem dX0_reachedBy_104 : decode cX0_reachedBy 104 = .ok (.iload 7, 2) := dk_21 7 (dk_at dksX0_reachedBy_4 9 rfl rfl)
theorem dX0_reachedBy_106 : decode cX0_reachedBy 106 = .ok (.iload_n 2, 1) := dk_28 (dk_at dksX0_reachedBy_4 11 rfl rfl)
theorem dX0_reachedBy_107 : decode cX0_reachedBy 107 = .ok (.if_icmp .eq 35, 3) := dk_159 0 35 (dk_at dksX0_reachedBy_4 12 rfl rfl)
theorem dX0_reachedBy_110 : decode cX0_reachedBy 110 = .ok (.iload 5, 2) := dk_21 5 (dk_at dksX0_reachedBy_4 15 rfl rfl)
theorem dX0_reachedBy_112 : decode cX0_reachedBy 112 = .ok (.aload_n 0, 1) := dk_42 (dk_at dksX0_reachedBy_4 17 rfl rfl)
theorem dX0_reachedBy_113 : decode cX0_reachedBy 113 = .ok (.aload_n 0, 1) := dk_42 (dk_at dksX0_reachedBy_4 18 rfl rfl)
theorem dX0_reachedBy_114 : decode cX0_reachedBy 114 = .ok (.getfield 41, 3) := dk_180 0 41 (dk_at dksX0_reachedBy_4 19 rfl rfl)
theorem dX0_reachedBy_117 : decode cX0_reachedBy 117 = .ok (.getfield 256, 3) := dk_180 1 0 (dk_at dksX0_reachedBy_5 0 rfl rfl)
theorem dX0_reachedBy_120 : decode cX0_reachedBy 120 = .ok (.iload 7, 2) := dk_21 7 (dk_at dksX0_reachedBy_5 3 rfl rfl)
theorem dX0_reachedBy_122 : decode cX0_reachedBy 122 = .ok (.invokevirtual 140, 3) := dk_182 0 140 (dk_at dksX0_reachedBy_5 5 rfl rfl)
theorem dX0_reachedBy_125 : decode cX0_reachedBy 125 = .ok (.checkcast 243, 3) := dk_192 0 243 (dk_at dksX0_reachedBy_5 8 rfl rfl)
theorem dX0_reachedBy_128 : decode cX0_reachedBy 128 = .ok (.iload 5, 2) := dk_21 5 (dk_at dksX0_reachedBy_5 11 rfl rfl)
theorem dX0_reachedBy_130 : decode cX0_reachedBy 130 = .ok (.iload_n 1, 1) := dk_27 (dk_at dksX0_reachedBy_5 13 rfl rfl)
theorem dX0_reachedBy_131 : decode cX0_reachedBy 131 = .ok (.invokevirtual 266, 3) := dk_182 1 10 (dk_at dksX0_reachedBy_5 14 rfl rfl)
theorem dX0_reachedBy_134 : decode cX0_reachedBy 134 = .ok (.iload 4, 2) := dk_21 4 (dk_at dksX0_reachedBy_5 17 rfl rfl)
theorem dX0_reachedBy_136 : decode cX0_reachedBy 136 = .ok (.iconst (-1), 1) := dk_2 (dk_at dksX0_reachedBy_5 19 rfl rfl)
theorem dX0_reachedBy_137 : decode cX0_reachedBy 137 = .ok (.ixor, 1) := dk_130 (dk_at dksX0_reachedBy_5 20 rfl rfl)
theorem dX0_reachedBy_138 : decode cX0_reachedBy 138 = .ok (.iand, 1) := dk_126 (dk_at dksX0_reachedBy_5 21 rfl rfl)
theorem dX0_reachedBy_139 : decode cX0_reachedBy 139 = .ok (.ior, 1) := dk_128 (dk_at dksX0_reachedBy_5 22 rfl rfl)
theorem dX0_reachedBy_140 : decode cX0_reachedBy 140 = .ok (.istore 5, 2) := dk_54 5 (dk_at dksX0_reachedBy_6 0 rfl rfl)
theorem dX0_reachedBy_142 : decode cX0_reachedBy 142 = .ok (.iinc 7 1, 3) := dk_132 7 1 (dk_at dksX0_reachedBy_6 2 rfl rfl)
theorem dX0_reachedBy_145 : decode cX0_reachedBy 145 = .ok (.goto (-56), 3) := dk_167 255 200 (dk_at dksX0_reachedBy_6 5 rfl rfl)
theorem dX0_reachedBy_148 : decode cX0_reachedBy 148 = .ok (.goto (-73), 3) := dk_167 255 183 (dk_at dksX0_reachedBy_6 8 rfl rfl)
theorem dX0_reachedBy_151 : decode cX0_reachedBy 151 = .ok (.iload 5, 2) := dk_21 5 (dk_at dksX0_reachedBy_6 11 rfl rfl)
theorem dX0_reachedBy_153 : decode cX0_reachedBy 153 = .ok (.ireturn, 1) := dk_172 (dk_at dksX0_reachedBy_6 13 rfl rfl)
abbrev cX0_beyond : ByteArray := prog_1_method_28_code
def yX0_beyond : MethodName := ⟨RX0, "beyond", "(LStiltTown$Stair;II)I"⟩
def dkwX0_beyond_2 : List UInt8 := [180, 0, 242, 122, 4, 126, 43, 180, 0, 247, 120, 128, 172]
abbrev dktX0_beyond_2 : List UInt8 := dkwX0_beyond_2 ++ []
def dkwX0_beyond_1 : List UInt8 := [180, 0, 247, 120, 167, 0, 4, 3, 172, 28, 43, 180, 0, 247, 122, 4, 126, 43, 180, 0, 242, 120, 28, 43]
abbrev dktX0_beyond_1 : List UInt8 := dkwX0_beyond_1 ++ dktX0_beyond_2
def dkwX0_beyond_0 : List UInt8 := [42, 43, 182, 1, 3, 154, 0, 5, 3, 172, 43, 180, 0, 242, 2, 160, 0, 18, 29, 154, 0, 12, 4, 43]
abbrev dktX0_beyond_0 : List UInt8 := dkwX0_beyond_0 ++ dktX0_beyond_1
theorem dksX0_beyond_0 : cX0_beyond.data.toList.drop 0 = dktX0_beyond_0 := by decide +kernel
theorem dksX0_beyond_1 : cX0_beyond.data.toList.drop 24 = dktX0_beyond_1 := dk_seg dksX0_beyond_0 24 rfl rfl
theorem dksX0_beyond_2 : cX0_beyond.data.toList.drop 48 = dktX0_beyond_2 := dk_seg dksX0_beyond_1 24 rfl rfl
theorem dX0_beyond_0 : decode cX0_beyond 0 = .ok (.aload_n 0, 1) := dk_42 (dk_at dksX0_beyond_0 0 rfl rfl)
theorem dX0_beyond_1 : decode cX0_beyond 1 = .ok (.aload_n 1, 1) := dk_43 (dk_at dksX0_beyond_0 1 rfl rfl)
theorem dX0_beyond_2 : decode cX0_beyond 2 = .ok (.invokevirtual 259, 3) := dk_182 1 3 (dk_at dksX0_beyond_0 2 rfl rfl)
theorem dX0_beyond_5 : decode cX0_beyond 5 = .ok (.ifCond .ne 5, 3) := dk_154 0 5 (dk_at dksX0_beyond_0 5 rfl rfl)
theorem dX0_beyond_8 : decode cX0_beyond 8 = .ok (.iconst 0, 1) := dk_3 (dk_at dksX0_beyond_0 8 rfl rfl)
theorem dX0_beyond_9 : decode cX0_beyond 9 = .ok (.ireturn, 1) := dk_172 (dk_at dksX0_beyond_0 9 rfl rfl)
theorem dX0_beyond_10 : decode cX0_beyond 10 = .ok (.aload_n 1, 1) := dk_43 (dk_at dksX0_beyond_0 10 rfl rfl)
theorem dX0_beyond_11 : decode cX0_beyond 11 = .ok (.getfield 242, 3) := dk_180 0 242 (dk_at dksX0_beyond_0 11 rfl rfl)
theorem dX0_beyond_14 : decode cX0_beyond 14 = .ok (.iconst (-1), 1) := dk_2 (dk_at dksX0_beyond_0 14 rfl rfl)
theorem dX0_beyond_15 : decode cX0_beyond 15 = .ok (.if_icmp .ne 18, 3) := dk_160 0 18 (dk_at dksX0_beyond_0 15 rfl rfl)
theorem dX0_beyond_18 : decode cX0_beyond 18 = .ok (.iload_n 3, 1) := dk_29 (dk_at dksX0_beyond_0 18 rfl rfl)
theorem dX0_beyond_19 : decode cX0_beyond 19 = .ok (.ifCond .ne 12, 3) := dk_154 0 12 (dk_at dksX0_beyond_0 19 rfl rfl)
theorem dX0_beyond_22 : decode cX0_beyond 22 = .ok (.iconst 1, 1) := dk_4 (dk_at dksX0_beyond_0 22 rfl rfl)
theorem dX0_beyond_23 : decode cX0_beyond 23 = .ok (.aload_n 1, 1) := dk_43 (dk_at dksX0_beyond_0 23 rfl rfl)
theorem dX0_beyond_24 : decode cX0_beyond 24 = .ok (.getfield 247, 3) := dk_180 0 247 (dk_at dksX0_beyond_1 0 rfl rfl)
theorem dX0_beyond_27 : decode cX0_beyond 27 = .ok (.ishl, 1) := dk_120 (dk_at dksX0_beyond_1 3 rfl rfl)
theorem dX0_beyond_28 : decode cX0_beyond 28 = .ok (.goto 4, 3) := dk_167 0 4 (dk_at dksX0_beyond_1 4 rfl rfl)
theorem dX0_beyond_31 : decode cX0_beyond 31 = .ok (.iconst 0, 1) := dk_3 (dk_at dksX0_beyond_1 7 rfl rfl)
theorem dX0_beyond_32 : decode cX0_beyond 32 = .ok (.ireturn, 1) := dk_172 (dk_at dksX0_beyond_1 8 rfl rfl)
theorem dX0_beyond_33 : decode cX0_beyond 33 = .ok (.iload_n 2, 1) := dk_28 (dk_at dksX0_beyond_1 9 rfl rfl)
theorem dX0_beyond_34 : decode cX0_beyond 34 = .ok (.aload_n 1, 1) := dk_43 (dk_at dksX0_beyond_1 10 rfl rfl)
theorem dX0_beyond_35 : decode cX0_beyond 35 = .ok (.getfield 247, 3) := dk_180 0 247 (dk_at dksX0_beyond_1 11 rfl rfl)
theorem dX0_beyond_38 : decode cX0_beyond 38 = .ok (.ishr, 1) := dk_122 (dk_at dksX0_beyond_1 14 rfl rfl)
theorem dX0_beyond_39 : decode cX0_beyond 39 = .ok (.iconst 1, 1) := dk_4 (dk_at dksX0_beyond_1 15 rfl rfl)
theorem dX0_beyond_40 : decode cX0_beyond 40 = .ok (.iand, 1) := dk_126 (dk_at dksX0_beyond_1 16 rfl rfl)
theorem dX0_beyond_41 : decode cX0_beyond 41 = .ok (.aload_n 1, 1) := dk_43 (dk_at dksX0_beyond_1 17 rfl rfl)
theorem dX0_beyond_42 : decode cX0_beyond 42 = .ok (.getfield 242, 3) := dk_180 0 242 (dk_at dksX0_beyond_1 18 rfl rfl)
theorem dX0_beyond_45 : decode cX0_beyond 45 = .ok (.ishl, 1) := dk_120 (dk_at dksX0_beyond_1 21 rfl rfl)
theorem dX0_beyond_46 : decode cX0_beyond 46 = .ok (.iload_n 2, 1) := dk_28 (dk_at dksX0_beyond_1 22 rfl rfl)
theorem dX0_beyond_47 : decode cX0_beyond 47 = .ok (.aload_n 1, 1) := dk_43 (dk_at dksX0_beyond_1 23 rfl rfl)
theorem dX0_beyond_48 : decode cX0_beyond 48 = .ok (.getfield 242, 3) := dk_180 0 242 (dk_at dksX0_beyond_2 0 rfl rfl)
theorem dX0_beyond_51 : decode cX0_beyond 51 = .ok (.ishr, 1) := dk_122 (dk_at dksX0_beyond_2 3 rfl rfl)
theorem dX0_beyond_52 : decode cX0_beyond 52 = .ok (.iconst 1, 1) := dk_4 (dk_at dksX0_beyond_2 4 rfl rfl)
theorem dX0_beyond_53 : decode cX0_beyond 53 = .ok (.iand, 1) := dk_126 (dk_at dksX0_beyond_2 5 rfl rfl)
theorem dX0_beyond_54 : decode cX0_beyond 54 = .ok (.aload_n 1, 1) := dk_43 (dk_at dksX0_beyond_2 6 rfl rfl)
theorem dX0_beyond_55 : decode cX0_beyond 55 = .ok (.getfield 247, 3) := dk_180 0 247 (dk_at dksX0_beyond_2 7 rfl rfl)
theorem dX0_beyond_58 : decode cX0_beyond 58 = .ok (.ishl, 1) := dk_120 (dk_at dksX0_beyond_2 10 rfl rfl)
theorem dX0_beyond_59 : decode cX0_beyond 59 = .ok (.ior, 1) := dk_128 (dk_at dksX0_beyond_2 11 rfl rfl)
theorem dX0_beyond_60 : decode cX0_beyond 60 = .ok (.ireturn, 1) := dk_172 (dk_at dksX0_beyond_2 12 rfl rfl)
abbrev cX0_hours : ByteArray := prog_1_method_31_code
def yX0_hours : MethodName := ⟨RX0, "hours", "(I)I"⟩
def dkwX0_hours_1 : List UInt8 := [182, 1, 18, 27, 122, 4, 126, 96, 61, 132, 3, 1, 167, 255, 235, 28, 172]
abbrev dktX0_hours_1 : List UInt8 := dkwX0_hours_1 ++ []
def dkwX0_hours_0 : List UInt8 := [42, 27, 182, 0, 210, 154, 0, 5, 2, 172, 3, 61, 3, 62, 29, 16, 24, 162, 0, 21, 28, 42, 29]
abbrev dktX0_hours_0 : List UInt8 := dkwX0_hours_0 ++ dktX0_hours_1
theorem dksX0_hours_0 : cX0_hours.data.toList.drop 0 = dktX0_hours_0 := by decide +kernel
theorem dksX0_hours_1 : cX0_hours.data.toList.drop 23 = dktX0_hours_1 := dk_seg dksX0_hours_0 23 rfl rfl
theorem dX0_hours_0 : decode cX0_hours 0 = .ok (.aload_n 0, 1) := dk_42 (dk_at dksX0_hours_0 0 rfl rfl)
theorem dX0_hours_1 : decode cX0_hours 1 = .ok (.iload_n 1, 1) := dk_27 (dk_at dksX0_hours_0 1 rfl rfl)
theorem dX0_hours_2 : decode cX0_hours 2 = .ok (.invokevirtual 210, 3) := dk_182 0 210 (dk_at dksX0_hours_0 2 rfl rfl)
theorem dX0_hours_5 : decode cX0_hours 5 = .ok (.ifCond .ne 5, 3) := dk_154 0 5 (dk_at dksX0_hours_0 5 rfl rfl)
theorem dX0_hours_8 : decode cX0_hours 8 = .ok (.iconst (-1), 1) := dk_2 (dk_at dksX0_hours_0 8 rfl rfl)
theorem dX0_hours_9 : decode cX0_hours 9 = .ok (.ireturn, 1) := dk_172 (dk_at dksX0_hours_0 9 rfl rfl)
theorem dX0_hours_10 : decode cX0_hours 10 = .ok (.iconst 0, 1) := dk_3 (dk_at dksX0_hours_0 10 rfl rfl)
theorem dX0_hours_11 : decode cX0_hours 11 = .ok (.istore_n 2, 1) := dk_61 (dk_at dksX0_hours_0 11 rfl rfl)
theorem dX0_hours_12 : decode cX0_hours 12 = .ok (.iconst 0, 1) := dk_3 (dk_at dksX0_hours_0 12 rfl rfl)
theorem dX0_hours_13 : decode cX0_hours 13 = .ok (.istore_n 3, 1) := dk_62 (dk_at dksX0_hours_0 13 rfl rfl)
theorem dX0_hours_14 : decode cX0_hours 14 = .ok (.iload_n 3, 1) := dk_29 (dk_at dksX0_hours_0 14 rfl rfl)
theorem dX0_hours_15 : decode cX0_hours 15 = .ok (.bipush 24, 2) := dk_16 24 (dk_at dksX0_hours_0 15 rfl rfl)
theorem dX0_hours_17 : decode cX0_hours 17 = .ok (.if_icmp .ge 21, 3) := dk_162 0 21 (dk_at dksX0_hours_0 17 rfl rfl)
theorem dX0_hours_20 : decode cX0_hours 20 = .ok (.iload_n 2, 1) := dk_28 (dk_at dksX0_hours_0 20 rfl rfl)
theorem dX0_hours_21 : decode cX0_hours 21 = .ok (.aload_n 0, 1) := dk_42 (dk_at dksX0_hours_0 21 rfl rfl)
theorem dX0_hours_22 : decode cX0_hours 22 = .ok (.iload_n 3, 1) := dk_29 (dk_at dksX0_hours_0 22 rfl rfl)
theorem dX0_hours_23 : decode cX0_hours 23 = .ok (.invokevirtual 274, 3) := dk_182 1 18 (dk_at dksX0_hours_1 0 rfl rfl)
theorem dX0_hours_26 : decode cX0_hours 26 = .ok (.iload_n 1, 1) := dk_27 (dk_at dksX0_hours_1 3 rfl rfl)
theorem dX0_hours_27 : decode cX0_hours 27 = .ok (.ishr, 1) := dk_122 (dk_at dksX0_hours_1 4 rfl rfl)
theorem dX0_hours_28 : decode cX0_hours 28 = .ok (.iconst 1, 1) := dk_4 (dk_at dksX0_hours_1 5 rfl rfl)
theorem dX0_hours_29 : decode cX0_hours 29 = .ok (.iand, 1) := dk_126 (dk_at dksX0_hours_1 6 rfl rfl)
theorem dX0_hours_30 : decode cX0_hours 30 = .ok (.iadd, 1) := dk_96 (dk_at dksX0_hours_1 7 rfl rfl)
theorem dX0_hours_31 : decode cX0_hours 31 = .ok (.istore_n 2, 1) := dk_61 (dk_at dksX0_hours_1 8 rfl rfl)
theorem dX0_hours_32 : decode cX0_hours 32 = .ok (.iinc 3 1, 3) := dk_132 3 1 (dk_at dksX0_hours_1 9 rfl rfl)
theorem dX0_hours_35 : decode cX0_hours 35 = .ok (.goto (-21), 3) := dk_167 255 235 (dk_at dksX0_hours_1 12 rfl rfl)
theorem dX0_hours_38 : decode cX0_hours 38 = .ok (.iload_n 2, 1) := dk_28 (dk_at dksX0_hours_1 15 rfl rfl)
theorem dX0_hours_39 : decode cX0_hours 39 = .ok (.ireturn, 1) := dk_172 (dk_at dksX0_hours_1 16 rfl rfl)
abbrev cX0_cut : ByteArray := prog_1_method_33_code
def yX0_cut : MethodName := ⟨RX0, "cut", "(IZI)I"⟩
def dkwX0_cut_2 : List UInt8 := [182, 0, 236, 182, 1, 26, 167, 0, 4, 2, 172]
abbrev dktX0_cut_2 : List UInt8 := dkwX0_cut_2 ++ []
def dkwX0_cut_1 : List UInt8 := [100, 184, 0, 174, 153, 0, 28, 167, 0, 11, 42, 27, 182, 0, 210, 153, 0, 17, 42, 27, 28, 42, 29]
abbrev dktX0_cut_1 : List UInt8 := dkwX0_cut_1 ++ dktX0_cut_2
def dkwX0_cut_0 : List UInt8 := [29, 184, 0, 233, 153, 0, 52, 28, 153, 0, 26, 27, 3, 42, 180, 0, 41, 180, 1, 0, 182, 0, 131, 4]
abbrev dktX0_cut_0 : List UInt8 := dkwX0_cut_0 ++ dktX0_cut_1
theorem dksX0_cut_0 : cX0_cut.data.toList.drop 0 = dktX0_cut_0 := by decide +kernel
theorem dksX0_cut_1 : cX0_cut.data.toList.drop 24 = dktX0_cut_1 := dk_seg dksX0_cut_0 24 rfl rfl
theorem dksX0_cut_2 : cX0_cut.data.toList.drop 47 = dktX0_cut_2 := dk_seg dksX0_cut_1 23 rfl rfl
theorem dX0_cut_0 : decode cX0_cut 0 = .ok (.iload_n 3, 1) := dk_29 (dk_at dksX0_cut_0 0 rfl rfl)
theorem dX0_cut_1 : decode cX0_cut 1 = .ok (.invokestatic 233, 3) := dk_184 0 233 (dk_at dksX0_cut_0 1 rfl rfl)
theorem dX0_cut_4 : decode cX0_cut 4 = .ok (.ifCond .eq 52, 3) := dk_153 0 52 (dk_at dksX0_cut_0 4 rfl rfl)
theorem dX0_cut_7 : decode cX0_cut 7 = .ok (.iload_n 2, 1) := dk_28 (dk_at dksX0_cut_0 7 rfl rfl)
theorem dX0_cut_8 : decode cX0_cut 8 = .ok (.ifCond .eq 26, 3) := dk_153 0 26 (dk_at dksX0_cut_0 8 rfl rfl)
theorem dX0_cut_11 : decode cX0_cut 11 = .ok (.iload_n 1, 1) := dk_27 (dk_at dksX0_cut_0 11 rfl rfl)
theorem dX0_cut_12 : decode cX0_cut 12 = .ok (.iconst 0, 1) := dk_3 (dk_at dksX0_cut_0 12 rfl rfl)
theorem dX0_cut_13 : decode cX0_cut 13 = .ok (.aload_n 0, 1) := dk_42 (dk_at dksX0_cut_0 13 rfl rfl)
theorem dX0_cut_14 : decode cX0_cut 14 = .ok (.getfield 41, 3) := dk_180 0 41 (dk_at dksX0_cut_0 14 rfl rfl)
theorem dX0_cut_17 : decode cX0_cut 17 = .ok (.getfield 256, 3) := dk_180 1 0 (dk_at dksX0_cut_0 17 rfl rfl)
theorem dX0_cut_20 : decode cX0_cut 20 = .ok (.invokevirtual 131, 3) := dk_182 0 131 (dk_at dksX0_cut_0 20 rfl rfl)
theorem dX0_cut_23 : decode cX0_cut 23 = .ok (.iconst 1, 1) := dk_4 (dk_at dksX0_cut_0 23 rfl rfl)
theorem dX0_cut_24 : decode cX0_cut 24 = .ok (.isub, 1) := dk_100 (dk_at dksX0_cut_1 0 rfl rfl)
theorem dX0_cut_25 : decode cX0_cut 25 = .ok (.invokestatic 174, 3) := dk_184 0 174 (dk_at dksX0_cut_1 1 rfl rfl)
theorem dX0_cut_28 : decode cX0_cut 28 = .ok (.ifCond .eq 28, 3) := dk_153 0 28 (dk_at dksX0_cut_1 4 rfl rfl)
theorem dX0_cut_31 : decode cX0_cut 31 = .ok (.goto 11, 3) := dk_167 0 11 (dk_at dksX0_cut_1 7 rfl rfl)
theorem dX0_cut_34 : decode cX0_cut 34 = .ok (.aload_n 0, 1) := dk_42 (dk_at dksX0_cut_1 10 rfl rfl)
theorem dX0_cut_35 : decode cX0_cut 35 = .ok (.iload_n 1, 1) := dk_27 (dk_at dksX0_cut_1 11 rfl rfl)
theorem dX0_cut_36 : decode cX0_cut 36 = .ok (.invokevirtual 210, 3) := dk_182 0 210 (dk_at dksX0_cut_1 12 rfl rfl)
theorem dX0_cut_39 : decode cX0_cut 39 = .ok (.ifCond .eq 17, 3) := dk_153 0 17 (dk_at dksX0_cut_1 15 rfl rfl)
theorem dX0_cut_42 : decode cX0_cut 42 = .ok (.aload_n 0, 1) := dk_42 (dk_at dksX0_cut_1 18 rfl rfl)
theorem dX0_cut_43 : decode cX0_cut 43 = .ok (.iload_n 1, 1) := dk_27 (dk_at dksX0_cut_1 19 rfl rfl)
theorem dX0_cut_44 : decode cX0_cut 44 = .ok (.iload_n 2, 1) := dk_28 (dk_at dksX0_cut_1 20 rfl rfl)
theorem dX0_cut_45 : decode cX0_cut 45 = .ok (.aload_n 0, 1) := dk_42 (dk_at dksX0_cut_1 21 rfl rfl)
theorem dX0_cut_46 : decode cX0_cut 46 = .ok (.iload_n 3, 1) := dk_29 (dk_at dksX0_cut_1 22 rfl rfl)
theorem dX0_cut_47 : decode cX0_cut 47 = .ok (.invokevirtual 236, 3) := dk_182 0 236 (dk_at dksX0_cut_2 0 rfl rfl)
theorem dX0_cut_50 : decode cX0_cut 50 = .ok (.invokevirtual 282, 3) := dk_182 1 26 (dk_at dksX0_cut_2 3 rfl rfl)
theorem dX0_cut_53 : decode cX0_cut 53 = .ok (.goto 4, 3) := dk_167 0 4 (dk_at dksX0_cut_2 6 rfl rfl)
theorem dX0_cut_56 : decode cX0_cut 56 = .ok (.iconst (-1), 1) := dk_2 (dk_at dksX0_cut_2 9 rfl rfl)
theorem dX0_cut_57 : decode cX0_cut 57 = .ok (.ireturn, 1) := dk_172 (dk_at dksX0_cut_2 10 rfl rfl)
abbrev cX0_cutBy : ByteArray := prog_1_method_32_code
def yX0_cutBy : MethodName := ⟨RX0, "cutBy", "(IZI)I"⟩
def dkwX0_cutBy_2 : List UInt8 := [21, 4, 21, 5, 2, 130, 126, 21, 6, 2, 130, 126, 184, 1, 21, 172]
abbrev dktX0_cutBy_2 : List UInt8 := dkwX0_cutBy_2 ++ []
def dkwX0_cutBy_1 : List UInt8 := [2, 167, 0, 4, 27, 182, 1, 14, 54, 5, 28, 153, 0, 7, 3, 167, 0, 6, 4, 27, 120, 54, 6]
abbrev dktX0_cutBy_1 : List UInt8 := dkwX0_cutBy_1 ++ dktX0_cutBy_2
def dkwX0_cutBy_0 : List UInt8 := [42, 29, 2, 2, 182, 1, 14, 54, 4, 42, 29, 28, 153, 0, 7, 27, 167, 0, 4, 2, 28, 153, 0, 7]
abbrev dktX0_cutBy_0 : List UInt8 := dkwX0_cutBy_0 ++ dktX0_cutBy_1
theorem dksX0_cutBy_0 : cX0_cutBy.data.toList.drop 0 = dktX0_cutBy_0 := by decide +kernel
theorem dksX0_cutBy_1 : cX0_cutBy.data.toList.drop 24 = dktX0_cutBy_1 := dk_seg dksX0_cutBy_0 24 rfl rfl
theorem dksX0_cutBy_2 : cX0_cutBy.data.toList.drop 47 = dktX0_cutBy_2 := dk_seg dksX0_cutBy_1 23 rfl rfl
theorem dX0_cutBy_0 : decode cX0_cutBy 0 = .ok (.aload_n 0, 1) := dk_42 (dk_at dksX0_cutBy_0 0 rfl rfl)
theorem dX0_cutBy_1 : decode cX0_cutBy 1 = .ok (.iload_n 3, 1) := dk_29 (dk_at dksX0_cutBy_0 1 rfl rfl)
theorem dX0_cutBy_2 : decode cX0_cutBy 2 = .ok (.iconst (-1), 1) := dk_2 (dk_at dksX0_cutBy_0 2 rfl rfl)
theorem dX0_cutBy_3 : decode cX0_cutBy 3 = .ok (.iconst (-1), 1) := dk_2 (dk_at dksX0_cutBy_0 3 rfl rfl)
theorem dX0_cutBy_4 : decode cX0_cutBy 4 = .ok (.invokevirtual 270, 3) := dk_182 1 14 (dk_at dksX0_cutBy_0 4 rfl rfl)
theorem dX0_cutBy_7 : decode cX0_cutBy 7 = .ok (.istore 4, 2) := dk_54 4 (dk_at dksX0_cutBy_0 7 rfl rfl)
theorem dX0_cutBy_9 : decode cX0_cutBy 9 = .ok (.aload_n 0, 1) := dk_42 (dk_at dksX0_cutBy_0 9 rfl rfl)
theorem dX0_cutBy_10 : decode cX0_cutBy 10 = .ok (.iload_n 3, 1) := dk_29 (dk_at dksX0_cutBy_0 10 rfl rfl)
theorem dX0_cutBy_11 : decode cX0_cutBy 11 = .ok (.iload_n 2, 1) := dk_28 (dk_at dksX0_cutBy_0 11 rfl rfl)
theorem dX0_cutBy_12 : decode cX0_cutBy 12 = .ok (.ifCond .eq 7, 3) := dk_153 0 7 (dk_at dksX0_cutBy_0 12 rfl rfl)
theorem dX0_cutBy_15 : decode cX0_cutBy 15 = .ok (.iload_n 1, 1) := dk_27 (dk_at dksX0_cutBy_0 15 rfl rfl)
theorem dX0_cutBy_16 : decode cX0_cutBy 16 = .ok (.goto 4, 3) := dk_167 0 4 (dk_at dksX0_cutBy_0 16 rfl rfl)
theorem dX0_cutBy_19 : decode cX0_cutBy 19 = .ok (.iconst (-1), 1) := dk_2 (dk_at dksX0_cutBy_0 19 rfl rfl)
theorem dX0_cutBy_20 : decode cX0_cutBy 20 = .ok (.iload_n 2, 1) := dk_28 (dk_at dksX0_cutBy_0 20 rfl rfl)
theorem dX0_cutBy_21 : decode cX0_cutBy 21 = .ok (.ifCond .eq 7, 3) := dk_153 0 7 (dk_at dksX0_cutBy_0 21 rfl rfl)
theorem dX0_cutBy_24 : decode cX0_cutBy 24 = .ok (.iconst (-1), 1) := dk_2 (dk_at dksX0_cutBy_1 0 rfl rfl)
theorem dX0_cutBy_25 : decode cX0_cutBy 25 = .ok (.goto 4, 3) := dk_167 0 4 (dk_at dksX0_cutBy_1 1 rfl rfl)
theorem dX0_cutBy_28 : decode cX0_cutBy 28 = .ok (.iload_n 1, 1) := dk_27 (dk_at dksX0_cutBy_1 4 rfl rfl)
theorem dX0_cutBy_29 : decode cX0_cutBy 29 = .ok (.invokevirtual 270, 3) := dk_182 1 14 (dk_at dksX0_cutBy_1 5 rfl rfl)
theorem dX0_cutBy_32 : decode cX0_cutBy 32 = .ok (.istore 5, 2) := dk_54 5 (dk_at dksX0_cutBy_1 8 rfl rfl)
theorem dX0_cutBy_34 : decode cX0_cutBy 34 = .ok (.iload_n 2, 1) := dk_28 (dk_at dksX0_cutBy_1 10 rfl rfl)
theorem dX0_cutBy_35 : decode cX0_cutBy 35 = .ok (.ifCond .eq 7, 3) := dk_153 0 7 (dk_at dksX0_cutBy_1 11 rfl rfl)
theorem dX0_cutBy_38 : decode cX0_cutBy 38 = .ok (.iconst 0, 1) := dk_3 (dk_at dksX0_cutBy_1 14 rfl rfl)
theorem dX0_cutBy_39 : decode cX0_cutBy 39 = .ok (.goto 6, 3) := dk_167 0 6 (dk_at dksX0_cutBy_1 15 rfl rfl)
theorem dX0_cutBy_42 : decode cX0_cutBy 42 = .ok (.iconst 1, 1) := dk_4 (dk_at dksX0_cutBy_1 18 rfl rfl)
theorem dX0_cutBy_43 : decode cX0_cutBy 43 = .ok (.iload_n 1, 1) := dk_27 (dk_at dksX0_cutBy_1 19 rfl rfl)
theorem dX0_cutBy_44 : decode cX0_cutBy 44 = .ok (.ishl, 1) := dk_120 (dk_at dksX0_cutBy_1 20 rfl rfl)
theorem dX0_cutBy_45 : decode cX0_cutBy 45 = .ok (.istore 6, 2) := dk_54 6 (dk_at dksX0_cutBy_1 21 rfl rfl)
theorem dX0_cutBy_47 : decode cX0_cutBy 47 = .ok (.iload 4, 2) := dk_21 4 (dk_at dksX0_cutBy_2 0 rfl rfl)
theorem dX0_cutBy_49 : decode cX0_cutBy 49 = .ok (.iload 5, 2) := dk_21 5 (dk_at dksX0_cutBy_2 2 rfl rfl)
theorem dX0_cutBy_51 : decode cX0_cutBy 51 = .ok (.iconst (-1), 1) := dk_2 (dk_at dksX0_cutBy_2 4 rfl rfl)
theorem dX0_cutBy_52 : decode cX0_cutBy 52 = .ok (.ixor, 1) := dk_130 (dk_at dksX0_cutBy_2 5 rfl rfl)
theorem dX0_cutBy_53 : decode cX0_cutBy 53 = .ok (.iand, 1) := dk_126 (dk_at dksX0_cutBy_2 6 rfl rfl)
theorem dX0_cutBy_54 : decode cX0_cutBy 54 = .ok (.iload 6, 2) := dk_21 6 (dk_at dksX0_cutBy_2 7 rfl rfl)
theorem dX0_cutBy_56 : decode cX0_cutBy 56 = .ok (.iconst (-1), 1) := dk_2 (dk_at dksX0_cutBy_2 9 rfl rfl)
theorem dX0_cutBy_57 : decode cX0_cutBy 57 = .ok (.ixor, 1) := dk_130 (dk_at dksX0_cutBy_2 10 rfl rfl)
theorem dX0_cutBy_58 : decode cX0_cutBy 58 = .ok (.iand, 1) := dk_126 (dk_at dksX0_cutBy_2 11 rfl rfl)
theorem dX0_cutBy_59 : decode cX0_cutBy 59 = .ok (.invokestatic 277, 3) := dk_184 1 21 (dk_at dksX0_cutBy_2 12 rfl rfl)
theorem dX0_cutBy_62 : decode cX0_cutBy 62 = .ok (.ireturn, 1) := dk_172 (dk_at dksX0_cutBy_2 15 rfl rfl)
abbrev cX0_worst : ByteArray := prog_1_method_34_code
def yX0_worst : MethodName := ⟨RX0, "worst", "(ZI)I"⟩
def dkwX0_worst_3 : List UInt8 := [167, 0, 10, 21, 6, 62, 21, 7, 54, 4, 132, 6, 1, 167, 255, 199, 29, 172]
abbrev dktX0_worst_3 : List UInt8 := dkwX0_worst_3 ++ []
def dkwX0_worst_2 : List UInt8 := [182, 0, 172, 162, 0, 37, 42, 21, 6, 27, 21, 5, 182, 1, 26, 54, 7, 21, 7, 21, 4, 163, 0, 6]
abbrev dktX0_worst_2 : List UInt8 := dkwX0_worst_2 ++ dktX0_worst_3
def dkwX0_worst_1 : List UInt8 := [54, 6, 21, 6, 27, 153, 0, 16, 42, 180, 0, 41, 180, 1, 0, 182, 0, 131, 167, 0, 7, 42]
abbrev dktX0_worst_1 : List UInt8 := dkwX0_worst_1 ++ dktX0_worst_2
def dkwX0_worst_0 : List UInt8 := [28, 184, 0, 233, 154, 0, 5, 2, 172, 16, 254, 62, 2, 54, 4, 42, 28, 182, 0, 236, 54, 5, 3]
abbrev dktX0_worst_0 : List UInt8 := dkwX0_worst_0 ++ dktX0_worst_1
theorem dksX0_worst_0 : cX0_worst.data.toList.drop 0 = dktX0_worst_0 := by decide +kernel
theorem dksX0_worst_1 : cX0_worst.data.toList.drop 23 = dktX0_worst_1 := dk_seg dksX0_worst_0 23 rfl rfl
theorem dksX0_worst_2 : cX0_worst.data.toList.drop 45 = dktX0_worst_2 := dk_seg dksX0_worst_1 22 rfl rfl
theorem dksX0_worst_3 : cX0_worst.data.toList.drop 69 = dktX0_worst_3 := dk_seg dksX0_worst_2 24 rfl rfl
theorem dX0_worst_0 : decode cX0_worst 0 = .ok (.iload_n 2, 1) := dk_28 (dk_at dksX0_worst_0 0 rfl rfl)
theorem dX0_worst_1 : decode cX0_worst 1 = .ok (.invokestatic 233, 3) := dk_184 0 233 (dk_at dksX0_worst_0 1 rfl rfl)
theorem dX0_worst_4 : decode cX0_worst 4 = .ok (.ifCond .ne 5, 3) := dk_154 0 5 (dk_at dksX0_worst_0 4 rfl rfl)
theorem dX0_worst_7 : decode cX0_worst 7 = .ok (.iconst (-1), 1) := dk_2 (dk_at dksX0_worst_0 7 rfl rfl)
theorem dX0_worst_8 : decode cX0_worst 8 = .ok (.ireturn, 1) := dk_172 (dk_at dksX0_worst_0 8 rfl rfl)
theorem dX0_worst_9 : decode cX0_worst 9 = .ok (.bipush (-2), 2) := dk_16 254 (dk_at dksX0_worst_0 9 rfl rfl)
theorem dX0_worst_11 : decode cX0_worst 11 = .ok (.istore_n 3, 1) := dk_62 (dk_at dksX0_worst_0 11 rfl rfl)
theorem dX0_worst_12 : decode cX0_worst 12 = .ok (.iconst (-1), 1) := dk_2 (dk_at dksX0_worst_0 12 rfl rfl)
theorem dX0_worst_13 : decode cX0_worst 13 = .ok (.istore 4, 2) := dk_54 4 (dk_at dksX0_worst_0 13 rfl rfl)
theorem dX0_worst_15 : decode cX0_worst 15 = .ok (.aload_n 0, 1) := dk_42 (dk_at dksX0_worst_0 15 rfl rfl)
theorem dX0_worst_16 : decode cX0_worst 16 = .ok (.iload_n 2, 1) := dk_28 (dk_at dksX0_worst_0 16 rfl rfl)
theorem dX0_worst_17 : decode cX0_worst 17 = .ok (.invokevirtual 236, 3) := dk_182 0 236 (dk_at dksX0_worst_0 17 rfl rfl)
theorem dX0_worst_20 : decode cX0_worst 20 = .ok (.istore 5, 2) := dk_54 5 (dk_at dksX0_worst_0 20 rfl rfl)
theorem dX0_worst_22 : decode cX0_worst 22 = .ok (.iconst 0, 1) := dk_3 (dk_at dksX0_worst_0 22 rfl rfl)
theorem dX0_worst_23 : decode cX0_worst 23 = .ok (.istore 6, 2) := dk_54 6 (dk_at dksX0_worst_1 0 rfl rfl)
theorem dX0_worst_25 : decode cX0_worst 25 = .ok (.iload 6, 2) := dk_21 6 (dk_at dksX0_worst_1 2 rfl rfl)
theorem dX0_worst_27 : decode cX0_worst 27 = .ok (.iload_n 1, 1) := dk_27 (dk_at dksX0_worst_1 4 rfl rfl)
theorem dX0_worst_28 : decode cX0_worst 28 = .ok (.ifCond .eq 16, 3) := dk_153 0 16 (dk_at dksX0_worst_1 5 rfl rfl)
theorem dX0_worst_31 : decode cX0_worst 31 = .ok (.aload_n 0, 1) := dk_42 (dk_at dksX0_worst_1 8 rfl rfl)
theorem dX0_worst_32 : decode cX0_worst 32 = .ok (.getfield 41, 3) := dk_180 0 41 (dk_at dksX0_worst_1 9 rfl rfl)
theorem dX0_worst_35 : decode cX0_worst 35 = .ok (.getfield 256, 3) := dk_180 1 0 (dk_at dksX0_worst_1 12 rfl rfl)
theorem dX0_worst_38 : decode cX0_worst 38 = .ok (.invokevirtual 131, 3) := dk_182 0 131 (dk_at dksX0_worst_1 15 rfl rfl)
theorem dX0_worst_41 : decode cX0_worst 41 = .ok (.goto 7, 3) := dk_167 0 7 (dk_at dksX0_worst_1 18 rfl rfl)
theorem dX0_worst_44 : decode cX0_worst 44 = .ok (.aload_n 0, 1) := dk_42 (dk_at dksX0_worst_1 21 rfl rfl)
theorem dX0_worst_45 : decode cX0_worst 45 = .ok (.invokevirtual 172, 3) := dk_182 0 172 (dk_at dksX0_worst_2 0 rfl rfl)
theorem dX0_worst_48 : decode cX0_worst 48 = .ok (.if_icmp .ge 37, 3) := dk_162 0 37 (dk_at dksX0_worst_2 3 rfl rfl)
theorem dX0_worst_51 : decode cX0_worst 51 = .ok (.aload_n 0, 1) := dk_42 (dk_at dksX0_worst_2 6 rfl rfl)
theorem dX0_worst_52 : decode cX0_worst 52 = .ok (.iload 6, 2) := dk_21 6 (dk_at dksX0_worst_2 7 rfl rfl)
theorem dX0_worst_54 : decode cX0_worst 54 = .ok (.iload_n 1, 1) := dk_27 (dk_at dksX0_worst_2 9 rfl rfl)
theorem dX0_worst_55 : decode cX0_worst 55 = .ok (.iload 5, 2) := dk_21 5 (dk_at dksX0_worst_2 10 rfl rfl)
theorem dX0_worst_57 : decode cX0_worst 57 = .ok (.invokevirtual 282, 3) := dk_182 1 26 (dk_at dksX0_worst_2 12 rfl rfl)
theorem dX0_worst_60 : decode cX0_worst 60 = .ok (.istore 7, 2) := dk_54 7 (dk_at dksX0_worst_2 15 rfl rfl)
theorem dX0_worst_62 : decode cX0_worst 62 = .ok (.iload 7, 2) := dk_21 7 (dk_at dksX0_worst_2 17 rfl rfl)
theorem dX0_worst_64 : decode cX0_worst 64 = .ok (.iload 4, 2) := dk_21 4 (dk_at dksX0_worst_2 19 rfl rfl)
theorem dX0_worst_66 : decode cX0_worst 66 = .ok (.if_icmp .gt 6, 3) := dk_163 0 6 (dk_at dksX0_worst_2 21 rfl rfl)
theorem dX0_worst_69 : decode cX0_worst 69 = .ok (.goto 10, 3) := dk_167 0 10 (dk_at dksX0_worst_3 0 rfl rfl)
theorem dX0_worst_72 : decode cX0_worst 72 = .ok (.iload 6, 2) := dk_21 6 (dk_at dksX0_worst_3 3 rfl rfl)
theorem dX0_worst_74 : decode cX0_worst 74 = .ok (.istore_n 3, 1) := dk_62 (dk_at dksX0_worst_3 5 rfl rfl)
theorem dX0_worst_75 : decode cX0_worst 75 = .ok (.iload 7, 2) := dk_21 7 (dk_at dksX0_worst_3 6 rfl rfl)
theorem dX0_worst_77 : decode cX0_worst 77 = .ok (.istore 4, 2) := dk_54 4 (dk_at dksX0_worst_3 8 rfl rfl)
theorem dX0_worst_79 : decode cX0_worst 79 = .ok (.iinc 6 1, 3) := dk_132 6 1 (dk_at dksX0_worst_3 10 rfl rfl)
theorem dX0_worst_82 : decode cX0_worst 82 = .ok (.goto (-57), 3) := dk_167 255 199 (dk_at dksX0_worst_3 13 rfl rfl)
theorem dX0_worst_85 : decode cX0_worst 85 = .ok (.iload_n 3, 1) := dk_29 (dk_at dksX0_worst_3 16 rfl rfl)
theorem dX0_worst_86 : decode cX0_worst 86 = .ok (.ireturn, 1) := dk_172 (dk_at dksX0_worst_3 17 rfl rfl)
abbrev cX0_law : ByteArray := prog_1_method_40_code
def yX0_law : MethodName := ⟨RX0, "law", "(I)I"⟩
def dkwX0_law_3 : List UInt8 := [182, 1, 48, 172, 42, 182, 1, 54, 172, 2, 172]
abbrev dktX0_law_3 : List UInt8 := dkwX0_law_3 ++ []
def dkwX0_law_2 : List UInt8 := [42, 182, 1, 48, 184, 1, 21, 172, 42, 182, 1, 51, 172, 42, 182, 1, 54, 184, 1, 21, 172, 42]
abbrev dktX0_law_2 : List UInt8 := dkwX0_law_2 ++ dktX0_law_3
def dkwX0_law_1 : List UInt8 := [170, 0, 0, 0, 0, 0, 66, 0, 0, 0, 0, 0, 0, 0, 4, 0, 0, 0, 35, 0, 0, 0, 43, 0, 0, 0, 48, 0, 0, 0, 56, 0, 0, 0, 61]
abbrev dktX0_law_1 : List UInt8 := dkwX0_law_1 ++ dktX0_law_2
def dkwX0_law_0 : List UInt8 := [27]
abbrev dktX0_law_0 : List UInt8 := dkwX0_law_0 ++ dktX0_law_1
theorem dksX0_law_0 : cX0_law.data.toList.drop 0 = dktX0_law_0 := by decide +kernel
theorem dksX0_law_1 : cX0_law.data.toList.drop 1 = dktX0_law_1 := dk_seg dksX0_law_0 1 rfl rfl
theorem dksX0_law_2 : cX0_law.data.toList.drop 36 = dktX0_law_2 := dk_seg dksX0_law_1 35 rfl rfl
theorem dksX0_law_3 : cX0_law.data.toList.drop 58 = dktX0_law_3 := dk_seg dksX0_law_2 22 rfl rfl
theorem dX0_law_0 : decode cX0_law 0 = .ok (.iload_n 1, 1) := dk_27 (dk_at dksX0_law_0 0 rfl rfl)
theorem dX0_law_1 : decode cX0_law 1 = .ok (.tableswitch 66 0 4 #[35, 43, 48, 56, 61], 35) := by decide +kernel
theorem dX0_law_36 : decode cX0_law 36 = .ok (.aload_n 0, 1) := dk_42 (dk_at dksX0_law_2 0 rfl rfl)
theorem dX0_law_37 : decode cX0_law 37 = .ok (.invokevirtual 304, 3) := dk_182 1 48 (dk_at dksX0_law_2 1 rfl rfl)
theorem dX0_law_40 : decode cX0_law 40 = .ok (.invokestatic 277, 3) := dk_184 1 21 (dk_at dksX0_law_2 4 rfl rfl)
theorem dX0_law_43 : decode cX0_law 43 = .ok (.ireturn, 1) := dk_172 (dk_at dksX0_law_2 7 rfl rfl)
theorem dX0_law_44 : decode cX0_law 44 = .ok (.aload_n 0, 1) := dk_42 (dk_at dksX0_law_2 8 rfl rfl)
theorem dX0_law_45 : decode cX0_law 45 = .ok (.invokevirtual 307, 3) := dk_182 1 51 (dk_at dksX0_law_2 9 rfl rfl)
theorem dX0_law_48 : decode cX0_law 48 = .ok (.ireturn, 1) := dk_172 (dk_at dksX0_law_2 12 rfl rfl)
theorem dX0_law_49 : decode cX0_law 49 = .ok (.aload_n 0, 1) := dk_42 (dk_at dksX0_law_2 13 rfl rfl)
theorem dX0_law_50 : decode cX0_law 50 = .ok (.invokevirtual 310, 3) := dk_182 1 54 (dk_at dksX0_law_2 14 rfl rfl)
theorem dX0_law_53 : decode cX0_law 53 = .ok (.invokestatic 277, 3) := dk_184 1 21 (dk_at dksX0_law_2 17 rfl rfl)
theorem dX0_law_56 : decode cX0_law 56 = .ok (.ireturn, 1) := dk_172 (dk_at dksX0_law_2 20 rfl rfl)
theorem dX0_law_57 : decode cX0_law 57 = .ok (.aload_n 0, 1) := dk_42 (dk_at dksX0_law_2 21 rfl rfl)
theorem dX0_law_58 : decode cX0_law 58 = .ok (.invokevirtual 304, 3) := dk_182 1 48 (dk_at dksX0_law_3 0 rfl rfl)
theorem dX0_law_61 : decode cX0_law 61 = .ok (.ireturn, 1) := dk_172 (dk_at dksX0_law_3 3 rfl rfl)
theorem dX0_law_62 : decode cX0_law 62 = .ok (.aload_n 0, 1) := dk_42 (dk_at dksX0_law_3 4 rfl rfl)
theorem dX0_law_63 : decode cX0_law 63 = .ok (.invokevirtual 310, 3) := dk_182 1 54 (dk_at dksX0_law_3 5 rfl rfl)
theorem dX0_law_66 : decode cX0_law 66 = .ok (.ireturn, 1) := dk_172 (dk_at dksX0_law_3 8 rfl rfl)
theorem dX0_law_67 : decode cX0_law 67 = .ok (.iconst (-1), 1) := dk_2 (dk_at dksX0_law_3 9 rfl rfl)
theorem dX0_law_68 : decode cX0_law 68 = .ok (.ireturn, 1) := dk_172 (dk_at dksX0_law_3 10 rfl rfl)
abbrev cX0_untrue : ByteArray := prog_1_method_35_code
def yX0_untrue : MethodName := ⟨RX0, "untrue", "()I"⟩
def dkwX0_untrue_1 : List UInt8 := [182, 0, 214, 159, 0, 9, 27, 4, 28, 120, 128, 60, 132, 2, 1, 167, 255, 222, 27, 172]
abbrev dktX0_untrue_1 : List UInt8 := dkwX0_untrue_1 ++ []
def dkwX0_untrue_0 : List UInt8 := [3, 60, 3, 61, 28, 42, 182, 0, 172, 162, 0, 32, 42, 180, 0, 48, 180, 0, 137, 28, 46, 42, 28]
abbrev dktX0_untrue_0 : List UInt8 := dkwX0_untrue_0 ++ dktX0_untrue_1
theorem dksX0_untrue_0 : cX0_untrue.data.toList.drop 0 = dktX0_untrue_0 := by decide +kernel
theorem dksX0_untrue_1 : cX0_untrue.data.toList.drop 23 = dktX0_untrue_1 := dk_seg dksX0_untrue_0 23 rfl rfl
theorem dX0_untrue_0 : decode cX0_untrue 0 = .ok (.iconst 0, 1) := dk_3 (dk_at dksX0_untrue_0 0 rfl rfl)
theorem dX0_untrue_1 : decode cX0_untrue 1 = .ok (.istore_n 1, 1) := dk_60 (dk_at dksX0_untrue_0 1 rfl rfl)
theorem dX0_untrue_2 : decode cX0_untrue 2 = .ok (.iconst 0, 1) := dk_3 (dk_at dksX0_untrue_0 2 rfl rfl)
theorem dX0_untrue_3 : decode cX0_untrue 3 = .ok (.istore_n 2, 1) := dk_61 (dk_at dksX0_untrue_0 3 rfl rfl)
theorem dX0_untrue_4 : decode cX0_untrue 4 = .ok (.iload_n 2, 1) := dk_28 (dk_at dksX0_untrue_0 4 rfl rfl)
theorem dX0_untrue_5 : decode cX0_untrue 5 = .ok (.aload_n 0, 1) := dk_42 (dk_at dksX0_untrue_0 5 rfl rfl)
theorem dX0_untrue_6 : decode cX0_untrue 6 = .ok (.invokevirtual 172, 3) := dk_182 0 172 (dk_at dksX0_untrue_0 6 rfl rfl)
theorem dX0_untrue_9 : decode cX0_untrue 9 = .ok (.if_icmp .ge 32, 3) := dk_162 0 32 (dk_at dksX0_untrue_0 9 rfl rfl)
theorem dX0_untrue_12 : decode cX0_untrue 12 = .ok (.aload_n 0, 1) := dk_42 (dk_at dksX0_untrue_0 12 rfl rfl)
theorem dX0_untrue_13 : decode cX0_untrue 13 = .ok (.getfield 48, 3) := dk_180 0 48 (dk_at dksX0_untrue_0 13 rfl rfl)
theorem dX0_untrue_16 : decode cX0_untrue 16 = .ok (.getfield 137, 3) := dk_180 0 137 (dk_at dksX0_untrue_0 16 rfl rfl)
theorem dX0_untrue_19 : decode cX0_untrue 19 = .ok (.iload_n 2, 1) := dk_28 (dk_at dksX0_untrue_0 19 rfl rfl)
theorem dX0_untrue_20 : decode cX0_untrue 20 = .ok (.iaload, 1) := dk_46 (dk_at dksX0_untrue_0 20 rfl rfl)
theorem dX0_untrue_21 : decode cX0_untrue 21 = .ok (.aload_n 0, 1) := dk_42 (dk_at dksX0_untrue_0 21 rfl rfl)
theorem dX0_untrue_22 : decode cX0_untrue 22 = .ok (.iload_n 2, 1) := dk_28 (dk_at dksX0_untrue_0 22 rfl rfl)
theorem dX0_untrue_23 : decode cX0_untrue 23 = .ok (.invokevirtual 214, 3) := dk_182 0 214 (dk_at dksX0_untrue_1 0 rfl rfl)
theorem dX0_untrue_26 : decode cX0_untrue 26 = .ok (.if_icmp .eq 9, 3) := dk_159 0 9 (dk_at dksX0_untrue_1 3 rfl rfl)
theorem dX0_untrue_29 : decode cX0_untrue 29 = .ok (.iload_n 1, 1) := dk_27 (dk_at dksX0_untrue_1 6 rfl rfl)
theorem dX0_untrue_30 : decode cX0_untrue 30 = .ok (.iconst 1, 1) := dk_4 (dk_at dksX0_untrue_1 7 rfl rfl)
theorem dX0_untrue_31 : decode cX0_untrue 31 = .ok (.iload_n 2, 1) := dk_28 (dk_at dksX0_untrue_1 8 rfl rfl)
theorem dX0_untrue_32 : decode cX0_untrue 32 = .ok (.ishl, 1) := dk_120 (dk_at dksX0_untrue_1 9 rfl rfl)
theorem dX0_untrue_33 : decode cX0_untrue 33 = .ok (.ior, 1) := dk_128 (dk_at dksX0_untrue_1 10 rfl rfl)
theorem dX0_untrue_34 : decode cX0_untrue 34 = .ok (.istore_n 1, 1) := dk_60 (dk_at dksX0_untrue_1 11 rfl rfl)
theorem dX0_untrue_35 : decode cX0_untrue 35 = .ok (.iinc 2 1, 3) := dk_132 2 1 (dk_at dksX0_untrue_1 12 rfl rfl)
theorem dX0_untrue_38 : decode cX0_untrue 38 = .ok (.goto (-34), 3) := dk_167 255 222 (dk_at dksX0_untrue_1 15 rfl rfl)
theorem dX0_untrue_41 : decode cX0_untrue 41 = .ok (.iload_n 1, 1) := dk_27 (dk_at dksX0_untrue_1 18 rfl rfl)
theorem dX0_untrue_42 : decode cX0_untrue 42 = .ok (.ireturn, 1) := dk_172 (dk_at dksX0_untrue_1 19 rfl rfl)
abbrev cX0_turned : ByteArray := prog_1_method_39_code
def yX0_turned : MethodName := ⟨RX0, "turned", "()I"⟩
def dkwX0_turned_3 : List UInt8 := [172]
abbrev dktX0_turned_3 : List UInt8 := dkwX0_turned_3 ++ []
def dkwX0_turned_2 : List UInt8 := [180, 0, 137, 29, 46, 163, 0, 6, 132, 1, 1, 132, 3, 1, 167, 255, 208, 132, 2, 1, 167, 255, 192, 27]
abbrev dktX0_turned_2 : List UInt8 := dkwX0_turned_2 ++ dktX0_turned_3
def dkwX0_turned_1 : List UInt8 := [182, 0, 190, 42, 29, 182, 0, 190, 164, 0, 27, 42, 180, 0, 48, 180, 0, 137, 28, 46, 42, 180, 0, 48]
abbrev dktX0_turned_1 : List UInt8 := dkwX0_turned_1 ++ dktX0_turned_2
def dkwX0_turned_0 : List UInt8 := [3, 60, 3, 61, 28, 42, 182, 0, 172, 162, 0, 62, 3, 62, 29, 42, 182, 0, 172, 162, 0, 46, 42, 28]
abbrev dktX0_turned_0 : List UInt8 := dkwX0_turned_0 ++ dktX0_turned_1
theorem dksX0_turned_0 : cX0_turned.data.toList.drop 0 = dktX0_turned_0 := by decide +kernel
theorem dksX0_turned_1 : cX0_turned.data.toList.drop 24 = dktX0_turned_1 := dk_seg dksX0_turned_0 24 rfl rfl
theorem dksX0_turned_2 : cX0_turned.data.toList.drop 48 = dktX0_turned_2 := dk_seg dksX0_turned_1 24 rfl rfl
theorem dksX0_turned_3 : cX0_turned.data.toList.drop 72 = dktX0_turned_3 := dk_seg dksX0_turned_2 24 rfl rfl
theorem dX0_turned_0 : decode cX0_turned 0 = .ok (.iconst 0, 1) := dk_3 (dk_at dksX0_turned_0 0 rfl rfl)
theorem dX0_turned_1 : decode cX0_turned 1 = .ok (.istore_n 1, 1) := dk_60 (dk_at dksX0_turned_0 1 rfl rfl)
theorem dX0_turned_2 : decode cX0_turned 2 = .ok (.iconst 0, 1) := dk_3 (dk_at dksX0_turned_0 2 rfl rfl)
theorem dX0_turned_3 : decode cX0_turned 3 = .ok (.istore_n 2, 1) := dk_61 (dk_at dksX0_turned_0 3 rfl rfl)
theorem dX0_turned_4 : decode cX0_turned 4 = .ok (.iload_n 2, 1) := dk_28 (dk_at dksX0_turned_0 4 rfl rfl)
theorem dX0_turned_5 : decode cX0_turned 5 = .ok (.aload_n 0, 1) := dk_42 (dk_at dksX0_turned_0 5 rfl rfl)
theorem dX0_turned_6 : decode cX0_turned 6 = .ok (.invokevirtual 172, 3) := dk_182 0 172 (dk_at dksX0_turned_0 6 rfl rfl)
theorem dX0_turned_9 : decode cX0_turned 9 = .ok (.if_icmp .ge 62, 3) := dk_162 0 62 (dk_at dksX0_turned_0 9 rfl rfl)
theorem dX0_turned_12 : decode cX0_turned 12 = .ok (.iconst 0, 1) := dk_3 (dk_at dksX0_turned_0 12 rfl rfl)
theorem dX0_turned_13 : decode cX0_turned 13 = .ok (.istore_n 3, 1) := dk_62 (dk_at dksX0_turned_0 13 rfl rfl)
theorem dX0_turned_14 : decode cX0_turned 14 = .ok (.iload_n 3, 1) := dk_29 (dk_at dksX0_turned_0 14 rfl rfl)
theorem dX0_turned_15 : decode cX0_turned 15 = .ok (.aload_n 0, 1) := dk_42 (dk_at dksX0_turned_0 15 rfl rfl)
theorem dX0_turned_16 : decode cX0_turned 16 = .ok (.invokevirtual 172, 3) := dk_182 0 172 (dk_at dksX0_turned_0 16 rfl rfl)
theorem dX0_turned_19 : decode cX0_turned 19 = .ok (.if_icmp .ge 46, 3) := dk_162 0 46 (dk_at dksX0_turned_0 19 rfl rfl)
theorem dX0_turned_22 : decode cX0_turned 22 = .ok (.aload_n 0, 1) := dk_42 (dk_at dksX0_turned_0 22 rfl rfl)
theorem dX0_turned_23 : decode cX0_turned 23 = .ok (.iload_n 2, 1) := dk_28 (dk_at dksX0_turned_0 23 rfl rfl)
theorem dX0_turned_24 : decode cX0_turned 24 = .ok (.invokevirtual 190, 3) := dk_182 0 190 (dk_at dksX0_turned_1 0 rfl rfl)
theorem dX0_turned_27 : decode cX0_turned 27 = .ok (.aload_n 0, 1) := dk_42 (dk_at dksX0_turned_1 3 rfl rfl)
theorem dX0_turned_28 : decode cX0_turned 28 = .ok (.iload_n 3, 1) := dk_29 (dk_at dksX0_turned_1 4 rfl rfl)
theorem dX0_turned_29 : decode cX0_turned 29 = .ok (.invokevirtual 190, 3) := dk_182 0 190 (dk_at dksX0_turned_1 5 rfl rfl)
theorem dX0_turned_32 : decode cX0_turned 32 = .ok (.if_icmp .le 27, 3) := dk_164 0 27 (dk_at dksX0_turned_1 8 rfl rfl)
theorem dX0_turned_35 : decode cX0_turned 35 = .ok (.aload_n 0, 1) := dk_42 (dk_at dksX0_turned_1 11 rfl rfl)
theorem dX0_turned_36 : decode cX0_turned 36 = .ok (.getfield 48, 3) := dk_180 0 48 (dk_at dksX0_turned_1 12 rfl rfl)
theorem dX0_turned_39 : decode cX0_turned 39 = .ok (.getfield 137, 3) := dk_180 0 137 (dk_at dksX0_turned_1 15 rfl rfl)
theorem dX0_turned_42 : decode cX0_turned 42 = .ok (.iload_n 2, 1) := dk_28 (dk_at dksX0_turned_1 18 rfl rfl)
theorem dX0_turned_43 : decode cX0_turned 43 = .ok (.iaload, 1) := dk_46 (dk_at dksX0_turned_1 19 rfl rfl)
theorem dX0_turned_44 : decode cX0_turned 44 = .ok (.aload_n 0, 1) := dk_42 (dk_at dksX0_turned_1 20 rfl rfl)
theorem dX0_turned_45 : decode cX0_turned 45 = .ok (.getfield 48, 3) := dk_180 0 48 (dk_at dksX0_turned_1 21 rfl rfl)
theorem dX0_turned_48 : decode cX0_turned 48 = .ok (.getfield 137, 3) := dk_180 0 137 (dk_at dksX0_turned_2 0 rfl rfl)
theorem dX0_turned_51 : decode cX0_turned 51 = .ok (.iload_n 3, 1) := dk_29 (dk_at dksX0_turned_2 3 rfl rfl)
theorem dX0_turned_52 : decode cX0_turned 52 = .ok (.iaload, 1) := dk_46 (dk_at dksX0_turned_2 4 rfl rfl)
theorem dX0_turned_53 : decode cX0_turned 53 = .ok (.if_icmp .gt 6, 3) := dk_163 0 6 (dk_at dksX0_turned_2 5 rfl rfl)
theorem dX0_turned_56 : decode cX0_turned 56 = .ok (.iinc 1 1, 3) := dk_132 1 1 (dk_at dksX0_turned_2 8 rfl rfl)
theorem dX0_turned_59 : decode cX0_turned 59 = .ok (.iinc 3 1, 3) := dk_132 3 1 (dk_at dksX0_turned_2 11 rfl rfl)
theorem dX0_turned_62 : decode cX0_turned 62 = .ok (.goto (-48), 3) := dk_167 255 208 (dk_at dksX0_turned_2 14 rfl rfl)
theorem dX0_turned_65 : decode cX0_turned 65 = .ok (.iinc 2 1, 3) := dk_132 2 1 (dk_at dksX0_turned_2 17 rfl rfl)
theorem dX0_turned_68 : decode cX0_turned 68 = .ok (.goto (-64), 3) := dk_167 255 192 (dk_at dksX0_turned_2 20 rfl rfl)
theorem dX0_turned_71 : decode cX0_turned 71 = .ok (.iload_n 1, 1) := dk_27 (dk_at dksX0_turned_2 23 rfl rfl)
theorem dX0_turned_72 : decode cX0_turned 72 = .ok (.ireturn, 1) := dk_172 (dk_at dksX0_turned_3 0 rfl rfl)
abbrev cX0_badOnes : ByteArray := prog_1_method_38_code
def yX0_badOnes : MethodName := ⟨RX0, "badOnes", "()I"⟩
def dkwX0_badOnes_1 : List UInt8 := [128, 60, 132, 2, 1, 167, 255, 231, 27, 172]
abbrev dktX0_badOnes_1 : List UInt8 := dkwX0_badOnes_1 ++ []
def dkwX0_badOnes_0 : List UInt8 := [3, 60, 3, 61, 28, 42, 182, 0, 172, 162, 0, 23, 42, 28, 182, 1, 45, 153, 0, 9, 27, 4, 28, 120]
abbrev dktX0_badOnes_0 : List UInt8 := dkwX0_badOnes_0 ++ dktX0_badOnes_1
theorem dksX0_badOnes_0 : cX0_badOnes.data.toList.drop 0 = dktX0_badOnes_0 := by decide +kernel
theorem dksX0_badOnes_1 : cX0_badOnes.data.toList.drop 24 = dktX0_badOnes_1 := dk_seg dksX0_badOnes_0 24 rfl rfl
theorem dX0_badOnes_0 : decode cX0_badOnes 0 = .ok (.iconst 0, 1) := dk_3 (dk_at dksX0_badOnes_0 0 rfl rfl)
theorem dX0_badOnes_1 : decode cX0_badOnes 1 = .ok (.istore_n 1, 1) := dk_60 (dk_at dksX0_badOnes_0 1 rfl rfl)
theorem dX0_badOnes_2 : decode cX0_badOnes 2 = .ok (.iconst 0, 1) := dk_3 (dk_at dksX0_badOnes_0 2 rfl rfl)
theorem dX0_badOnes_3 : decode cX0_badOnes 3 = .ok (.istore_n 2, 1) := dk_61 (dk_at dksX0_badOnes_0 3 rfl rfl)
theorem dX0_badOnes_4 : decode cX0_badOnes 4 = .ok (.iload_n 2, 1) := dk_28 (dk_at dksX0_badOnes_0 4 rfl rfl)
theorem dX0_badOnes_5 : decode cX0_badOnes 5 = .ok (.aload_n 0, 1) := dk_42 (dk_at dksX0_badOnes_0 5 rfl rfl)
theorem dX0_badOnes_6 : decode cX0_badOnes 6 = .ok (.invokevirtual 172, 3) := dk_182 0 172 (dk_at dksX0_badOnes_0 6 rfl rfl)
theorem dX0_badOnes_9 : decode cX0_badOnes 9 = .ok (.if_icmp .ge 23, 3) := dk_162 0 23 (dk_at dksX0_badOnes_0 9 rfl rfl)
theorem dX0_badOnes_12 : decode cX0_badOnes 12 = .ok (.aload_n 0, 1) := dk_42 (dk_at dksX0_badOnes_0 12 rfl rfl)
theorem dX0_badOnes_13 : decode cX0_badOnes 13 = .ok (.iload_n 2, 1) := dk_28 (dk_at dksX0_badOnes_0 13 rfl rfl)
theorem dX0_badOnes_14 : decode cX0_badOnes 14 = .ok (.invokevirtual 301, 3) := dk_182 1 45 (dk_at dksX0_badOnes_0 14 rfl rfl)
theorem dX0_badOnes_17 : decode cX0_badOnes 17 = .ok (.ifCond .eq 9, 3) := dk_153 0 9 (dk_at dksX0_badOnes_0 17 rfl rfl)
theorem dX0_badOnes_20 : decode cX0_badOnes 20 = .ok (.iload_n 1, 1) := dk_27 (dk_at dksX0_badOnes_0 20 rfl rfl)
theorem dX0_badOnes_21 : decode cX0_badOnes 21 = .ok (.iconst 1, 1) := dk_4 (dk_at dksX0_badOnes_0 21 rfl rfl)
theorem dX0_badOnes_22 : decode cX0_badOnes 22 = .ok (.iload_n 2, 1) := dk_28 (dk_at dksX0_badOnes_0 22 rfl rfl)
theorem dX0_badOnes_23 : decode cX0_badOnes 23 = .ok (.ishl, 1) := dk_120 (dk_at dksX0_badOnes_0 23 rfl rfl)
theorem dX0_badOnes_24 : decode cX0_badOnes 24 = .ok (.ior, 1) := dk_128 (dk_at dksX0_badOnes_1 0 rfl rfl)
theorem dX0_badOnes_25 : decode cX0_badOnes 25 = .ok (.istore_n 1, 1) := dk_60 (dk_at dksX0_badOnes_1 1 rfl rfl)
theorem dX0_badOnes_26 : decode cX0_badOnes 26 = .ok (.iinc 2 1, 3) := dk_132 2 1 (dk_at dksX0_badOnes_1 2 rfl rfl)
theorem dX0_badOnes_29 : decode cX0_badOnes 29 = .ok (.goto (-25), 3) := dk_167 255 231 (dk_at dksX0_badOnes_1 5 rfl rfl)
theorem dX0_badOnes_32 : decode cX0_badOnes 32 = .ok (.iload_n 1, 1) := dk_27 (dk_at dksX0_badOnes_1 8 rfl rfl)
theorem dX0_badOnes_33 : decode cX0_badOnes 33 = .ok (.ireturn, 1) := dk_172 (dk_at dksX0_badOnes_1 9 rfl rfl)
abbrev cX0_isBad : ByteArray := prog_1_method_37_code
def yX0_isBad : MethodName := ⟨RX0, "isBad", "(I)Z"⟩
def dkwX0_isBad_3 : List UInt8 := [172]
abbrev dktX0_isBad_3 : List UInt8 := dkwX0_isBad_3 ++ []
def dkwX0_isBad_2 : List UInt8 := [192, 1, 39, 42, 180, 0, 59, 185, 1, 41, 2, 0, 153, 0, 5, 4, 172, 132, 3, 1, 167, 255, 211, 3]
abbrev dktX0_isBad_2 : List UInt8 := dkwX0_isBad_2 ++ dktX0_isBad_3
def dkwX0_isBad_1 : List UInt8 := [180, 0, 41, 180, 1, 36, 182, 0, 131, 162, 0, 37, 42, 180, 0, 41, 180, 1, 36, 29, 182, 0, 140]
abbrev dktX0_isBad_1 : List UInt8 := dkwX0_isBad_1 ++ dktX0_isBad_2
def dkwX0_isBad_0 : List UInt8 := [42, 27, 3, 182, 1, 33, 61, 42, 180, 0, 59, 180, 0, 187, 16, 8, 28, 79, 3, 62, 29, 42]
abbrev dktX0_isBad_0 : List UInt8 := dkwX0_isBad_0 ++ dktX0_isBad_1
theorem dksX0_isBad_0 : cX0_isBad.data.toList.drop 0 = dktX0_isBad_0 := by decide +kernel
theorem dksX0_isBad_1 : cX0_isBad.data.toList.drop 22 = dktX0_isBad_1 := dk_seg dksX0_isBad_0 22 rfl rfl
theorem dksX0_isBad_2 : cX0_isBad.data.toList.drop 45 = dktX0_isBad_2 := dk_seg dksX0_isBad_1 23 rfl rfl
theorem dksX0_isBad_3 : cX0_isBad.data.toList.drop 69 = dktX0_isBad_3 := dk_seg dksX0_isBad_2 24 rfl rfl
theorem dX0_isBad_0 : decode cX0_isBad 0 = .ok (.aload_n 0, 1) := dk_42 (dk_at dksX0_isBad_0 0 rfl rfl)
theorem dX0_isBad_1 : decode cX0_isBad 1 = .ok (.iload_n 1, 1) := dk_27 (dk_at dksX0_isBad_0 1 rfl rfl)
theorem dX0_isBad_2 : decode cX0_isBad 2 = .ok (.iconst 0, 1) := dk_3 (dk_at dksX0_isBad_0 2 rfl rfl)
theorem dX0_isBad_3 : decode cX0_isBad 3 = .ok (.invokevirtual 289, 3) := dk_182 1 33 (dk_at dksX0_isBad_0 3 rfl rfl)
theorem dX0_isBad_6 : decode cX0_isBad 6 = .ok (.istore_n 2, 1) := dk_61 (dk_at dksX0_isBad_0 6 rfl rfl)
theorem dX0_isBad_7 : decode cX0_isBad 7 = .ok (.aload_n 0, 1) := dk_42 (dk_at dksX0_isBad_0 7 rfl rfl)
theorem dX0_isBad_8 : decode cX0_isBad 8 = .ok (.getfield 59, 3) := dk_180 0 59 (dk_at dksX0_isBad_0 8 rfl rfl)
theorem dX0_isBad_11 : decode cX0_isBad 11 = .ok (.getfield 187, 3) := dk_180 0 187 (dk_at dksX0_isBad_0 11 rfl rfl)
theorem dX0_isBad_14 : decode cX0_isBad 14 = .ok (.bipush 8, 2) := dk_16 8 (dk_at dksX0_isBad_0 14 rfl rfl)
theorem dX0_isBad_16 : decode cX0_isBad 16 = .ok (.iload_n 2, 1) := dk_28 (dk_at dksX0_isBad_0 16 rfl rfl)
theorem dX0_isBad_17 : decode cX0_isBad 17 = .ok (.iastore, 1) := dk_79 (dk_at dksX0_isBad_0 17 rfl rfl)
theorem dX0_isBad_18 : decode cX0_isBad 18 = .ok (.iconst 0, 1) := dk_3 (dk_at dksX0_isBad_0 18 rfl rfl)
theorem dX0_isBad_19 : decode cX0_isBad 19 = .ok (.istore_n 3, 1) := dk_62 (dk_at dksX0_isBad_0 19 rfl rfl)
theorem dX0_isBad_20 : decode cX0_isBad 20 = .ok (.iload_n 3, 1) := dk_29 (dk_at dksX0_isBad_0 20 rfl rfl)
theorem dX0_isBad_21 : decode cX0_isBad 21 = .ok (.aload_n 0, 1) := dk_42 (dk_at dksX0_isBad_0 21 rfl rfl)
theorem dX0_isBad_22 : decode cX0_isBad 22 = .ok (.getfield 41, 3) := dk_180 0 41 (dk_at dksX0_isBad_1 0 rfl rfl)
theorem dX0_isBad_25 : decode cX0_isBad 25 = .ok (.getfield 292, 3) := dk_180 1 36 (dk_at dksX0_isBad_1 3 rfl rfl)
theorem dX0_isBad_28 : decode cX0_isBad 28 = .ok (.invokevirtual 131, 3) := dk_182 0 131 (dk_at dksX0_isBad_1 6 rfl rfl)
theorem dX0_isBad_31 : decode cX0_isBad 31 = .ok (.if_icmp .ge 37, 3) := dk_162 0 37 (dk_at dksX0_isBad_1 9 rfl rfl)
theorem dX0_isBad_34 : decode cX0_isBad 34 = .ok (.aload_n 0, 1) := dk_42 (dk_at dksX0_isBad_1 12 rfl rfl)
theorem dX0_isBad_35 : decode cX0_isBad 35 = .ok (.getfield 41, 3) := dk_180 0 41 (dk_at dksX0_isBad_1 13 rfl rfl)
theorem dX0_isBad_38 : decode cX0_isBad 38 = .ok (.getfield 292, 3) := dk_180 1 36 (dk_at dksX0_isBad_1 16 rfl rfl)
theorem dX0_isBad_41 : decode cX0_isBad 41 = .ok (.iload_n 3, 1) := dk_29 (dk_at dksX0_isBad_1 19 rfl rfl)
theorem dX0_isBad_42 : decode cX0_isBad 42 = .ok (.invokevirtual 140, 3) := dk_182 0 140 (dk_at dksX0_isBad_1 20 rfl rfl)
theorem dX0_isBad_45 : decode cX0_isBad 45 = .ok (.checkcast 295, 3) := dk_192 1 39 (dk_at dksX0_isBad_2 0 rfl rfl)
theorem dX0_isBad_48 : decode cX0_isBad 48 = .ok (.aload_n 0, 1) := dk_42 (dk_at dksX0_isBad_2 3 rfl rfl)
theorem dX0_isBad_49 : decode cX0_isBad 49 = .ok (.getfield 59, 3) := dk_180 0 59 (dk_at dksX0_isBad_2 4 rfl rfl)
theorem dX0_isBad_52 : decode cX0_isBad 52 = .ok (.invokeinterface 297 2, 5) := by decide +kernel
theorem dX0_isBad_57 : decode cX0_isBad 57 = .ok (.ifCond .eq 5, 3) := dk_153 0 5 (dk_at dksX0_isBad_2 12 rfl rfl)
theorem dX0_isBad_60 : decode cX0_isBad 60 = .ok (.iconst 1, 1) := dk_4 (dk_at dksX0_isBad_2 15 rfl rfl)
theorem dX0_isBad_61 : decode cX0_isBad 61 = .ok (.ireturn, 1) := dk_172 (dk_at dksX0_isBad_2 16 rfl rfl)
theorem dX0_isBad_62 : decode cX0_isBad 62 = .ok (.iinc 3 1, 3) := dk_132 3 1 (dk_at dksX0_isBad_2 17 rfl rfl)
theorem dX0_isBad_65 : decode cX0_isBad 65 = .ok (.goto (-45), 3) := dk_167 255 211 (dk_at dksX0_isBad_2 20 rfl rfl)
theorem dX0_isBad_68 : decode cX0_isBad 68 = .ok (.iconst 0, 1) := dk_3 (dk_at dksX0_isBad_2 23 rfl rfl)
theorem dX0_isBad_69 : decode cX0_isBad 69 = .ok (.ireturn, 1) := dk_172 (dk_at dksX0_isBad_3 0 rfl rfl)
abbrev cX0_swayOf : ByteArray := prog_1_method_36_code
def yX0_swayOf : MethodName := ⟨RX0, "swayOf", "(II)I"⟩
def dkwX0_swayOf_2 : List UInt8 := [182, 0, 206, 172]
abbrev dktX0_swayOf_2 : List UInt8 := dkwX0_swayOf_2 ++ []
def dkwX0_swayOf_1 : List UInt8 := [180, 0, 59, 180, 0, 187, 16, 6, 28, 79, 42, 180, 0, 59, 42, 180, 0, 41, 180, 1, 30, 16, 99]
abbrev dktX0_swayOf_1 : List UInt8 := dkwX0_swayOf_1 ++ dktX0_swayOf_2
def dkwX0_swayOf_0 : List UInt8 := [42, 27, 182, 0, 199, 42, 180, 0, 59, 180, 0, 187, 8, 42, 180, 0, 48, 180, 0, 227, 79, 42]
abbrev dktX0_swayOf_0 : List UInt8 := dkwX0_swayOf_0 ++ dktX0_swayOf_1
theorem dksX0_swayOf_0 : cX0_swayOf.data.toList.drop 0 = dktX0_swayOf_0 := by decide +kernel
theorem dksX0_swayOf_1 : cX0_swayOf.data.toList.drop 22 = dktX0_swayOf_1 := dk_seg dksX0_swayOf_0 22 rfl rfl
theorem dksX0_swayOf_2 : cX0_swayOf.data.toList.drop 45 = dktX0_swayOf_2 := dk_seg dksX0_swayOf_1 23 rfl rfl
theorem dX0_swayOf_0 : decode cX0_swayOf 0 = .ok (.aload_n 0, 1) := dk_42 (dk_at dksX0_swayOf_0 0 rfl rfl)
theorem dX0_swayOf_1 : decode cX0_swayOf 1 = .ok (.iload_n 1, 1) := dk_27 (dk_at dksX0_swayOf_0 1 rfl rfl)
theorem dX0_swayOf_2 : decode cX0_swayOf 2 = .ok (.invokevirtual 199, 3) := dk_182 0 199 (dk_at dksX0_swayOf_0 2 rfl rfl)
theorem dX0_swayOf_5 : decode cX0_swayOf 5 = .ok (.aload_n 0, 1) := dk_42 (dk_at dksX0_swayOf_0 5 rfl rfl)
theorem dX0_swayOf_6 : decode cX0_swayOf 6 = .ok (.getfield 59, 3) := dk_180 0 59 (dk_at dksX0_swayOf_0 6 rfl rfl)
theorem dX0_swayOf_9 : decode cX0_swayOf 9 = .ok (.getfield 187, 3) := dk_180 0 187 (dk_at dksX0_swayOf_0 9 rfl rfl)
theorem dX0_swayOf_12 : decode cX0_swayOf 12 = .ok (.iconst 5, 1) := dk_8 (dk_at dksX0_swayOf_0 12 rfl rfl)
theorem dX0_swayOf_13 : decode cX0_swayOf 13 = .ok (.aload_n 0, 1) := dk_42 (dk_at dksX0_swayOf_0 13 rfl rfl)
theorem dX0_swayOf_14 : decode cX0_swayOf 14 = .ok (.getfield 48, 3) := dk_180 0 48 (dk_at dksX0_swayOf_0 14 rfl rfl)
theorem dX0_swayOf_17 : decode cX0_swayOf 17 = .ok (.getfield 227, 3) := dk_180 0 227 (dk_at dksX0_swayOf_0 17 rfl rfl)
theorem dX0_swayOf_20 : decode cX0_swayOf 20 = .ok (.iastore, 1) := dk_79 (dk_at dksX0_swayOf_0 20 rfl rfl)
theorem dX0_swayOf_21 : decode cX0_swayOf 21 = .ok (.aload_n 0, 1) := dk_42 (dk_at dksX0_swayOf_0 21 rfl rfl)
theorem dX0_swayOf_22 : decode cX0_swayOf 22 = .ok (.getfield 59, 3) := dk_180 0 59 (dk_at dksX0_swayOf_1 0 rfl rfl)
theorem dX0_swayOf_25 : decode cX0_swayOf 25 = .ok (.getfield 187, 3) := dk_180 0 187 (dk_at dksX0_swayOf_1 3 rfl rfl)
theorem dX0_swayOf_28 : decode cX0_swayOf 28 = .ok (.bipush 6, 2) := dk_16 6 (dk_at dksX0_swayOf_1 6 rfl rfl)
theorem dX0_swayOf_30 : decode cX0_swayOf 30 = .ok (.iload_n 2, 1) := dk_28 (dk_at dksX0_swayOf_1 8 rfl rfl)
theorem dX0_swayOf_31 : decode cX0_swayOf 31 = .ok (.iastore, 1) := dk_79 (dk_at dksX0_swayOf_1 9 rfl rfl)
theorem dX0_swayOf_32 : decode cX0_swayOf 32 = .ok (.aload_n 0, 1) := dk_42 (dk_at dksX0_swayOf_1 10 rfl rfl)
theorem dX0_swayOf_33 : decode cX0_swayOf 33 = .ok (.getfield 59, 3) := dk_180 0 59 (dk_at dksX0_swayOf_1 11 rfl rfl)
theorem dX0_swayOf_36 : decode cX0_swayOf 36 = .ok (.aload_n 0, 1) := dk_42 (dk_at dksX0_swayOf_1 14 rfl rfl)
theorem dX0_swayOf_37 : decode cX0_swayOf 37 = .ok (.getfield 41, 3) := dk_180 0 41 (dk_at dksX0_swayOf_1 15 rfl rfl)
theorem dX0_swayOf_40 : decode cX0_swayOf 40 = .ok (.getfield 286, 3) := dk_180 1 30 (dk_at dksX0_swayOf_1 18 rfl rfl)
theorem dX0_swayOf_43 : decode cX0_swayOf 43 = .ok (.bipush 99, 2) := dk_16 99 (dk_at dksX0_swayOf_1 21 rfl rfl)
theorem dX0_swayOf_45 : decode cX0_swayOf 45 = .ok (.invokevirtual 206, 3) := dk_182 0 206 (dk_at dksX0_swayOf_2 0 rfl rfl)
theorem dX0_swayOf_48 : decode cX0_swayOf 48 = .ok (.ireturn, 1) := dk_172 (dk_at dksX0_swayOf_2 3 rfl rfl)
abbrev cX0_wood : ByteArray := prog_1_method_41_code
def yX0_wood : MethodName := ⟨RX0, "wood", "(I)I"⟩
def dkwX0_wood_1 : List UInt8 := [180, 0, 158, 27, 46, 167, 0, 4, 2, 172]
abbrev dktX0_wood_1 : List UInt8 := dkwX0_wood_1 ++ []
def dkwX0_wood_0 : List UInt8 := [27, 3, 42, 180, 0, 41, 180, 0, 155, 182, 0, 131, 4, 100, 184, 0, 174, 153, 0, 15, 42, 180, 0, 48]
abbrev dktX0_wood_0 : List UInt8 := dkwX0_wood_0 ++ dktX0_wood_1
theorem dksX0_wood_0 : cX0_wood.data.toList.drop 0 = dktX0_wood_0 := by decide +kernel
theorem dksX0_wood_1 : cX0_wood.data.toList.drop 24 = dktX0_wood_1 := dk_seg dksX0_wood_0 24 rfl rfl
theorem dX0_wood_0 : decode cX0_wood 0 = .ok (.iload_n 1, 1) := dk_27 (dk_at dksX0_wood_0 0 rfl rfl)
theorem dX0_wood_1 : decode cX0_wood 1 = .ok (.iconst 0, 1) := dk_3 (dk_at dksX0_wood_0 1 rfl rfl)
theorem dX0_wood_2 : decode cX0_wood 2 = .ok (.aload_n 0, 1) := dk_42 (dk_at dksX0_wood_0 2 rfl rfl)
theorem dX0_wood_3 : decode cX0_wood 3 = .ok (.getfield 41, 3) := dk_180 0 41 (dk_at dksX0_wood_0 3 rfl rfl)
theorem dX0_wood_6 : decode cX0_wood 6 = .ok (.getfield 155, 3) := dk_180 0 155 (dk_at dksX0_wood_0 6 rfl rfl)
theorem dX0_wood_9 : decode cX0_wood 9 = .ok (.invokevirtual 131, 3) := dk_182 0 131 (dk_at dksX0_wood_0 9 rfl rfl)
theorem dX0_wood_12 : decode cX0_wood 12 = .ok (.iconst 1, 1) := dk_4 (dk_at dksX0_wood_0 12 rfl rfl)
theorem dX0_wood_13 : decode cX0_wood 13 = .ok (.isub, 1) := dk_100 (dk_at dksX0_wood_0 13 rfl rfl)
theorem dX0_wood_14 : decode cX0_wood 14 = .ok (.invokestatic 174, 3) := dk_184 0 174 (dk_at dksX0_wood_0 14 rfl rfl)
theorem dX0_wood_17 : decode cX0_wood 17 = .ok (.ifCond .eq 15, 3) := dk_153 0 15 (dk_at dksX0_wood_0 17 rfl rfl)
theorem dX0_wood_20 : decode cX0_wood 20 = .ok (.aload_n 0, 1) := dk_42 (dk_at dksX0_wood_0 20 rfl rfl)
theorem dX0_wood_21 : decode cX0_wood 21 = .ok (.getfield 48, 3) := dk_180 0 48 (dk_at dksX0_wood_0 21 rfl rfl)
theorem dX0_wood_24 : decode cX0_wood 24 = .ok (.getfield 158, 3) := dk_180 0 158 (dk_at dksX0_wood_1 0 rfl rfl)
theorem dX0_wood_27 : decode cX0_wood 27 = .ok (.iload_n 1, 1) := dk_27 (dk_at dksX0_wood_1 3 rfl rfl)
theorem dX0_wood_28 : decode cX0_wood 28 = .ok (.iaload, 1) := dk_46 (dk_at dksX0_wood_1 4 rfl rfl)
theorem dX0_wood_29 : decode cX0_wood 29 = .ok (.goto 4, 3) := dk_167 0 4 (dk_at dksX0_wood_1 5 rfl rfl)
theorem dX0_wood_32 : decode cX0_wood 32 = .ok (.iconst (-1), 1) := dk_2 (dk_at dksX0_wood_1 8 rfl rfl)
theorem dX0_wood_33 : decode cX0_wood 33 = .ok (.ireturn, 1) := dk_172 (dk_at dksX0_wood_1 9 rfl rfl)
abbrev cX0_jack : ByteArray := prog_1_method_44_code
def yX0_jack : MethodName := ⟨RX0, "jack", "(II)I"⟩
def dkwX0_jack_5 : List UInt8 := [16, 10, 100, 21, 4, 182, 1, 64, 172]
abbrev dktX0_jack_5 : List UInt8 := dkwX0_jack_5 ++ []
def dkwX0_jack_4 : List UInt8 := [21, 5, 182, 0, 140, 192, 0, 161, 180, 1, 58, 104, 100, 54, 4, 132, 5, 1, 167, 255, 212, 42, 28]
abbrev dktX0_jack_4 : List UInt8 := dkwX0_jack_4 ++ dktX0_jack_5
def dkwX0_jack_3 : List UInt8 := [16, 10, 100, 162, 0, 41, 21, 4, 42, 21, 5, 21, 4, 182, 1, 64, 42, 180, 0, 41, 180, 0, 155]
abbrev dktX0_jack_3 : List UInt8 := dkwX0_jack_3 ++ dktX0_jack_4
def dkwX0_jack_2 : List UInt8 := [19, 1, 57, 161, 0, 6, 16, 254, 172, 28, 154, 0, 5, 29, 172, 27, 54, 4, 3, 54, 5, 21, 5, 28]
abbrev dktX0_jack_2 : List UInt8 := dkwX0_jack_2 ++ dktX0_jack_3
def dkwX0_jack_1 : List UInt8 := [180, 0, 155, 182, 0, 131, 4, 100, 184, 0, 174, 154, 0, 5, 2, 172, 42, 27, 182, 1, 61, 62, 29]
abbrev dktX0_jack_1 : List UInt8 := dkwX0_jack_1 ++ dktX0_jack_2
def dkwX0_jack_0 : List UInt8 := [27, 4, 16, 99, 184, 0, 174, 153, 0, 30, 28, 153, 0, 28, 28, 16, 10, 100, 3, 42, 180, 0, 41]
abbrev dktX0_jack_0 : List UInt8 := dkwX0_jack_0 ++ dktX0_jack_1
theorem dksX0_jack_0 : cX0_jack.data.toList.drop 0 = dktX0_jack_0 := by decide +kernel
theorem dksX0_jack_1 : cX0_jack.data.toList.drop 23 = dktX0_jack_1 := dk_seg dksX0_jack_0 23 rfl rfl
theorem dksX0_jack_2 : cX0_jack.data.toList.drop 46 = dktX0_jack_2 := dk_seg dksX0_jack_1 23 rfl rfl
theorem dksX0_jack_3 : cX0_jack.data.toList.drop 70 = dktX0_jack_3 := dk_seg dksX0_jack_2 24 rfl rfl
theorem dksX0_jack_4 : cX0_jack.data.toList.drop 93 = dktX0_jack_4 := dk_seg dksX0_jack_3 23 rfl rfl
theorem dksX0_jack_5 : cX0_jack.data.toList.drop 116 = dktX0_jack_5 := dk_seg dksX0_jack_4 23 rfl rfl
theorem dX0_jack_0 : decode cX0_jack 0 = .ok (.iload_n 1, 1) := dk_27 (dk_at dksX0_jack_0 0 rfl rfl)
theorem dX0_jack_1 : decode cX0_jack 1 = .ok (.iconst 1, 1) := dk_4 (dk_at dksX0_jack_0 1 rfl rfl)
theorem dX0_jack_2 : decode cX0_jack 2 = .ok (.bipush 99, 2) := dk_16 99 (dk_at dksX0_jack_0 2 rfl rfl)
theorem dX0_jack_4 : decode cX0_jack 4 = .ok (.invokestatic 174, 3) := dk_184 0 174 (dk_at dksX0_jack_0 4 rfl rfl)
theorem dX0_jack_7 : decode cX0_jack 7 = .ok (.ifCond .eq 30, 3) := dk_153 0 30 (dk_at dksX0_jack_0 7 rfl rfl)
theorem dX0_jack_10 : decode cX0_jack 10 = .ok (.iload_n 2, 1) := dk_28 (dk_at dksX0_jack_0 10 rfl rfl)
theorem dX0_jack_11 : decode cX0_jack 11 = .ok (.ifCond .eq 28, 3) := dk_153 0 28 (dk_at dksX0_jack_0 11 rfl rfl)
theorem dX0_jack_14 : decode cX0_jack 14 = .ok (.iload_n 2, 1) := dk_28 (dk_at dksX0_jack_0 14 rfl rfl)
theorem dX0_jack_15 : decode cX0_jack 15 = .ok (.bipush 10, 2) := dk_16 10 (dk_at dksX0_jack_0 15 rfl rfl)
theorem dX0_jack_17 : decode cX0_jack 17 = .ok (.isub, 1) := dk_100 (dk_at dksX0_jack_0 17 rfl rfl)
theorem dX0_jack_18 : decode cX0_jack 18 = .ok (.iconst 0, 1) := dk_3 (dk_at dksX0_jack_0 18 rfl rfl)
theorem dX0_jack_19 : decode cX0_jack 19 = .ok (.aload_n 0, 1) := dk_42 (dk_at dksX0_jack_0 19 rfl rfl)
theorem dX0_jack_20 : decode cX0_jack 20 = .ok (.getfield 41, 3) := dk_180 0 41 (dk_at dksX0_jack_0 20 rfl rfl)
theorem dX0_jack_23 : decode cX0_jack 23 = .ok (.getfield 155, 3) := dk_180 0 155 (dk_at dksX0_jack_1 0 rfl rfl)
theorem dX0_jack_26 : decode cX0_jack 26 = .ok (.invokevirtual 131, 3) := dk_182 0 131 (dk_at dksX0_jack_1 3 rfl rfl)
theorem dX0_jack_29 : decode cX0_jack 29 = .ok (.iconst 1, 1) := dk_4 (dk_at dksX0_jack_1 6 rfl rfl)
theorem dX0_jack_30 : decode cX0_jack 30 = .ok (.isub, 1) := dk_100 (dk_at dksX0_jack_1 7 rfl rfl)
theorem dX0_jack_31 : decode cX0_jack 31 = .ok (.invokestatic 174, 3) := dk_184 0 174 (dk_at dksX0_jack_1 8 rfl rfl)
theorem dX0_jack_34 : decode cX0_jack 34 = .ok (.ifCond .ne 5, 3) := dk_154 0 5 (dk_at dksX0_jack_1 11 rfl rfl)
theorem dX0_jack_37 : decode cX0_jack 37 = .ok (.iconst (-1), 1) := dk_2 (dk_at dksX0_jack_1 14 rfl rfl)
theorem dX0_jack_38 : decode cX0_jack 38 = .ok (.ireturn, 1) := dk_172 (dk_at dksX0_jack_1 15 rfl rfl)
theorem dX0_jack_39 : decode cX0_jack 39 = .ok (.aload_n 0, 1) := dk_42 (dk_at dksX0_jack_1 16 rfl rfl)
theorem dX0_jack_40 : decode cX0_jack 40 = .ok (.iload_n 1, 1) := dk_27 (dk_at dksX0_jack_1 17 rfl rfl)
theorem dX0_jack_41 : decode cX0_jack 41 = .ok (.invokevirtual 317, 3) := dk_182 1 61 (dk_at dksX0_jack_1 18 rfl rfl)
theorem dX0_jack_44 : decode cX0_jack 44 = .ok (.istore_n 3, 1) := dk_62 (dk_at dksX0_jack_1 21 rfl rfl)
theorem dX0_jack_45 : decode cX0_jack 45 = .ok (.iload_n 3, 1) := dk_29 (dk_at dksX0_jack_1 22 rfl rfl)
theorem dX0_jack_46 : decode cX0_jack 46 = .ok (.ldc_w 313, 3) := dk_19 1 57 (dk_at dksX0_jack_2 0 rfl rfl)
theorem dX0_jack_49 : decode cX0_jack 49 = .ok (.if_icmp .lt 6, 3) := dk_161 0 6 (dk_at dksX0_jack_2 3 rfl rfl)
theorem dX0_jack_52 : decode cX0_jack 52 = .ok (.bipush (-2), 2) := dk_16 254 (dk_at dksX0_jack_2 6 rfl rfl)
theorem dX0_jack_54 : decode cX0_jack 54 = .ok (.ireturn, 1) := dk_172 (dk_at dksX0_jack_2 8 rfl rfl)
theorem dX0_jack_55 : decode cX0_jack 55 = .ok (.iload_n 2, 1) := dk_28 (dk_at dksX0_jack_2 9 rfl rfl)
theorem dX0_jack_56 : decode cX0_jack 56 = .ok (.ifCond .ne 5, 3) := dk_154 0 5 (dk_at dksX0_jack_2 10 rfl rfl)
theorem dX0_jack_59 : decode cX0_jack 59 = .ok (.iload_n 3, 1) := dk_29 (dk_at dksX0_jack_2 13 rfl rfl)
theorem dX0_jack_60 : decode cX0_jack 60 = .ok (.ireturn, 1) := dk_172 (dk_at dksX0_jack_2 14 rfl rfl)
theorem dX0_jack_61 : decode cX0_jack 61 = .ok (.iload_n 1, 1) := dk_27 (dk_at dksX0_jack_2 15 rfl rfl)
theorem dX0_jack_62 : decode cX0_jack 62 = .ok (.istore 4, 2) := dk_54 4 (dk_at dksX0_jack_2 16 rfl rfl)
theorem dX0_jack_64 : decode cX0_jack 64 = .ok (.iconst 0, 1) := dk_3 (dk_at dksX0_jack_2 18 rfl rfl)
theorem dX0_jack_65 : decode cX0_jack 65 = .ok (.istore 5, 2) := dk_54 5 (dk_at dksX0_jack_2 19 rfl rfl)
theorem dX0_jack_67 : decode cX0_jack 67 = .ok (.iload 5, 2) := dk_21 5 (dk_at dksX0_jack_2 21 rfl rfl)
theorem dX0_jack_69 : decode cX0_jack 69 = .ok (.iload_n 2, 1) := dk_28 (dk_at dksX0_jack_2 23 rfl rfl)
theorem dX0_jack_70 : decode cX0_jack 70 = .ok (.bipush 10, 2) := dk_16 10 (dk_at dksX0_jack_3 0 rfl rfl)
theorem dX0_jack_72 : decode cX0_jack 72 = .ok (.isub, 1) := dk_100 (dk_at dksX0_jack_3 2 rfl rfl)
theorem dX0_jack_73 : decode cX0_jack 73 = .ok (.if_icmp .ge 41, 3) := dk_162 0 41 (dk_at dksX0_jack_3 3 rfl rfl)
theorem dX0_jack_76 : decode cX0_jack 76 = .ok (.iload 4, 2) := dk_21 4 (dk_at dksX0_jack_3 6 rfl rfl)
theorem dX0_jack_78 : decode cX0_jack 78 = .ok (.aload_n 0, 1) := dk_42 (dk_at dksX0_jack_3 8 rfl rfl)
theorem dX0_jack_79 : decode cX0_jack 79 = .ok (.iload 5, 2) := dk_21 5 (dk_at dksX0_jack_3 9 rfl rfl)
theorem dX0_jack_81 : decode cX0_jack 81 = .ok (.iload 4, 2) := dk_21 4 (dk_at dksX0_jack_3 11 rfl rfl)
theorem dX0_jack_83 : decode cX0_jack 83 = .ok (.invokevirtual 320, 3) := dk_182 1 64 (dk_at dksX0_jack_3 13 rfl rfl)
theorem dX0_jack_86 : decode cX0_jack 86 = .ok (.aload_n 0, 1) := dk_42 (dk_at dksX0_jack_3 16 rfl rfl)
theorem dX0_jack_87 : decode cX0_jack 87 = .ok (.getfield 41, 3) := dk_180 0 41 (dk_at dksX0_jack_3 17 rfl rfl)
theorem dX0_jack_90 : decode cX0_jack 90 = .ok (.getfield 155, 3) := dk_180 0 155 (dk_at dksX0_jack_3 20 rfl rfl)
theorem dX0_jack_93 : decode cX0_jack 93 = .ok (.iload 5, 2) := dk_21 5 (dk_at dksX0_jack_4 0 rfl rfl)
theorem dX0_jack_95 : decode cX0_jack 95 = .ok (.invokevirtual 140, 3) := dk_182 0 140 (dk_at dksX0_jack_4 2 rfl rfl)
theorem dX0_jack_98 : decode cX0_jack 98 = .ok (.checkcast 161, 3) := dk_192 0 161 (dk_at dksX0_jack_4 5 rfl rfl)
theorem dX0_jack_101 : decode cX0_jack 101 = .ok (.getfield 314, 3) := dk_180 1 58 (dk_at dksX0_jack_4 8 rfl rfl)
theorem dX0_jack_104 : decode cX0_jack 104 = .ok (.imul, 1) := dk_104 (dk_at dksX0_jack_4 11 rfl rfl)
theorem dX0_jack_105 : decode cX0_jack 105 = .ok (.isub, 1) := dk_100 (dk_at dksX0_jack_4 12 rfl rfl)
theorem dX0_jack_106 : decode cX0_jack 106 = .ok (.istore 4, 2) := dk_54 4 (dk_at dksX0_jack_4 13 rfl rfl)
theorem dX0_jack_108 : decode cX0_jack 108 = .ok (.iinc 5 1, 3) := dk_132 5 1 (dk_at dksX0_jack_4 15 rfl rfl)
theorem dX0_jack_111 : decode cX0_jack 111 = .ok (.goto (-44), 3) := dk_167 255 212 (dk_at dksX0_jack_4 18 rfl rfl)
theorem dX0_jack_114 : decode cX0_jack 114 = .ok (.aload_n 0, 1) := dk_42 (dk_at dksX0_jack_4 21 rfl rfl)
theorem dX0_jack_115 : decode cX0_jack 115 = .ok (.iload_n 2, 1) := dk_28 (dk_at dksX0_jack_4 22 rfl rfl)
theorem dX0_jack_116 : decode cX0_jack 116 = .ok (.bipush 10, 2) := dk_16 10 (dk_at dksX0_jack_5 0 rfl rfl)
theorem dX0_jack_118 : decode cX0_jack 118 = .ok (.isub, 1) := dk_100 (dk_at dksX0_jack_5 2 rfl rfl)
theorem dX0_jack_119 : decode cX0_jack 119 = .ok (.iload 4, 2) := dk_21 4 (dk_at dksX0_jack_5 3 rfl rfl)
theorem dX0_jack_121 : decode cX0_jack 121 = .ok (.invokevirtual 320, 3) := dk_182 1 64 (dk_at dksX0_jack_5 5 rfl rfl)
theorem dX0_jack_124 : decode cX0_jack 124 = .ok (.ireturn, 1) := dk_172 (dk_at dksX0_jack_5 8 rfl rfl)
abbrev cX0_fewest : ByteArray := prog_1_method_42_code
def yX0_fewest : MethodName := ⟨RX0, "fewest", "(I)I"⟩
def dkwX0_fewest_7 : List UInt8 := [132, 5, 1, 167, 255, 161, 132, 3, 255, 167, 255, 129, 42, 180, 0, 80, 3, 50, 27, 46, 172]
abbrev dktX0_fewest_7 : List UInt8 := dkwX0_fewest_7 ++ []
def dkwX0_fewest_6 : List UInt8 := [50, 21, 5, 21, 6, 21, 4, 104, 100, 46, 21, 6, 96, 184, 0, 7, 79, 132, 6, 1, 167, 255, 188]
abbrev dktX0_fewest_6 : List UInt8 := dkwX0_fewest_6 ++ dktX0_fewest_7
def dkwX0_fewest_5 : List UInt8 := [42, 180, 0, 80, 29, 50, 21, 5, 42, 180, 0, 80, 29, 50, 21, 5, 46, 42, 180, 0, 80, 29, 4, 96]
abbrev dktX0_fewest_5 : List UInt8 := dkwX0_fewest_5 ++ dktX0_fewest_6
def dkwX0_fewest_4 : List UInt8 := [21, 6, 42, 180, 0, 48, 180, 0, 158, 29, 46, 163, 0, 60, 21, 6, 21, 4, 104, 21, 5, 163, 0, 50]
abbrev dktX0_fewest_4 : List UInt8 := dkwX0_fewest_4 ++ dktX0_fewest_5
def dkwX0_fewest_3 : List UInt8 := [54, 5, 21, 5, 27, 163, 0, 95, 42, 180, 0, 80, 29, 50, 21, 5, 19, 1, 57, 79, 3, 54, 6]
abbrev dktX0_fewest_3 : List UInt8 := dkwX0_fewest_3 ++ dktX0_fewest_4
def dkwX0_fewest_2 : List UInt8 := [155, 0, 129, 42, 180, 0, 41, 180, 0, 155, 29, 182, 0, 140, 192, 0, 161, 180, 1, 58, 54, 4, 3]
abbrev dktX0_fewest_2 : List UInt8 := dkwX0_fewest_2 ++ dktX0_fewest_3
def dkwX0_fewest_1 : List UInt8 := [29, 29, 154, 0, 7, 3, 167, 0, 6, 19, 1, 57, 79, 132, 3, 1, 167, 255, 229, 28, 4, 100, 62, 29]
abbrev dktX0_fewest_1 : List UInt8 := dkwX0_fewest_1 ++ dktX0_fewest_2
def dkwX0_fewest_0 : List UInt8 := [42, 180, 0, 41, 180, 0, 155, 182, 0, 131, 61, 3, 62, 29, 27, 163, 0, 28, 42, 180, 0, 80, 28, 50]
abbrev dktX0_fewest_0 : List UInt8 := dkwX0_fewest_0 ++ dktX0_fewest_1
theorem dksX0_fewest_0 : cX0_fewest.data.toList.drop 0 = dktX0_fewest_0 := by decide +kernel
theorem dksX0_fewest_1 : cX0_fewest.data.toList.drop 24 = dktX0_fewest_1 := dk_seg dksX0_fewest_0 24 rfl rfl
theorem dksX0_fewest_2 : cX0_fewest.data.toList.drop 48 = dktX0_fewest_2 := dk_seg dksX0_fewest_1 24 rfl rfl
theorem dksX0_fewest_3 : cX0_fewest.data.toList.drop 71 = dktX0_fewest_3 := dk_seg dksX0_fewest_2 23 rfl rfl
theorem dksX0_fewest_4 : cX0_fewest.data.toList.drop 94 = dktX0_fewest_4 := dk_seg dksX0_fewest_3 23 rfl rfl
theorem dksX0_fewest_5 : cX0_fewest.data.toList.drop 118 = dktX0_fewest_5 := dk_seg dksX0_fewest_4 24 rfl rfl
theorem dksX0_fewest_6 : cX0_fewest.data.toList.drop 142 = dktX0_fewest_6 := dk_seg dksX0_fewest_5 24 rfl rfl
theorem dksX0_fewest_7 : cX0_fewest.data.toList.drop 165 = dktX0_fewest_7 := dk_seg dksX0_fewest_6 23 rfl rfl
theorem dX0_fewest_0 : decode cX0_fewest 0 = .ok (.aload_n 0, 1) := dk_42 (dk_at dksX0_fewest_0 0 rfl rfl)
theorem dX0_fewest_1 : decode cX0_fewest 1 = .ok (.getfield 41, 3) := dk_180 0 41 (dk_at dksX0_fewest_0 1 rfl rfl)
theorem dX0_fewest_4 : decode cX0_fewest 4 = .ok (.getfield 155, 3) := dk_180 0 155 (dk_at dksX0_fewest_0 4 rfl rfl)
theorem dX0_fewest_7 : decode cX0_fewest 7 = .ok (.invokevirtual 131, 3) := dk_182 0 131 (dk_at dksX0_fewest_0 7 rfl rfl)
theorem dX0_fewest_10 : decode cX0_fewest 10 = .ok (.istore_n 2, 1) := dk_61 (dk_at dksX0_fewest_0 10 rfl rfl)
theorem dX0_fewest_11 : decode cX0_fewest 11 = .ok (.iconst 0, 1) := dk_3 (dk_at dksX0_fewest_0 11 rfl rfl)
theorem dX0_fewest_12 : decode cX0_fewest 12 = .ok (.istore_n 3, 1) := dk_62 (dk_at dksX0_fewest_0 12 rfl rfl)
theorem dX0_fewest_13 : decode cX0_fewest 13 = .ok (.iload_n 3, 1) := dk_29 (dk_at dksX0_fewest_0 13 rfl rfl)
theorem dX0_fewest_14 : decode cX0_fewest 14 = .ok (.iload_n 1, 1) := dk_27 (dk_at dksX0_fewest_0 14 rfl rfl)
theorem dX0_fewest_15 : decode cX0_fewest 15 = .ok (.if_icmp .gt 28, 3) := dk_163 0 28 (dk_at dksX0_fewest_0 15 rfl rfl)
theorem dX0_fewest_18 : decode cX0_fewest 18 = .ok (.aload_n 0, 1) := dk_42 (dk_at dksX0_fewest_0 18 rfl rfl)
theorem dX0_fewest_19 : decode cX0_fewest 19 = .ok (.getfield 80, 3) := dk_180 0 80 (dk_at dksX0_fewest_0 19 rfl rfl)
theorem dX0_fewest_22 : decode cX0_fewest 22 = .ok (.iload_n 2, 1) := dk_28 (dk_at dksX0_fewest_0 22 rfl rfl)
theorem dX0_fewest_23 : decode cX0_fewest 23 = .ok (.aaload, 1) := dk_50 (dk_at dksX0_fewest_0 23 rfl rfl)
theorem dX0_fewest_24 : decode cX0_fewest 24 = .ok (.iload_n 3, 1) := dk_29 (dk_at dksX0_fewest_1 0 rfl rfl)
theorem dX0_fewest_25 : decode cX0_fewest 25 = .ok (.iload_n 3, 1) := dk_29 (dk_at dksX0_fewest_1 1 rfl rfl)
theorem dX0_fewest_26 : decode cX0_fewest 26 = .ok (.ifCond .ne 7, 3) := dk_154 0 7 (dk_at dksX0_fewest_1 2 rfl rfl)
theorem dX0_fewest_29 : decode cX0_fewest 29 = .ok (.iconst 0, 1) := dk_3 (dk_at dksX0_fewest_1 5 rfl rfl)
theorem dX0_fewest_30 : decode cX0_fewest 30 = .ok (.goto 6, 3) := dk_167 0 6 (dk_at dksX0_fewest_1 6 rfl rfl)
theorem dX0_fewest_33 : decode cX0_fewest 33 = .ok (.ldc_w 313, 3) := dk_19 1 57 (dk_at dksX0_fewest_1 9 rfl rfl)
theorem dX0_fewest_36 : decode cX0_fewest 36 = .ok (.iastore, 1) := dk_79 (dk_at dksX0_fewest_1 12 rfl rfl)
theorem dX0_fewest_37 : decode cX0_fewest 37 = .ok (.iinc 3 1, 3) := dk_132 3 1 (dk_at dksX0_fewest_1 13 rfl rfl)
theorem dX0_fewest_40 : decode cX0_fewest 40 = .ok (.goto (-27), 3) := dk_167 255 229 (dk_at dksX0_fewest_1 16 rfl rfl)
theorem dX0_fewest_43 : decode cX0_fewest 43 = .ok (.iload_n 2, 1) := dk_28 (dk_at dksX0_fewest_1 19 rfl rfl)
theorem dX0_fewest_44 : decode cX0_fewest 44 = .ok (.iconst 1, 1) := dk_4 (dk_at dksX0_fewest_1 20 rfl rfl)
theorem dX0_fewest_45 : decode cX0_fewest 45 = .ok (.isub, 1) := dk_100 (dk_at dksX0_fewest_1 21 rfl rfl)
theorem dX0_fewest_46 : decode cX0_fewest 46 = .ok (.istore_n 3, 1) := dk_62 (dk_at dksX0_fewest_1 22 rfl rfl)
theorem dX0_fewest_47 : decode cX0_fewest 47 = .ok (.iload_n 3, 1) := dk_29 (dk_at dksX0_fewest_1 23 rfl rfl)
theorem dX0_fewest_48 : decode cX0_fewest 48 = .ok (.ifCond .lt 129, 3) := dk_155 0 129 (dk_at dksX0_fewest_2 0 rfl rfl)
theorem dX0_fewest_51 : decode cX0_fewest 51 = .ok (.aload_n 0, 1) := dk_42 (dk_at dksX0_fewest_2 3 rfl rfl)
theorem dX0_fewest_52 : decode cX0_fewest 52 = .ok (.getfield 41, 3) := dk_180 0 41 (dk_at dksX0_fewest_2 4 rfl rfl)
theorem dX0_fewest_55 : decode cX0_fewest 55 = .ok (.getfield 155, 3) := dk_180 0 155 (dk_at dksX0_fewest_2 7 rfl rfl)
theorem dX0_fewest_58 : decode cX0_fewest 58 = .ok (.iload_n 3, 1) := dk_29 (dk_at dksX0_fewest_2 10 rfl rfl)
theorem dX0_fewest_59 : decode cX0_fewest 59 = .ok (.invokevirtual 140, 3) := dk_182 0 140 (dk_at dksX0_fewest_2 11 rfl rfl)
theorem dX0_fewest_62 : decode cX0_fewest 62 = .ok (.checkcast 161, 3) := dk_192 0 161 (dk_at dksX0_fewest_2 14 rfl rfl)
theorem dX0_fewest_65 : decode cX0_fewest 65 = .ok (.getfield 314, 3) := dk_180 1 58 (dk_at dksX0_fewest_2 17 rfl rfl)
theorem dX0_fewest_68 : decode cX0_fewest 68 = .ok (.istore 4, 2) := dk_54 4 (dk_at dksX0_fewest_2 20 rfl rfl)
theorem dX0_fewest_70 : decode cX0_fewest 70 = .ok (.iconst 0, 1) := dk_3 (dk_at dksX0_fewest_2 22 rfl rfl)
theorem dX0_fewest_71 : decode cX0_fewest 71 = .ok (.istore 5, 2) := dk_54 5 (dk_at dksX0_fewest_3 0 rfl rfl)
theorem dX0_fewest_73 : decode cX0_fewest 73 = .ok (.iload 5, 2) := dk_21 5 (dk_at dksX0_fewest_3 2 rfl rfl)
theorem dX0_fewest_75 : decode cX0_fewest 75 = .ok (.iload_n 1, 1) := dk_27 (dk_at dksX0_fewest_3 4 rfl rfl)
theorem dX0_fewest_76 : decode cX0_fewest 76 = .ok (.if_icmp .gt 95, 3) := dk_163 0 95 (dk_at dksX0_fewest_3 5 rfl rfl)
theorem dX0_fewest_79 : decode cX0_fewest 79 = .ok (.aload_n 0, 1) := dk_42 (dk_at dksX0_fewest_3 8 rfl rfl)
theorem dX0_fewest_80 : decode cX0_fewest 80 = .ok (.getfield 80, 3) := dk_180 0 80 (dk_at dksX0_fewest_3 9 rfl rfl)
theorem dX0_fewest_83 : decode cX0_fewest 83 = .ok (.iload_n 3, 1) := dk_29 (dk_at dksX0_fewest_3 12 rfl rfl)
theorem dX0_fewest_84 : decode cX0_fewest 84 = .ok (.aaload, 1) := dk_50 (dk_at dksX0_fewest_3 13 rfl rfl)
theorem dX0_fewest_85 : decode cX0_fewest 85 = .ok (.iload 5, 2) := dk_21 5 (dk_at dksX0_fewest_3 14 rfl rfl)
theorem dX0_fewest_87 : decode cX0_fewest 87 = .ok (.ldc_w 313, 3) := dk_19 1 57 (dk_at dksX0_fewest_3 16 rfl rfl)
theorem dX0_fewest_90 : decode cX0_fewest 90 = .ok (.iastore, 1) := dk_79 (dk_at dksX0_fewest_3 19 rfl rfl)
theorem dX0_fewest_91 : decode cX0_fewest 91 = .ok (.iconst 0, 1) := dk_3 (dk_at dksX0_fewest_3 20 rfl rfl)
theorem dX0_fewest_92 : decode cX0_fewest 92 = .ok (.istore 6, 2) := dk_54 6 (dk_at dksX0_fewest_3 21 rfl rfl)
theorem dX0_fewest_94 : decode cX0_fewest 94 = .ok (.iload 6, 2) := dk_21 6 (dk_at dksX0_fewest_4 0 rfl rfl)
theorem dX0_fewest_96 : decode cX0_fewest 96 = .ok (.aload_n 0, 1) := dk_42 (dk_at dksX0_fewest_4 2 rfl rfl)
theorem dX0_fewest_97 : decode cX0_fewest 97 = .ok (.getfield 48, 3) := dk_180 0 48 (dk_at dksX0_fewest_4 3 rfl rfl)
theorem dX0_fewest_100 : decode cX0_fewest 100 = .ok (.getfield 158, 3) := dk_180 0 158 (dk_at dksX0_fewest_4 6 rfl rfl)
theorem dX0_fewest_103 : decode cX0_fewest 103 = .ok (.iload_n 3, 1) := dk_29 (dk_at dksX0_fewest_4 9 rfl rfl)
theorem dX0_fewest_104 : decode cX0_fewest 104 = .ok (.iaload, 1) := dk_46 (dk_at dksX0_fewest_4 10 rfl rfl)
theorem dX0_fewest_105 : decode cX0_fewest 105 = .ok (.if_icmp .gt 60, 3) := dk_163 0 60 (dk_at dksX0_fewest_4 11 rfl rfl)
theorem dX0_fewest_108 : decode cX0_fewest 108 = .ok (.iload 6, 2) := dk_21 6 (dk_at dksX0_fewest_4 14 rfl rfl)
theorem dX0_fewest_110 : decode cX0_fewest 110 = .ok (.iload 4, 2) := dk_21 4 (dk_at dksX0_fewest_4 16 rfl rfl)
theorem dX0_fewest_112 : decode cX0_fewest 112 = .ok (.imul, 1) := dk_104 (dk_at dksX0_fewest_4 18 rfl rfl)
theorem dX0_fewest_113 : decode cX0_fewest 113 = .ok (.iload 5, 2) := dk_21 5 (dk_at dksX0_fewest_4 19 rfl rfl)
theorem dX0_fewest_115 : decode cX0_fewest 115 = .ok (.if_icmp .gt 50, 3) := dk_163 0 50 (dk_at dksX0_fewest_4 21 rfl rfl)
theorem dX0_fewest_118 : decode cX0_fewest 118 = .ok (.aload_n 0, 1) := dk_42 (dk_at dksX0_fewest_5 0 rfl rfl)
theorem dX0_fewest_119 : decode cX0_fewest 119 = .ok (.getfield 80, 3) := dk_180 0 80 (dk_at dksX0_fewest_5 1 rfl rfl)
theorem dX0_fewest_122 : decode cX0_fewest 122 = .ok (.iload_n 3, 1) := dk_29 (dk_at dksX0_fewest_5 4 rfl rfl)
theorem dX0_fewest_123 : decode cX0_fewest 123 = .ok (.aaload, 1) := dk_50 (dk_at dksX0_fewest_5 5 rfl rfl)
theorem dX0_fewest_124 : decode cX0_fewest 124 = .ok (.iload 5, 2) := dk_21 5 (dk_at dksX0_fewest_5 6 rfl rfl)
theorem dX0_fewest_126 : decode cX0_fewest 126 = .ok (.aload_n 0, 1) := dk_42 (dk_at dksX0_fewest_5 8 rfl rfl)
theorem dX0_fewest_127 : decode cX0_fewest 127 = .ok (.getfield 80, 3) := dk_180 0 80 (dk_at dksX0_fewest_5 9 rfl rfl)
theorem dX0_fewest_130 : decode cX0_fewest 130 = .ok (.iload_n 3, 1) := dk_29 (dk_at dksX0_fewest_5 12 rfl rfl)
theorem dX0_fewest_131 : decode cX0_fewest 131 = .ok (.aaload, 1) := dk_50 (dk_at dksX0_fewest_5 13 rfl rfl)
theorem dX0_fewest_132 : decode cX0_fewest 132 = .ok (.iload 5, 2) := dk_21 5 (dk_at dksX0_fewest_5 14 rfl rfl)
theorem dX0_fewest_134 : decode cX0_fewest 134 = .ok (.iaload, 1) := dk_46 (dk_at dksX0_fewest_5 16 rfl rfl)
theorem dX0_fewest_135 : decode cX0_fewest 135 = .ok (.aload_n 0, 1) := dk_42 (dk_at dksX0_fewest_5 17 rfl rfl)
theorem dX0_fewest_136 : decode cX0_fewest 136 = .ok (.getfield 80, 3) := dk_180 0 80 (dk_at dksX0_fewest_5 18 rfl rfl)
theorem dX0_fewest_139 : decode cX0_fewest 139 = .ok (.iload_n 3, 1) := dk_29 (dk_at dksX0_fewest_5 21 rfl rfl)
theorem dX0_fewest_140 : decode cX0_fewest 140 = .ok (.iconst 1, 1) := dk_4 (dk_at dksX0_fewest_5 22 rfl rfl)
theorem dX0_fewest_141 : decode cX0_fewest 141 = .ok (.iadd, 1) := dk_96 (dk_at dksX0_fewest_5 23 rfl rfl)
theorem dX0_fewest_142 : decode cX0_fewest 142 = .ok (.aaload, 1) := dk_50 (dk_at dksX0_fewest_6 0 rfl rfl)
theorem dX0_fewest_143 : decode cX0_fewest 143 = .ok (.iload 5, 2) := dk_21 5 (dk_at dksX0_fewest_6 1 rfl rfl)
theorem dX0_fewest_145 : decode cX0_fewest 145 = .ok (.iload 6, 2) := dk_21 6 (dk_at dksX0_fewest_6 3 rfl rfl)
theorem dX0_fewest_147 : decode cX0_fewest 147 = .ok (.iload 4, 2) := dk_21 4 (dk_at dksX0_fewest_6 5 rfl rfl)
theorem dX0_fewest_149 : decode cX0_fewest 149 = .ok (.imul, 1) := dk_104 (dk_at dksX0_fewest_6 7 rfl rfl)
theorem dX0_fewest_150 : decode cX0_fewest 150 = .ok (.isub, 1) := dk_100 (dk_at dksX0_fewest_6 8 rfl rfl)
theorem dX0_fewest_151 : decode cX0_fewest 151 = .ok (.iaload, 1) := dk_46 (dk_at dksX0_fewest_6 9 rfl rfl)
theorem dX0_fewest_152 : decode cX0_fewest 152 = .ok (.iload 6, 2) := dk_21 6 (dk_at dksX0_fewest_6 10 rfl rfl)
theorem dX0_fewest_154 : decode cX0_fewest 154 = .ok (.iadd, 1) := dk_96 (dk_at dksX0_fewest_6 12 rfl rfl)
theorem dX0_fewest_155 : decode cX0_fewest 155 = .ok (.invokestatic 7, 3) := dk_184 0 7 (dk_at dksX0_fewest_6 13 rfl rfl)
theorem dX0_fewest_158 : decode cX0_fewest 158 = .ok (.iastore, 1) := dk_79 (dk_at dksX0_fewest_6 16 rfl rfl)
theorem dX0_fewest_159 : decode cX0_fewest 159 = .ok (.iinc 6 1, 3) := dk_132 6 1 (dk_at dksX0_fewest_6 17 rfl rfl)
theorem dX0_fewest_162 : decode cX0_fewest 162 = .ok (.goto (-68), 3) := dk_167 255 188 (dk_at dksX0_fewest_6 20 rfl rfl)
theorem dX0_fewest_165 : decode cX0_fewest 165 = .ok (.iinc 5 1, 3) := dk_132 5 1 (dk_at dksX0_fewest_7 0 rfl rfl)
theorem dX0_fewest_168 : decode cX0_fewest 168 = .ok (.goto (-95), 3) := dk_167 255 161 (dk_at dksX0_fewest_7 3 rfl rfl)
theorem dX0_fewest_171 : decode cX0_fewest 171 = .ok (.iinc 3 (-1), 3) := dk_132 3 255 (dk_at dksX0_fewest_7 6 rfl rfl)
theorem dX0_fewest_174 : decode cX0_fewest 174 = .ok (.goto (-127), 3) := dk_167 255 129 (dk_at dksX0_fewest_7 9 rfl rfl)
theorem dX0_fewest_177 : decode cX0_fewest 177 = .ok (.aload_n 0, 1) := dk_42 (dk_at dksX0_fewest_7 12 rfl rfl)
theorem dX0_fewest_178 : decode cX0_fewest 178 = .ok (.getfield 80, 3) := dk_180 0 80 (dk_at dksX0_fewest_7 13 rfl rfl)
theorem dX0_fewest_181 : decode cX0_fewest 181 = .ok (.iconst 0, 1) := dk_3 (dk_at dksX0_fewest_7 16 rfl rfl)
theorem dX0_fewest_182 : decode cX0_fewest 182 = .ok (.aaload, 1) := dk_50 (dk_at dksX0_fewest_7 17 rfl rfl)
theorem dX0_fewest_183 : decode cX0_fewest 183 = .ok (.iload_n 1, 1) := dk_27 (dk_at dksX0_fewest_7 18 rfl rfl)
theorem dX0_fewest_184 : decode cX0_fewest 184 = .ok (.iaload, 1) := dk_46 (dk_at dksX0_fewest_7 19 rfl rfl)
theorem dX0_fewest_185 : decode cX0_fewest 185 = .ok (.ireturn, 1) := dk_172 (dk_at dksX0_fewest_7 20 rfl rfl)
abbrev cX0_takes : ByteArray := prog_1_method_43_code
def yX0_takes : MethodName := ⟨RX0, "takes", "(II)I"⟩
def dkwX0_takes_3 : List UInt8 := [21, 4, 172]
abbrev dktX0_takes_3 : List UInt8 := dkwX0_takes_3 ++ []
def dkwX0_takes_2 : List UInt8 := [29, 104, 100, 46, 21, 4, 96, 42, 180, 0, 80, 27, 50, 28, 46, 159, 0, 9, 132, 4, 255, 167, 255, 224]
abbrev dktX0_takes_2 : List UInt8 := dkwX0_takes_2 ++ dktX0_takes_3
def dkwX0_takes_1 : List UInt8 := [180, 0, 158, 27, 46, 28, 29, 108, 184, 0, 7, 54, 4, 42, 180, 0, 80, 27, 4, 96, 50, 28, 21, 4]
abbrev dktX0_takes_1 : List UInt8 := dkwX0_takes_1 ++ dktX0_takes_2
def dkwX0_takes_0 : List UInt8 := [42, 180, 0, 41, 180, 0, 155, 27, 182, 0, 140, 192, 0, 161, 180, 1, 58, 62, 42, 180, 0, 48]
abbrev dktX0_takes_0 : List UInt8 := dkwX0_takes_0 ++ dktX0_takes_1
theorem dksX0_takes_0 : cX0_takes.data.toList.drop 0 = dktX0_takes_0 := by decide +kernel
theorem dksX0_takes_1 : cX0_takes.data.toList.drop 22 = dktX0_takes_1 := dk_seg dksX0_takes_0 22 rfl rfl
theorem dksX0_takes_2 : cX0_takes.data.toList.drop 46 = dktX0_takes_2 := dk_seg dksX0_takes_1 24 rfl rfl
theorem dksX0_takes_3 : cX0_takes.data.toList.drop 70 = dktX0_takes_3 := dk_seg dksX0_takes_2 24 rfl rfl
theorem dX0_takes_0 : decode cX0_takes 0 = .ok (.aload_n 0, 1) := dk_42 (dk_at dksX0_takes_0 0 rfl rfl)
theorem dX0_takes_1 : decode cX0_takes 1 = .ok (.getfield 41, 3) := dk_180 0 41 (dk_at dksX0_takes_0 1 rfl rfl)
theorem dX0_takes_4 : decode cX0_takes 4 = .ok (.getfield 155, 3) := dk_180 0 155 (dk_at dksX0_takes_0 4 rfl rfl)
theorem dX0_takes_7 : decode cX0_takes 7 = .ok (.iload_n 1, 1) := dk_27 (dk_at dksX0_takes_0 7 rfl rfl)
theorem dX0_takes_8 : decode cX0_takes 8 = .ok (.invokevirtual 140, 3) := dk_182 0 140 (dk_at dksX0_takes_0 8 rfl rfl)
theorem dX0_takes_11 : decode cX0_takes 11 = .ok (.checkcast 161, 3) := dk_192 0 161 (dk_at dksX0_takes_0 11 rfl rfl)
theorem dX0_takes_14 : decode cX0_takes 14 = .ok (.getfield 314, 3) := dk_180 1 58 (dk_at dksX0_takes_0 14 rfl rfl)
theorem dX0_takes_17 : decode cX0_takes 17 = .ok (.istore_n 3, 1) := dk_62 (dk_at dksX0_takes_0 17 rfl rfl)
theorem dX0_takes_18 : decode cX0_takes 18 = .ok (.aload_n 0, 1) := dk_42 (dk_at dksX0_takes_0 18 rfl rfl)
theorem dX0_takes_19 : decode cX0_takes 19 = .ok (.getfield 48, 3) := dk_180 0 48 (dk_at dksX0_takes_0 19 rfl rfl)
theorem dX0_takes_22 : decode cX0_takes 22 = .ok (.getfield 158, 3) := dk_180 0 158 (dk_at dksX0_takes_1 0 rfl rfl)
theorem dX0_takes_25 : decode cX0_takes 25 = .ok (.iload_n 1, 1) := dk_27 (dk_at dksX0_takes_1 3 rfl rfl)
theorem dX0_takes_26 : decode cX0_takes 26 = .ok (.iaload, 1) := dk_46 (dk_at dksX0_takes_1 4 rfl rfl)
theorem dX0_takes_27 : decode cX0_takes 27 = .ok (.iload_n 2, 1) := dk_28 (dk_at dksX0_takes_1 5 rfl rfl)
theorem dX0_takes_28 : decode cX0_takes 28 = .ok (.iload_n 3, 1) := dk_29 (dk_at dksX0_takes_1 6 rfl rfl)
theorem dX0_takes_29 : decode cX0_takes 29 = .ok (.idiv, 1) := dk_108 (dk_at dksX0_takes_1 7 rfl rfl)
theorem dX0_takes_30 : decode cX0_takes 30 = .ok (.invokestatic 7, 3) := dk_184 0 7 (dk_at dksX0_takes_1 8 rfl rfl)
theorem dX0_takes_33 : decode cX0_takes 33 = .ok (.istore 4, 2) := dk_54 4 (dk_at dksX0_takes_1 11 rfl rfl)
theorem dX0_takes_35 : decode cX0_takes 35 = .ok (.aload_n 0, 1) := dk_42 (dk_at dksX0_takes_1 13 rfl rfl)
theorem dX0_takes_36 : decode cX0_takes 36 = .ok (.getfield 80, 3) := dk_180 0 80 (dk_at dksX0_takes_1 14 rfl rfl)
theorem dX0_takes_39 : decode cX0_takes 39 = .ok (.iload_n 1, 1) := dk_27 (dk_at dksX0_takes_1 17 rfl rfl)
theorem dX0_takes_40 : decode cX0_takes 40 = .ok (.iconst 1, 1) := dk_4 (dk_at dksX0_takes_1 18 rfl rfl)
theorem dX0_takes_41 : decode cX0_takes 41 = .ok (.iadd, 1) := dk_96 (dk_at dksX0_takes_1 19 rfl rfl)
theorem dX0_takes_42 : decode cX0_takes 42 = .ok (.aaload, 1) := dk_50 (dk_at dksX0_takes_1 20 rfl rfl)
theorem dX0_takes_43 : decode cX0_takes 43 = .ok (.iload_n 2, 1) := dk_28 (dk_at dksX0_takes_1 21 rfl rfl)
theorem dX0_takes_44 : decode cX0_takes 44 = .ok (.iload 4, 2) := dk_21 4 (dk_at dksX0_takes_1 22 rfl rfl)
theorem dX0_takes_46 : decode cX0_takes 46 = .ok (.iload_n 3, 1) := dk_29 (dk_at dksX0_takes_2 0 rfl rfl)
theorem dX0_takes_47 : decode cX0_takes 47 = .ok (.imul, 1) := dk_104 (dk_at dksX0_takes_2 1 rfl rfl)
theorem dX0_takes_48 : decode cX0_takes 48 = .ok (.isub, 1) := dk_100 (dk_at dksX0_takes_2 2 rfl rfl)
theorem dX0_takes_49 : decode cX0_takes 49 = .ok (.iaload, 1) := dk_46 (dk_at dksX0_takes_2 3 rfl rfl)
theorem dX0_takes_50 : decode cX0_takes 50 = .ok (.iload 4, 2) := dk_21 4 (dk_at dksX0_takes_2 4 rfl rfl)
theorem dX0_takes_52 : decode cX0_takes 52 = .ok (.iadd, 1) := dk_96 (dk_at dksX0_takes_2 6 rfl rfl)
theorem dX0_takes_53 : decode cX0_takes 53 = .ok (.aload_n 0, 1) := dk_42 (dk_at dksX0_takes_2 7 rfl rfl)
theorem dX0_takes_54 : decode cX0_takes 54 = .ok (.getfield 80, 3) := dk_180 0 80 (dk_at dksX0_takes_2 8 rfl rfl)
theorem dX0_takes_57 : decode cX0_takes 57 = .ok (.iload_n 1, 1) := dk_27 (dk_at dksX0_takes_2 11 rfl rfl)
theorem dX0_takes_58 : decode cX0_takes 58 = .ok (.aaload, 1) := dk_50 (dk_at dksX0_takes_2 12 rfl rfl)
theorem dX0_takes_59 : decode cX0_takes 59 = .ok (.iload_n 2, 1) := dk_28 (dk_at dksX0_takes_2 13 rfl rfl)
theorem dX0_takes_60 : decode cX0_takes 60 = .ok (.iaload, 1) := dk_46 (dk_at dksX0_takes_2 14 rfl rfl)
theorem dX0_takes_61 : decode cX0_takes 61 = .ok (.if_icmp .eq 9, 3) := dk_159 0 9 (dk_at dksX0_takes_2 15 rfl rfl)
theorem dX0_takes_64 : decode cX0_takes 64 = .ok (.iinc 4 (-1), 3) := dk_132 4 255 (dk_at dksX0_takes_2 18 rfl rfl)
theorem dX0_takes_67 : decode cX0_takes 67 = .ok (.goto (-32), 3) := dk_167 255 224 (dk_at dksX0_takes_2 21 rfl rfl)
theorem dX0_takes_70 : decode cX0_takes 70 = .ok (.iload 4, 2) := dk_21 4 (dk_at dksX0_takes_3 0 rfl rfl)
theorem dX0_takes_72 : decode cX0_takes 72 = .ok (.ireturn, 1) := dk_172 (dk_at dksX0_takes_3 2 rfl rfl)
abbrev cX0_work : ByteArray := prog_1_method_45_code
def yX0_work : MethodName := ⟨RX0, "work", "(III)I"⟩
def dkwX0_work_3 : List UInt8 := [182, 1, 75, 87, 42, 180, 0, 48, 180, 1, 67, 182, 0, 131, 4, 100, 172]
abbrev dktX0_work_3 : List UInt8 := dkwX0_work_3 ++ []
def dkwX0_work_2 : List UInt8 := [154, 0, 5, 2, 172, 42, 180, 0, 48, 180, 1, 67, 187, 1, 70, 89, 27, 28, 29, 183, 1, 72]
abbrev dktX0_work_2 : List UInt8 := dkwX0_work_2 ++ dktX0_work_3
def dkwX0_work_1 : List UInt8 := [153, 0, 26, 42, 28, 182, 0, 210, 153, 0, 18, 29, 153, 0, 14, 29, 16, 157, 16, 99, 184, 0, 174]
abbrev dktX0_work_1 : List UInt8 := dkwX0_work_1 ++ dktX0_work_2
def dkwX0_work_0 : List UInt8 := [42, 180, 0, 48, 180, 1, 67, 182, 0, 131, 16, 40, 159, 0, 36, 27, 3, 16, 99, 184, 0, 174]
abbrev dktX0_work_0 : List UInt8 := dkwX0_work_0 ++ dktX0_work_1
theorem dksX0_work_0 : cX0_work.data.toList.drop 0 = dktX0_work_0 := by decide +kernel
theorem dksX0_work_1 : cX0_work.data.toList.drop 22 = dktX0_work_1 := dk_seg dksX0_work_0 22 rfl rfl
theorem dksX0_work_2 : cX0_work.data.toList.drop 45 = dktX0_work_2 := dk_seg dksX0_work_1 23 rfl rfl
theorem dksX0_work_3 : cX0_work.data.toList.drop 67 = dktX0_work_3 := dk_seg dksX0_work_2 22 rfl rfl
theorem dX0_work_0 : decode cX0_work 0 = .ok (.aload_n 0, 1) := dk_42 (dk_at dksX0_work_0 0 rfl rfl)
theorem dX0_work_1 : decode cX0_work 1 = .ok (.getfield 48, 3) := dk_180 0 48 (dk_at dksX0_work_0 1 rfl rfl)
theorem dX0_work_4 : decode cX0_work 4 = .ok (.getfield 323, 3) := dk_180 1 67 (dk_at dksX0_work_0 4 rfl rfl)
theorem dX0_work_7 : decode cX0_work 7 = .ok (.invokevirtual 131, 3) := dk_182 0 131 (dk_at dksX0_work_0 7 rfl rfl)
theorem dX0_work_10 : decode cX0_work 10 = .ok (.bipush 40, 2) := dk_16 40 (dk_at dksX0_work_0 10 rfl rfl)
theorem dX0_work_12 : decode cX0_work 12 = .ok (.if_icmp .eq 36, 3) := dk_159 0 36 (dk_at dksX0_work_0 12 rfl rfl)
theorem dX0_work_15 : decode cX0_work 15 = .ok (.iload_n 1, 1) := dk_27 (dk_at dksX0_work_0 15 rfl rfl)
theorem dX0_work_16 : decode cX0_work 16 = .ok (.iconst 0, 1) := dk_3 (dk_at dksX0_work_0 16 rfl rfl)
theorem dX0_work_17 : decode cX0_work 17 = .ok (.bipush 99, 2) := dk_16 99 (dk_at dksX0_work_0 17 rfl rfl)
theorem dX0_work_19 : decode cX0_work 19 = .ok (.invokestatic 174, 3) := dk_184 0 174 (dk_at dksX0_work_0 19 rfl rfl)
theorem dX0_work_22 : decode cX0_work 22 = .ok (.ifCond .eq 26, 3) := dk_153 0 26 (dk_at dksX0_work_1 0 rfl rfl)
theorem dX0_work_25 : decode cX0_work 25 = .ok (.aload_n 0, 1) := dk_42 (dk_at dksX0_work_1 3 rfl rfl)
theorem dX0_work_26 : decode cX0_work 26 = .ok (.iload_n 2, 1) := dk_28 (dk_at dksX0_work_1 4 rfl rfl)
theorem dX0_work_27 : decode cX0_work 27 = .ok (.invokevirtual 210, 3) := dk_182 0 210 (dk_at dksX0_work_1 5 rfl rfl)
theorem dX0_work_30 : decode cX0_work 30 = .ok (.ifCond .eq 18, 3) := dk_153 0 18 (dk_at dksX0_work_1 8 rfl rfl)
theorem dX0_work_33 : decode cX0_work 33 = .ok (.iload_n 3, 1) := dk_29 (dk_at dksX0_work_1 11 rfl rfl)
theorem dX0_work_34 : decode cX0_work 34 = .ok (.ifCond .eq 14, 3) := dk_153 0 14 (dk_at dksX0_work_1 12 rfl rfl)
theorem dX0_work_37 : decode cX0_work 37 = .ok (.iload_n 3, 1) := dk_29 (dk_at dksX0_work_1 15 rfl rfl)
theorem dX0_work_38 : decode cX0_work 38 = .ok (.bipush (-99), 2) := dk_16 157 (dk_at dksX0_work_1 16 rfl rfl)
theorem dX0_work_40 : decode cX0_work 40 = .ok (.bipush 99, 2) := dk_16 99 (dk_at dksX0_work_1 18 rfl rfl)
theorem dX0_work_42 : decode cX0_work 42 = .ok (.invokestatic 174, 3) := dk_184 0 174 (dk_at dksX0_work_1 20 rfl rfl)
theorem dX0_work_45 : decode cX0_work 45 = .ok (.ifCond .ne 5, 3) := dk_154 0 5 (dk_at dksX0_work_2 0 rfl rfl)
theorem dX0_work_48 : decode cX0_work 48 = .ok (.iconst (-1), 1) := dk_2 (dk_at dksX0_work_2 3 rfl rfl)
theorem dX0_work_49 : decode cX0_work 49 = .ok (.ireturn, 1) := dk_172 (dk_at dksX0_work_2 4 rfl rfl)
theorem dX0_work_50 : decode cX0_work 50 = .ok (.aload_n 0, 1) := dk_42 (dk_at dksX0_work_2 5 rfl rfl)
theorem dX0_work_51 : decode cX0_work 51 = .ok (.getfield 48, 3) := dk_180 0 48 (dk_at dksX0_work_2 6 rfl rfl)
theorem dX0_work_54 : decode cX0_work 54 = .ok (.getfield 323, 3) := dk_180 1 67 (dk_at dksX0_work_2 9 rfl rfl)
theorem dX0_work_57 : decode cX0_work 57 = .ok (.new 326, 3) := dk_187 1 70 (dk_at dksX0_work_2 12 rfl rfl)
theorem dX0_work_60 : decode cX0_work 60 = .ok (.dup, 1) := dk_89 (dk_at dksX0_work_2 15 rfl rfl)
theorem dX0_work_61 : decode cX0_work 61 = .ok (.iload_n 1, 1) := dk_27 (dk_at dksX0_work_2 16 rfl rfl)
theorem dX0_work_62 : decode cX0_work 62 = .ok (.iload_n 2, 1) := dk_28 (dk_at dksX0_work_2 17 rfl rfl)
theorem dX0_work_63 : decode cX0_work 63 = .ok (.iload_n 3, 1) := dk_29 (dk_at dksX0_work_2 18 rfl rfl)
theorem dX0_work_64 : decode cX0_work 64 = .ok (.invokespecial 328, 3) := dk_183 1 72 (dk_at dksX0_work_2 19 rfl rfl)
theorem dX0_work_67 : decode cX0_work 67 = .ok (.invokevirtual 331, 3) := dk_182 1 75 (dk_at dksX0_work_3 0 rfl rfl)
theorem dX0_work_70 : decode cX0_work 70 = .ok (.pop, 1) := dk_87 (dk_at dksX0_work_3 3 rfl rfl)
theorem dX0_work_71 : decode cX0_work 71 = .ok (.aload_n 0, 1) := dk_42 (dk_at dksX0_work_3 4 rfl rfl)
theorem dX0_work_72 : decode cX0_work 72 = .ok (.getfield 48, 3) := dk_180 0 48 (dk_at dksX0_work_3 5 rfl rfl)
theorem dX0_work_75 : decode cX0_work 75 = .ok (.getfield 323, 3) := dk_180 1 67 (dk_at dksX0_work_3 8 rfl rfl)
theorem dX0_work_78 : decode cX0_work 78 = .ok (.invokevirtual 131, 3) := dk_182 0 131 (dk_at dksX0_work_3 11 rfl rfl)
theorem dX0_work_81 : decode cX0_work 81 = .ok (.iconst 1, 1) := dk_4 (dk_at dksX0_work_3 14 rfl rfl)
theorem dX0_work_82 : decode cX0_work 82 = .ok (.isub, 1) := dk_100 (dk_at dksX0_work_3 15 rfl rfl)
theorem dX0_work_83 : decode cX0_work 83 = .ok (.ireturn, 1) := dk_172 (dk_at dksX0_work_3 16 rfl rfl)
abbrev cX0_forget : ByteArray := prog_1_method_46_code
def yX0_forget : MethodName := ⟨RX0, "forget", "()I"⟩
def dkwX0_forget_0 : List UInt8 := [42, 180, 0, 48, 180, 1, 67, 182, 0, 131, 60, 42, 180, 0, 48, 180, 1, 67, 182, 1, 79, 27, 172]
abbrev dktX0_forget_0 : List UInt8 := dkwX0_forget_0 ++ []
theorem dksX0_forget_0 : cX0_forget.data.toList.drop 0 = dktX0_forget_0 := by decide +kernel
theorem dX0_forget_0 : decode cX0_forget 0 = .ok (.aload_n 0, 1) := dk_42 (dk_at dksX0_forget_0 0 rfl rfl)
theorem dX0_forget_1 : decode cX0_forget 1 = .ok (.getfield 48, 3) := dk_180 0 48 (dk_at dksX0_forget_0 1 rfl rfl)
theorem dX0_forget_4 : decode cX0_forget 4 = .ok (.getfield 323, 3) := dk_180 1 67 (dk_at dksX0_forget_0 4 rfl rfl)
theorem dX0_forget_7 : decode cX0_forget 7 = .ok (.invokevirtual 131, 3) := dk_182 0 131 (dk_at dksX0_forget_0 7 rfl rfl)
theorem dX0_forget_10 : decode cX0_forget 10 = .ok (.istore_n 1, 1) := dk_60 (dk_at dksX0_forget_0 10 rfl rfl)
theorem dX0_forget_11 : decode cX0_forget 11 = .ok (.aload_n 0, 1) := dk_42 (dk_at dksX0_forget_0 11 rfl rfl)
theorem dX0_forget_12 : decode cX0_forget 12 = .ok (.getfield 48, 3) := dk_180 0 48 (dk_at dksX0_forget_0 12 rfl rfl)
theorem dX0_forget_15 : decode cX0_forget 15 = .ok (.getfield 323, 3) := dk_180 1 67 (dk_at dksX0_forget_0 15 rfl rfl)
theorem dX0_forget_18 : decode cX0_forget 18 = .ok (.invokevirtual 335, 3) := dk_182 1 79 (dk_at dksX0_forget_0 18 rfl rfl)
theorem dX0_forget_21 : decode cX0_forget 21 = .ok (.iload_n 1, 1) := dk_27 (dk_at dksX0_forget_0 21 rfl rfl)
theorem dX0_forget_22 : decode cX0_forget 22 = .ok (.ireturn, 1) := dk_172 (dk_at dksX0_forget_0 22 rfl rfl)
abbrev cX0_judge : ByteArray := prog_1_method_50_code
def yX0_judge : MethodName := ⟨RX0, "judge", "()I"⟩
def dkwX0_judge_1 : List UInt8 := [182, 1, 111, 27, 172]
abbrev dktX0_judge_1 : List UInt8 := dkwX0_judge_1 ++ []
def dkwX0_judge_0 : List UInt8 := [42, 180, 0, 66, 42, 180, 0, 48, 182, 1, 105, 42, 182, 1, 109, 60, 42, 180, 0, 66, 42, 180, 0, 48]
abbrev dktX0_judge_0 : List UInt8 := dkwX0_judge_0 ++ dktX0_judge_1
theorem dksX0_judge_0 : cX0_judge.data.toList.drop 0 = dktX0_judge_0 := by decide +kernel
theorem dksX0_judge_1 : cX0_judge.data.toList.drop 24 = dktX0_judge_1 := dk_seg dksX0_judge_0 24 rfl rfl
theorem dX0_judge_0 : decode cX0_judge 0 = .ok (.aload_n 0, 1) := dk_42 (dk_at dksX0_judge_0 0 rfl rfl)
theorem dX0_judge_1 : decode cX0_judge 1 = .ok (.getfield 66, 3) := dk_180 0 66 (dk_at dksX0_judge_0 1 rfl rfl)
theorem dX0_judge_4 : decode cX0_judge 4 = .ok (.aload_n 0, 1) := dk_42 (dk_at dksX0_judge_0 4 rfl rfl)
theorem dX0_judge_5 : decode cX0_judge 5 = .ok (.getfield 48, 3) := dk_180 0 48 (dk_at dksX0_judge_0 5 rfl rfl)
theorem dX0_judge_8 : decode cX0_judge 8 = .ok (.invokevirtual 361, 3) := dk_182 1 105 (dk_at dksX0_judge_0 8 rfl rfl)
theorem dX0_judge_11 : decode cX0_judge 11 = .ok (.aload_n 0, 1) := dk_42 (dk_at dksX0_judge_0 11 rfl rfl)
theorem dX0_judge_12 : decode cX0_judge 12 = .ok (.invokevirtual 365, 3) := dk_182 1 109 (dk_at dksX0_judge_0 12 rfl rfl)
theorem dX0_judge_15 : decode cX0_judge 15 = .ok (.istore_n 1, 1) := dk_60 (dk_at dksX0_judge_0 15 rfl rfl)
theorem dX0_judge_16 : decode cX0_judge 16 = .ok (.aload_n 0, 1) := dk_42 (dk_at dksX0_judge_0 16 rfl rfl)
theorem dX0_judge_17 : decode cX0_judge 17 = .ok (.getfield 66, 3) := dk_180 0 66 (dk_at dksX0_judge_0 17 rfl rfl)
theorem dX0_judge_20 : decode cX0_judge 20 = .ok (.aload_n 0, 1) := dk_42 (dk_at dksX0_judge_0 20 rfl rfl)
theorem dX0_judge_21 : decode cX0_judge 21 = .ok (.getfield 48, 3) := dk_180 0 48 (dk_at dksX0_judge_0 21 rfl rfl)
theorem dX0_judge_24 : decode cX0_judge 24 = .ok (.invokevirtual 367, 3) := dk_182 1 111 (dk_at dksX0_judge_1 0 rfl rfl)
theorem dX0_judge_27 : decode cX0_judge 27 = .ok (.iload_n 1, 1) := dk_27 (dk_at dksX0_judge_1 3 rfl rfl)
theorem dX0_judge_28 : decode cX0_judge 28 = .ok (.ireturn, 1) := dk_172 (dk_at dksX0_judge_1 4 rfl rfl)
abbrev cX0_works : ByteArray := prog_1_method_49_code
def yX0_works : MethodName := ⟨RX0, "works", "()I"⟩
def dkwX0_works_6 : List UInt8 := [96, 172, 132, 1, 1, 167, 255, 119, 3, 172]
abbrev dktX0_works_6 : List UInt8 := dkwX0_works_6 ++ []
def dkwX0_works_5 : List UInt8 := [29, 2, 159, 0, 24, 21, 4, 42, 16, 12, 182, 1, 18, 2, 130, 126, 153, 0, 10, 16, 10, 29, 104, 8]
abbrev dktX0_works_5 : List UInt8 := dkwX0_works_5 ++ dktX0_works_6
def dkwX0_works_4 : List UInt8 := [158, 0, 12, 16, 10, 21, 5, 104, 21, 7, 96, 172, 132, 2, 1, 21, 5, 62, 132, 5, 1, 167, 255, 167]
abbrev dktX0_works_4 : List UInt8 := dkwX0_works_4 ++ dktX0_works_5
def dkwX0_works_3 : List UInt8 := [160, 0, 11, 42, 16, 12, 182, 1, 18, 54, 4, 42, 25, 6, 28, 182, 1, 101, 54, 7, 21, 7]
abbrev dktX0_works_3 : List UInt8 := dkwX0_works_3 ++ dktX0_works_4
def dkwX0_works_2 : List UInt8 := [182, 0, 140, 192, 1, 70, 58, 6, 25, 6, 180, 1, 98, 27, 159, 0, 6, 167, 0, 45, 29, 2]
abbrev dktX0_works_2 : List UInt8 := dkwX0_works_2 ++ dktX0_works_3
def dkwX0_works_1 : List UInt8 := [21, 5, 42, 180, 0, 48, 180, 1, 67, 182, 0, 131, 162, 0, 80, 42, 180, 0, 48, 180, 1, 67, 21, 5]
abbrev dktX0_works_1 : List UInt8 := dkwX0_works_1 ++ dktX0_works_2
def dkwX0_works_0 : List UInt8 := [42, 3, 181, 1, 92, 3, 60, 27, 16, 100, 162, 0, 137, 3, 61, 2, 62, 3, 54, 4, 3, 54, 5]
abbrev dktX0_works_0 : List UInt8 := dkwX0_works_0 ++ dktX0_works_1
theorem dksX0_works_0 : cX0_works.data.toList.drop 0 = dktX0_works_0 := by decide +kernel
theorem dksX0_works_1 : cX0_works.data.toList.drop 23 = dktX0_works_1 := dk_seg dksX0_works_0 23 rfl rfl
theorem dksX0_works_2 : cX0_works.data.toList.drop 47 = dktX0_works_2 := dk_seg dksX0_works_1 24 rfl rfl
theorem dksX0_works_3 : cX0_works.data.toList.drop 69 = dktX0_works_3 := dk_seg dksX0_works_2 22 rfl rfl
theorem dksX0_works_4 : cX0_works.data.toList.drop 91 = dktX0_works_4 := dk_seg dksX0_works_3 22 rfl rfl
theorem dksX0_works_5 : cX0_works.data.toList.drop 115 = dktX0_works_5 := dk_seg dksX0_works_4 24 rfl rfl
theorem dksX0_works_6 : cX0_works.data.toList.drop 139 = dktX0_works_6 := dk_seg dksX0_works_5 24 rfl rfl
theorem dX0_works_0 : decode cX0_works 0 = .ok (.aload_n 0, 1) := dk_42 (dk_at dksX0_works_0 0 rfl rfl)
theorem dX0_works_1 : decode cX0_works 1 = .ok (.iconst 0, 1) := dk_3 (dk_at dksX0_works_0 1 rfl rfl)
theorem dX0_works_2 : decode cX0_works 2 = .ok (.putfield 348, 3) := dk_181 1 92 (dk_at dksX0_works_0 2 rfl rfl)
theorem dX0_works_5 : decode cX0_works 5 = .ok (.iconst 0, 1) := dk_3 (dk_at dksX0_works_0 5 rfl rfl)
theorem dX0_works_6 : decode cX0_works 6 = .ok (.istore_n 1, 1) := dk_60 (dk_at dksX0_works_0 6 rfl rfl)
theorem dX0_works_7 : decode cX0_works 7 = .ok (.iload_n 1, 1) := dk_27 (dk_at dksX0_works_0 7 rfl rfl)
theorem dX0_works_8 : decode cX0_works 8 = .ok (.bipush 100, 2) := dk_16 100 (dk_at dksX0_works_0 8 rfl rfl)
theorem dX0_works_10 : decode cX0_works 10 = .ok (.if_icmp .ge 137, 3) := dk_162 0 137 (dk_at dksX0_works_0 10 rfl rfl)
theorem dX0_works_13 : decode cX0_works 13 = .ok (.iconst 0, 1) := dk_3 (dk_at dksX0_works_0 13 rfl rfl)
theorem dX0_works_14 : decode cX0_works 14 = .ok (.istore_n 2, 1) := dk_61 (dk_at dksX0_works_0 14 rfl rfl)
theorem dX0_works_15 : decode cX0_works 15 = .ok (.iconst (-1), 1) := dk_2 (dk_at dksX0_works_0 15 rfl rfl)
theorem dX0_works_16 : decode cX0_works 16 = .ok (.istore_n 3, 1) := dk_62 (dk_at dksX0_works_0 16 rfl rfl)
theorem dX0_works_17 : decode cX0_works 17 = .ok (.iconst 0, 1) := dk_3 (dk_at dksX0_works_0 17 rfl rfl)
theorem dX0_works_18 : decode cX0_works 18 = .ok (.istore 4, 2) := dk_54 4 (dk_at dksX0_works_0 18 rfl rfl)
theorem dX0_works_20 : decode cX0_works 20 = .ok (.iconst 0, 1) := dk_3 (dk_at dksX0_works_0 20 rfl rfl)
theorem dX0_works_21 : decode cX0_works 21 = .ok (.istore 5, 2) := dk_54 5 (dk_at dksX0_works_0 21 rfl rfl)
theorem dX0_works_23 : decode cX0_works 23 = .ok (.iload 5, 2) := dk_21 5 (dk_at dksX0_works_1 0 rfl rfl)
theorem dX0_works_25 : decode cX0_works 25 = .ok (.aload_n 0, 1) := dk_42 (dk_at dksX0_works_1 2 rfl rfl)
theorem dX0_works_26 : decode cX0_works 26 = .ok (.getfield 48, 3) := dk_180 0 48 (dk_at dksX0_works_1 3 rfl rfl)
theorem dX0_works_29 : decode cX0_works 29 = .ok (.getfield 323, 3) := dk_180 1 67 (dk_at dksX0_works_1 6 rfl rfl)
theorem dX0_works_32 : decode cX0_works 32 = .ok (.invokevirtual 131, 3) := dk_182 0 131 (dk_at dksX0_works_1 9 rfl rfl)
theorem dX0_works_35 : decode cX0_works 35 = .ok (.if_icmp .ge 80, 3) := dk_162 0 80 (dk_at dksX0_works_1 12 rfl rfl)
theorem dX0_works_38 : decode cX0_works 38 = .ok (.aload_n 0, 1) := dk_42 (dk_at dksX0_works_1 15 rfl rfl)
theorem dX0_works_39 : decode cX0_works 39 = .ok (.getfield 48, 3) := dk_180 0 48 (dk_at dksX0_works_1 16 rfl rfl)
theorem dX0_works_42 : decode cX0_works 42 = .ok (.getfield 323, 3) := dk_180 1 67 (dk_at dksX0_works_1 19 rfl rfl)
theorem dX0_works_45 : decode cX0_works 45 = .ok (.iload 5, 2) := dk_21 5 (dk_at dksX0_works_1 22 rfl rfl)
theorem dX0_works_47 : decode cX0_works 47 = .ok (.invokevirtual 140, 3) := dk_182 0 140 (dk_at dksX0_works_2 0 rfl rfl)
theorem dX0_works_50 : decode cX0_works 50 = .ok (.checkcast 326, 3) := dk_192 1 70 (dk_at dksX0_works_2 3 rfl rfl)
theorem dX0_works_53 : decode cX0_works 53 = .ok (.astore 6, 2) := dk_58 6 (dk_at dksX0_works_2 6 rfl rfl)
theorem dX0_works_55 : decode cX0_works 55 = .ok (.aload 6, 2) := dk_25 6 (dk_at dksX0_works_2 8 rfl rfl)
theorem dX0_works_57 : decode cX0_works 57 = .ok (.getfield 354, 3) := dk_180 1 98 (dk_at dksX0_works_2 10 rfl rfl)
theorem dX0_works_60 : decode cX0_works 60 = .ok (.iload_n 1, 1) := dk_27 (dk_at dksX0_works_2 13 rfl rfl)
theorem dX0_works_61 : decode cX0_works 61 = .ok (.if_icmp .eq 6, 3) := dk_159 0 6 (dk_at dksX0_works_2 14 rfl rfl)
theorem dX0_works_64 : decode cX0_works 64 = .ok (.goto 45, 3) := dk_167 0 45 (dk_at dksX0_works_2 17 rfl rfl)
theorem dX0_works_67 : decode cX0_works 67 = .ok (.iload_n 3, 1) := dk_29 (dk_at dksX0_works_2 20 rfl rfl)
theorem dX0_works_68 : decode cX0_works 68 = .ok (.iconst (-1), 1) := dk_2 (dk_at dksX0_works_2 21 rfl rfl)
theorem dX0_works_69 : decode cX0_works 69 = .ok (.if_icmp .ne 11, 3) := dk_160 0 11 (dk_at dksX0_works_3 0 rfl rfl)
theorem dX0_works_72 : decode cX0_works 72 = .ok (.aload_n 0, 1) := dk_42 (dk_at dksX0_works_3 3 rfl rfl)
theorem dX0_works_73 : decode cX0_works 73 = .ok (.bipush 12, 2) := dk_16 12 (dk_at dksX0_works_3 4 rfl rfl)
theorem dX0_works_75 : decode cX0_works 75 = .ok (.invokevirtual 274, 3) := dk_182 1 18 (dk_at dksX0_works_3 6 rfl rfl)
theorem dX0_works_78 : decode cX0_works 78 = .ok (.istore 4, 2) := dk_54 4 (dk_at dksX0_works_3 9 rfl rfl)
theorem dX0_works_80 : decode cX0_works 80 = .ok (.aload_n 0, 1) := dk_42 (dk_at dksX0_works_3 11 rfl rfl)
theorem dX0_works_81 : decode cX0_works 81 = .ok (.aload 6, 2) := dk_25 6 (dk_at dksX0_works_3 12 rfl rfl)
theorem dX0_works_83 : decode cX0_works 83 = .ok (.iload_n 2, 1) := dk_28 (dk_at dksX0_works_3 14 rfl rfl)
theorem dX0_works_84 : decode cX0_works 84 = .ok (.invokevirtual 357, 3) := dk_182 1 101 (dk_at dksX0_works_3 15 rfl rfl)
theorem dX0_works_87 : decode cX0_works 87 = .ok (.istore 7, 2) := dk_54 7 (dk_at dksX0_works_3 18 rfl rfl)
theorem dX0_works_89 : decode cX0_works 89 = .ok (.iload 7, 2) := dk_21 7 (dk_at dksX0_works_3 20 rfl rfl)
theorem dX0_works_91 : decode cX0_works 91 = .ok (.ifCond .le 12, 3) := dk_158 0 12 (dk_at dksX0_works_4 0 rfl rfl)
theorem dX0_works_94 : decode cX0_works 94 = .ok (.bipush 10, 2) := dk_16 10 (dk_at dksX0_works_4 3 rfl rfl)
theorem dX0_works_96 : decode cX0_works 96 = .ok (.iload 5, 2) := dk_21 5 (dk_at dksX0_works_4 5 rfl rfl)
theorem dX0_works_98 : decode cX0_works 98 = .ok (.imul, 1) := dk_104 (dk_at dksX0_works_4 7 rfl rfl)
theorem dX0_works_99 : decode cX0_works 99 = .ok (.iload 7, 2) := dk_21 7 (dk_at dksX0_works_4 8 rfl rfl)
theorem dX0_works_101 : decode cX0_works 101 = .ok (.iadd, 1) := dk_96 (dk_at dksX0_works_4 10 rfl rfl)
theorem dX0_works_102 : decode cX0_works 102 = .ok (.ireturn, 1) := dk_172 (dk_at dksX0_works_4 11 rfl rfl)
theorem dX0_works_103 : decode cX0_works 103 = .ok (.iinc 2 1, 3) := dk_132 2 1 (dk_at dksX0_works_4 12 rfl rfl)
theorem dX0_works_106 : decode cX0_works 106 = .ok (.iload 5, 2) := dk_21 5 (dk_at dksX0_works_4 15 rfl rfl)
theorem dX0_works_108 : decode cX0_works 108 = .ok (.istore_n 3, 1) := dk_62 (dk_at dksX0_works_4 17 rfl rfl)
theorem dX0_works_109 : decode cX0_works 109 = .ok (.iinc 5 1, 3) := dk_132 5 1 (dk_at dksX0_works_4 18 rfl rfl)
theorem dX0_works_112 : decode cX0_works 112 = .ok (.goto (-89), 3) := dk_167 255 167 (dk_at dksX0_works_4 21 rfl rfl)
theorem dX0_works_115 : decode cX0_works 115 = .ok (.iload_n 3, 1) := dk_29 (dk_at dksX0_works_5 0 rfl rfl)
theorem dX0_works_116 : decode cX0_works 116 = .ok (.iconst (-1), 1) := dk_2 (dk_at dksX0_works_5 1 rfl rfl)
theorem dX0_works_117 : decode cX0_works 117 = .ok (.if_icmp .eq 24, 3) := dk_159 0 24 (dk_at dksX0_works_5 2 rfl rfl)
theorem dX0_works_120 : decode cX0_works 120 = .ok (.iload 4, 2) := dk_21 4 (dk_at dksX0_works_5 5 rfl rfl)
theorem dX0_works_122 : decode cX0_works 122 = .ok (.aload_n 0, 1) := dk_42 (dk_at dksX0_works_5 7 rfl rfl)
theorem dX0_works_123 : decode cX0_works 123 = .ok (.bipush 12, 2) := dk_16 12 (dk_at dksX0_works_5 8 rfl rfl)
theorem dX0_works_125 : decode cX0_works 125 = .ok (.invokevirtual 274, 3) := dk_182 1 18 (dk_at dksX0_works_5 10 rfl rfl)
theorem dX0_works_128 : decode cX0_works 128 = .ok (.iconst (-1), 1) := dk_2 (dk_at dksX0_works_5 13 rfl rfl)
theorem dX0_works_129 : decode cX0_works 129 = .ok (.ixor, 1) := dk_130 (dk_at dksX0_works_5 14 rfl rfl)
theorem dX0_works_130 : decode cX0_works 130 = .ok (.iand, 1) := dk_126 (dk_at dksX0_works_5 15 rfl rfl)
theorem dX0_works_131 : decode cX0_works 131 = .ok (.ifCond .eq 10, 3) := dk_153 0 10 (dk_at dksX0_works_5 16 rfl rfl)
theorem dX0_works_134 : decode cX0_works 134 = .ok (.bipush 10, 2) := dk_16 10 (dk_at dksX0_works_5 19 rfl rfl)
theorem dX0_works_136 : decode cX0_works 136 = .ok (.iload_n 3, 1) := dk_29 (dk_at dksX0_works_5 21 rfl rfl)
theorem dX0_works_137 : decode cX0_works 137 = .ok (.imul, 1) := dk_104 (dk_at dksX0_works_5 22 rfl rfl)
theorem dX0_works_138 : decode cX0_works 138 = .ok (.iconst 5, 1) := dk_8 (dk_at dksX0_works_5 23 rfl rfl)
theorem dX0_works_139 : decode cX0_works 139 = .ok (.iadd, 1) := dk_96 (dk_at dksX0_works_6 0 rfl rfl)
theorem dX0_works_140 : decode cX0_works 140 = .ok (.ireturn, 1) := dk_172 (dk_at dksX0_works_6 1 rfl rfl)
theorem dX0_works_141 : decode cX0_works 141 = .ok (.iinc 1 1, 3) := dk_132 1 1 (dk_at dksX0_works_6 2 rfl rfl)
theorem dX0_works_144 : decode cX0_works 144 = .ok (.goto (-137), 3) := dk_167 255 119 (dk_at dksX0_works_6 5 rfl rfl)
theorem dX0_works_147 : decode cX0_works 147 = .ok (.iconst 0, 1) := dk_3 (dk_at dksX0_works_6 8 rfl rfl)
theorem dX0_works_148 : decode cX0_works 148 = .ok (.ireturn, 1) := dk_172 (dk_at dksX0_works_6 9 rfl rfl)
abbrev cX0_does : ByteArray := prog_1_method_47_code
def yX0_does : MethodName := ⟨RX0, "does", "(LStiltTown$Work;I)I"⟩
def dkwX0_does_8 : List UInt8 := [43, 180, 1, 83, 116, 182, 1, 95, 42, 180, 0, 48, 180, 0, 137, 43, 180, 1, 80, 29, 79, 3, 172]
abbrev dktX0_does_8 : List UInt8 := dkwX0_does_8 ++ []
def dkwX0_does_7 : List UInt8 := [180, 0, 48, 180, 0, 158, 21, 6, 92, 46, 21, 7, 100, 79, 132, 6, 1, 167, 255, 187, 167, 0, 12, 42]
abbrev dktX0_does_7 : List UInt8 := dkwX0_does_7 ++ dktX0_does_8
def dkwX0_does_6 : List UInt8 := [180, 0, 41, 180, 0, 155, 21, 6, 182, 0, 140, 192, 0, 161, 180, 1, 58, 104, 100, 54, 5, 42]
abbrev dktX0_does_6 : List UInt8 := dkwX0_does_6 ++ dktX0_does_7
def dkwX0_does_5 : List UInt8 := [180, 0, 155, 182, 0, 131, 162, 0, 60, 42, 21, 6, 21, 5, 182, 1, 64, 54, 7, 21, 5, 21, 7, 42]
abbrev dktX0_does_5 : List UInt8 := dkwX0_does_5 ++ dktX0_does_6
def dkwX0_does_4 : List UInt8 := [180, 1, 92, 21, 4, 96, 181, 1, 92, 43, 180, 1, 83, 54, 5, 3, 54, 6, 21, 6, 42, 180, 0, 41]
abbrev dktX0_does_4 : List UInt8 := dkwX0_does_4 ++ dktX0_does_5
def dkwX0_does_3 : List UInt8 := [42, 43, 180, 1, 83, 182, 1, 61, 54, 4, 21, 4, 19, 1, 57, 161, 0, 5, 7, 172, 42, 89]
abbrev dktX0_does_3 : List UInt8 := dkwX0_does_3 ++ dktX0_does_4
def dkwX0_does_2 : List UInt8 := [164, 0, 5, 5, 172, 29, 3, 16, 99, 184, 0, 174, 154, 0, 5, 6, 172, 43, 180, 1, 83, 158, 0, 118]
abbrev dktX0_does_2 : List UInt8 := dkwX0_does_2 ++ dktX0_does_3
def dkwX0_does_1 : List UInt8 := [180, 1, 86, 160, 0, 5, 4, 172, 43, 180, 1, 83, 184, 0, 250, 42, 180, 0, 41, 180, 1, 89]
abbrev dktX0_does_1 : List UInt8 := dkwX0_does_1 ++ dktX0_does_2
def dkwX0_does_0 : List UInt8 := [42, 180, 0, 48, 180, 0, 137, 43, 180, 1, 80, 46, 43, 180, 1, 83, 96, 62, 28, 42, 180, 0, 41]
abbrev dktX0_does_0 : List UInt8 := dkwX0_does_0 ++ dktX0_does_1
theorem dksX0_does_0 : cX0_does.data.toList.drop 0 = dktX0_does_0 := by decide +kernel
theorem dksX0_does_1 : cX0_does.data.toList.drop 23 = dktX0_does_1 := dk_seg dksX0_does_0 23 rfl rfl
theorem dksX0_does_2 : cX0_does.data.toList.drop 45 = dktX0_does_2 := dk_seg dksX0_does_1 22 rfl rfl
theorem dksX0_does_3 : cX0_does.data.toList.drop 69 = dktX0_does_3 := dk_seg dksX0_does_2 24 rfl rfl
theorem dksX0_does_4 : cX0_does.data.toList.drop 91 = dktX0_does_4 := dk_seg dksX0_does_3 22 rfl rfl
theorem dksX0_does_5 : cX0_does.data.toList.drop 115 = dktX0_does_5 := dk_seg dksX0_does_4 24 rfl rfl
theorem dksX0_does_6 : cX0_does.data.toList.drop 139 = dktX0_does_6 := dk_seg dksX0_does_5 24 rfl rfl
theorem dksX0_does_7 : cX0_does.data.toList.drop 161 = dktX0_does_7 := dk_seg dksX0_does_6 22 rfl rfl
theorem dksX0_does_8 : cX0_does.data.toList.drop 185 = dktX0_does_8 := dk_seg dksX0_does_7 24 rfl rfl
theorem dX0_does_0 : decode cX0_does 0 = .ok (.aload_n 0, 1) := dk_42 (dk_at dksX0_does_0 0 rfl rfl)
theorem dX0_does_1 : decode cX0_does 1 = .ok (.getfield 48, 3) := dk_180 0 48 (dk_at dksX0_does_0 1 rfl rfl)
theorem dX0_does_4 : decode cX0_does 4 = .ok (.getfield 137, 3) := dk_180 0 137 (dk_at dksX0_does_0 4 rfl rfl)
theorem dX0_does_7 : decode cX0_does 7 = .ok (.aload_n 1, 1) := dk_43 (dk_at dksX0_does_0 7 rfl rfl)
theorem dX0_does_8 : decode cX0_does 8 = .ok (.getfield 336, 3) := dk_180 1 80 (dk_at dksX0_does_0 8 rfl rfl)
theorem dX0_does_11 : decode cX0_does 11 = .ok (.iaload, 1) := dk_46 (dk_at dksX0_does_0 11 rfl rfl)
theorem dX0_does_12 : decode cX0_does 12 = .ok (.aload_n 1, 1) := dk_43 (dk_at dksX0_does_0 12 rfl rfl)
theorem dX0_does_13 : decode cX0_does 13 = .ok (.getfield 339, 3) := dk_180 1 83 (dk_at dksX0_does_0 13 rfl rfl)
theorem dX0_does_16 : decode cX0_does 16 = .ok (.iadd, 1) := dk_96 (dk_at dksX0_does_0 16 rfl rfl)
theorem dX0_does_17 : decode cX0_does 17 = .ok (.istore_n 3, 1) := dk_62 (dk_at dksX0_does_0 17 rfl rfl)
theorem dX0_does_18 : decode cX0_does 18 = .ok (.iload_n 2, 1) := dk_28 (dk_at dksX0_does_0 18 rfl rfl)
theorem dX0_does_19 : decode cX0_does 19 = .ok (.aload_n 0, 1) := dk_42 (dk_at dksX0_does_0 19 rfl rfl)
theorem dX0_does_20 : decode cX0_does 20 = .ok (.getfield 41, 3) := dk_180 0 41 (dk_at dksX0_does_0 20 rfl rfl)
theorem dX0_does_23 : decode cX0_does 23 = .ok (.getfield 342, 3) := dk_180 1 86 (dk_at dksX0_does_1 0 rfl rfl)
theorem dX0_does_26 : decode cX0_does 26 = .ok (.if_icmp .ne 5, 3) := dk_160 0 5 (dk_at dksX0_does_1 3 rfl rfl)
theorem dX0_does_29 : decode cX0_does 29 = .ok (.iconst 1, 1) := dk_4 (dk_at dksX0_does_1 6 rfl rfl)
theorem dX0_does_30 : decode cX0_does 30 = .ok (.ireturn, 1) := dk_172 (dk_at dksX0_does_1 7 rfl rfl)
theorem dX0_does_31 : decode cX0_does 31 = .ok (.aload_n 1, 1) := dk_43 (dk_at dksX0_does_1 8 rfl rfl)
theorem dX0_does_32 : decode cX0_does 32 = .ok (.getfield 339, 3) := dk_180 1 83 (dk_at dksX0_does_1 9 rfl rfl)
theorem dX0_does_35 : decode cX0_does 35 = .ok (.invokestatic 250, 3) := dk_184 0 250 (dk_at dksX0_does_1 12 rfl rfl)
theorem dX0_does_38 : decode cX0_does 38 = .ok (.aload_n 0, 1) := dk_42 (dk_at dksX0_does_1 15 rfl rfl)
theorem dX0_does_39 : decode cX0_does 39 = .ok (.getfield 41, 3) := dk_180 0 41 (dk_at dksX0_does_1 16 rfl rfl)
theorem dX0_does_42 : decode cX0_does 42 = .ok (.getfield 345, 3) := dk_180 1 89 (dk_at dksX0_does_1 19 rfl rfl)
theorem dX0_does_45 : decode cX0_does 45 = .ok (.if_icmp .le 5, 3) := dk_164 0 5 (dk_at dksX0_does_2 0 rfl rfl)
theorem dX0_does_48 : decode cX0_does 48 = .ok (.iconst 2, 1) := dk_5 (dk_at dksX0_does_2 3 rfl rfl)
theorem dX0_does_49 : decode cX0_does 49 = .ok (.ireturn, 1) := dk_172 (dk_at dksX0_does_2 4 rfl rfl)
theorem dX0_does_50 : decode cX0_does 50 = .ok (.iload_n 3, 1) := dk_29 (dk_at dksX0_does_2 5 rfl rfl)
theorem dX0_does_51 : decode cX0_does 51 = .ok (.iconst 0, 1) := dk_3 (dk_at dksX0_does_2 6 rfl rfl)
theorem dX0_does_52 : decode cX0_does 52 = .ok (.bipush 99, 2) := dk_16 99 (dk_at dksX0_does_2 7 rfl rfl)
theorem dX0_does_54 : decode cX0_does 54 = .ok (.invokestatic 174, 3) := dk_184 0 174 (dk_at dksX0_does_2 9 rfl rfl)
theorem dX0_does_57 : decode cX0_does 57 = .ok (.ifCond .ne 5, 3) := dk_154 0 5 (dk_at dksX0_does_2 12 rfl rfl)
theorem dX0_does_60 : decode cX0_does 60 = .ok (.iconst 3, 1) := dk_6 (dk_at dksX0_does_2 15 rfl rfl)
theorem dX0_does_61 : decode cX0_does 61 = .ok (.ireturn, 1) := dk_172 (dk_at dksX0_does_2 16 rfl rfl)
theorem dX0_does_62 : decode cX0_does 62 = .ok (.aload_n 1, 1) := dk_43 (dk_at dksX0_does_2 17 rfl rfl)
theorem dX0_does_63 : decode cX0_does 63 = .ok (.getfield 339, 3) := dk_180 1 83 (dk_at dksX0_does_2 18 rfl rfl)
theorem dX0_does_66 : decode cX0_does 66 = .ok (.ifCond .le 118, 3) := dk_158 0 118 (dk_at dksX0_does_2 21 rfl rfl)
theorem dX0_does_69 : decode cX0_does 69 = .ok (.aload_n 0, 1) := dk_42 (dk_at dksX0_does_3 0 rfl rfl)
theorem dX0_does_70 : decode cX0_does 70 = .ok (.aload_n 1, 1) := dk_43 (dk_at dksX0_does_3 1 rfl rfl)
theorem dX0_does_71 : decode cX0_does 71 = .ok (.getfield 339, 3) := dk_180 1 83 (dk_at dksX0_does_3 2 rfl rfl)
theorem dX0_does_74 : decode cX0_does 74 = .ok (.invokevirtual 317, 3) := dk_182 1 61 (dk_at dksX0_does_3 5 rfl rfl)
theorem dX0_does_77 : decode cX0_does 77 = .ok (.istore 4, 2) := dk_54 4 (dk_at dksX0_does_3 8 rfl rfl)
theorem dX0_does_79 : decode cX0_does 79 = .ok (.iload 4, 2) := dk_21 4 (dk_at dksX0_does_3 10 rfl rfl)
theorem dX0_does_81 : decode cX0_does 81 = .ok (.ldc_w 313, 3) := dk_19 1 57 (dk_at dksX0_does_3 12 rfl rfl)
theorem dX0_does_84 : decode cX0_does 84 = .ok (.if_icmp .lt 5, 3) := dk_161 0 5 (dk_at dksX0_does_3 15 rfl rfl)
theorem dX0_does_87 : decode cX0_does 87 = .ok (.iconst 4, 1) := dk_7 (dk_at dksX0_does_3 18 rfl rfl)
theorem dX0_does_88 : decode cX0_does 88 = .ok (.ireturn, 1) := dk_172 (dk_at dksX0_does_3 19 rfl rfl)
theorem dX0_does_89 : decode cX0_does 89 = .ok (.aload_n 0, 1) := dk_42 (dk_at dksX0_does_3 20 rfl rfl)
theorem dX0_does_90 : decode cX0_does 90 = .ok (.dup, 1) := dk_89 (dk_at dksX0_does_3 21 rfl rfl)
theorem dX0_does_91 : decode cX0_does 91 = .ok (.getfield 348, 3) := dk_180 1 92 (dk_at dksX0_does_4 0 rfl rfl)
theorem dX0_does_94 : decode cX0_does 94 = .ok (.iload 4, 2) := dk_21 4 (dk_at dksX0_does_4 3 rfl rfl)
theorem dX0_does_96 : decode cX0_does 96 = .ok (.iadd, 1) := dk_96 (dk_at dksX0_does_4 5 rfl rfl)
theorem dX0_does_97 : decode cX0_does 97 = .ok (.putfield 348, 3) := dk_181 1 92 (dk_at dksX0_does_4 6 rfl rfl)
theorem dX0_does_100 : decode cX0_does 100 = .ok (.aload_n 1, 1) := dk_43 (dk_at dksX0_does_4 9 rfl rfl)
theorem dX0_does_101 : decode cX0_does 101 = .ok (.getfield 339, 3) := dk_180 1 83 (dk_at dksX0_does_4 10 rfl rfl)
theorem dX0_does_104 : decode cX0_does 104 = .ok (.istore 5, 2) := dk_54 5 (dk_at dksX0_does_4 13 rfl rfl)
theorem dX0_does_106 : decode cX0_does 106 = .ok (.iconst 0, 1) := dk_3 (dk_at dksX0_does_4 15 rfl rfl)
theorem dX0_does_107 : decode cX0_does 107 = .ok (.istore 6, 2) := dk_54 6 (dk_at dksX0_does_4 16 rfl rfl)
theorem dX0_does_109 : decode cX0_does 109 = .ok (.iload 6, 2) := dk_21 6 (dk_at dksX0_does_4 18 rfl rfl)
theorem dX0_does_111 : decode cX0_does 111 = .ok (.aload_n 0, 1) := dk_42 (dk_at dksX0_does_4 20 rfl rfl)
theorem dX0_does_112 : decode cX0_does 112 = .ok (.getfield 41, 3) := dk_180 0 41 (dk_at dksX0_does_4 21 rfl rfl)
theorem dX0_does_115 : decode cX0_does 115 = .ok (.getfield 155, 3) := dk_180 0 155 (dk_at dksX0_does_5 0 rfl rfl)
theorem dX0_does_118 : decode cX0_does 118 = .ok (.invokevirtual 131, 3) := dk_182 0 131 (dk_at dksX0_does_5 3 rfl rfl)
theorem dX0_does_121 : decode cX0_does 121 = .ok (.if_icmp .ge 60, 3) := dk_162 0 60 (dk_at dksX0_does_5 6 rfl rfl)
theorem dX0_does_124 : decode cX0_does 124 = .ok (.aload_n 0, 1) := dk_42 (dk_at dksX0_does_5 9 rfl rfl)
theorem dX0_does_125 : decode cX0_does 125 = .ok (.iload 6, 2) := dk_21 6 (dk_at dksX0_does_5 10 rfl rfl)
theorem dX0_does_127 : decode cX0_does 127 = .ok (.iload 5, 2) := dk_21 5 (dk_at dksX0_does_5 12 rfl rfl)
theorem dX0_does_129 : decode cX0_does 129 = .ok (.invokevirtual 320, 3) := dk_182 1 64 (dk_at dksX0_does_5 14 rfl rfl)
theorem dX0_does_132 : decode cX0_does 132 = .ok (.istore 7, 2) := dk_54 7 (dk_at dksX0_does_5 17 rfl rfl)
theorem dX0_does_134 : decode cX0_does 134 = .ok (.iload 5, 2) := dk_21 5 (dk_at dksX0_does_5 19 rfl rfl)
theorem dX0_does_136 : decode cX0_does 136 = .ok (.iload 7, 2) := dk_21 7 (dk_at dksX0_does_5 21 rfl rfl)
theorem dX0_does_138 : decode cX0_does 138 = .ok (.aload_n 0, 1) := dk_42 (dk_at dksX0_does_5 23 rfl rfl)
theorem dX0_does_139 : decode cX0_does 139 = .ok (.getfield 41, 3) := dk_180 0 41 (dk_at dksX0_does_6 0 rfl rfl)
theorem dX0_does_142 : decode cX0_does 142 = .ok (.getfield 155, 3) := dk_180 0 155 (dk_at dksX0_does_6 3 rfl rfl)
theorem dX0_does_145 : decode cX0_does 145 = .ok (.iload 6, 2) := dk_21 6 (dk_at dksX0_does_6 6 rfl rfl)
theorem dX0_does_147 : decode cX0_does 147 = .ok (.invokevirtual 140, 3) := dk_182 0 140 (dk_at dksX0_does_6 8 rfl rfl)
theorem dX0_does_150 : decode cX0_does 150 = .ok (.checkcast 161, 3) := dk_192 0 161 (dk_at dksX0_does_6 11 rfl rfl)
theorem dX0_does_153 : decode cX0_does 153 = .ok (.getfield 314, 3) := dk_180 1 58 (dk_at dksX0_does_6 14 rfl rfl)
theorem dX0_does_156 : decode cX0_does 156 = .ok (.imul, 1) := dk_104 (dk_at dksX0_does_6 17 rfl rfl)
theorem dX0_does_157 : decode cX0_does 157 = .ok (.isub, 1) := dk_100 (dk_at dksX0_does_6 18 rfl rfl)
theorem dX0_does_158 : decode cX0_does 158 = .ok (.istore 5, 2) := dk_54 5 (dk_at dksX0_does_6 19 rfl rfl)
theorem dX0_does_160 : decode cX0_does 160 = .ok (.aload_n 0, 1) := dk_42 (dk_at dksX0_does_6 21 rfl rfl)
theorem dX0_does_161 : decode cX0_does 161 = .ok (.getfield 48, 3) := dk_180 0 48 (dk_at dksX0_does_7 0 rfl rfl)
theorem dX0_does_164 : decode cX0_does 164 = .ok (.getfield 158, 3) := dk_180 0 158 (dk_at dksX0_does_7 3 rfl rfl)
theorem dX0_does_167 : decode cX0_does 167 = .ok (.iload 6, 2) := dk_21 6 (dk_at dksX0_does_7 6 rfl rfl)
theorem dX0_does_169 : decode cX0_does 169 = .ok (.dup2, 1) := dk_92 (dk_at dksX0_does_7 8 rfl rfl)
theorem dX0_does_170 : decode cX0_does 170 = .ok (.iaload, 1) := dk_46 (dk_at dksX0_does_7 9 rfl rfl)
theorem dX0_does_171 : decode cX0_does 171 = .ok (.iload 7, 2) := dk_21 7 (dk_at dksX0_does_7 10 rfl rfl)
theorem dX0_does_173 : decode cX0_does 173 = .ok (.isub, 1) := dk_100 (dk_at dksX0_does_7 12 rfl rfl)
theorem dX0_does_174 : decode cX0_does 174 = .ok (.iastore, 1) := dk_79 (dk_at dksX0_does_7 13 rfl rfl)
theorem dX0_does_175 : decode cX0_does 175 = .ok (.iinc 6 1, 3) := dk_132 6 1 (dk_at dksX0_does_7 14 rfl rfl)
theorem dX0_does_178 : decode cX0_does 178 = .ok (.goto (-69), 3) := dk_167 255 187 (dk_at dksX0_does_7 17 rfl rfl)
theorem dX0_does_181 : decode cX0_does 181 = .ok (.goto 12, 3) := dk_167 0 12 (dk_at dksX0_does_7 20 rfl rfl)
theorem dX0_does_184 : decode cX0_does 184 = .ok (.aload_n 0, 1) := dk_42 (dk_at dksX0_does_7 23 rfl rfl)
theorem dX0_does_185 : decode cX0_does 185 = .ok (.aload_n 1, 1) := dk_43 (dk_at dksX0_does_8 0 rfl rfl)
theorem dX0_does_186 : decode cX0_does 186 = .ok (.getfield 339, 3) := dk_180 1 83 (dk_at dksX0_does_8 1 rfl rfl)
theorem dX0_does_189 : decode cX0_does 189 = .ok (.ineg, 1) := dk_116 (dk_at dksX0_does_8 4 rfl rfl)
theorem dX0_does_190 : decode cX0_does 190 = .ok (.invokevirtual 351, 3) := dk_182 1 95 (dk_at dksX0_does_8 5 rfl rfl)
theorem dX0_does_193 : decode cX0_does 193 = .ok (.aload_n 0, 1) := dk_42 (dk_at dksX0_does_8 8 rfl rfl)
theorem dX0_does_194 : decode cX0_does 194 = .ok (.getfield 48, 3) := dk_180 0 48 (dk_at dksX0_does_8 9 rfl rfl)
theorem dX0_does_197 : decode cX0_does 197 = .ok (.getfield 137, 3) := dk_180 0 137 (dk_at dksX0_does_8 12 rfl rfl)
theorem dX0_does_200 : decode cX0_does 200 = .ok (.aload_n 1, 1) := dk_43 (dk_at dksX0_does_8 15 rfl rfl)
theorem dX0_does_201 : decode cX0_does 201 = .ok (.getfield 336, 3) := dk_180 1 80 (dk_at dksX0_does_8 16 rfl rfl)
theorem dX0_does_204 : decode cX0_does 204 = .ok (.iload_n 3, 1) := dk_29 (dk_at dksX0_does_8 19 rfl rfl)
theorem dX0_does_205 : decode cX0_does 205 = .ok (.iastore, 1) := dk_79 (dk_at dksX0_does_8 20 rfl rfl)
theorem dX0_does_206 : decode cX0_does 206 = .ok (.iconst 0, 1) := dk_3 (dk_at dksX0_does_8 21 rfl rfl)
theorem dX0_does_207 : decode cX0_does 207 = .ok (.ireturn, 1) := dk_172 (dk_at dksX0_does_8 22 rfl rfl)
abbrev cX0_saws : ByteArray := prog_1_method_48_code
def yX0_saws : MethodName := ⟨RX0, "saws", "(I)V"⟩
def dkwX0_saws_3 : List UInt8 := [167, 255, 187, 177]
abbrev dktX0_saws_3 : List UInt8 := dkwX0_saws_3 ++ []
def dkwX0_saws_2 : List UInt8 := [46, 16, 99, 162, 0, 16, 42, 180, 0, 48, 180, 0, 158, 28, 92, 46, 4, 96, 79, 177, 132, 2, 1]
abbrev dktX0_saws_2 : List UInt8 := dkwX0_saws_2 ++ dktX0_saws_3
def dkwX0_saws_1 : List UInt8 := [182, 0, 140, 192, 0, 161, 180, 1, 58, 27, 159, 0, 6, 167, 0, 31, 42, 180, 0, 48, 180, 0, 158, 28]
abbrev dktX0_saws_1 : List UInt8 := dkwX0_saws_1 ++ dktX0_saws_2
def dkwX0_saws_0 : List UInt8 := [3, 61, 28, 42, 180, 0, 41, 180, 0, 155, 182, 0, 131, 162, 0, 61, 42, 180, 0, 41, 180, 0, 155, 28]
abbrev dktX0_saws_0 : List UInt8 := dkwX0_saws_0 ++ dktX0_saws_1
theorem dksX0_saws_0 : cX0_saws.data.toList.drop 0 = dktX0_saws_0 := by decide +kernel
theorem dksX0_saws_1 : cX0_saws.data.toList.drop 24 = dktX0_saws_1 := dk_seg dksX0_saws_0 24 rfl rfl
theorem dksX0_saws_2 : cX0_saws.data.toList.drop 48 = dktX0_saws_2 := dk_seg dksX0_saws_1 24 rfl rfl
theorem dksX0_saws_3 : cX0_saws.data.toList.drop 71 = dktX0_saws_3 := dk_seg dksX0_saws_2 23 rfl rfl
theorem dX0_saws_0 : decode cX0_saws 0 = .ok (.iconst 0, 1) := dk_3 (dk_at dksX0_saws_0 0 rfl rfl)
theorem dX0_saws_1 : decode cX0_saws 1 = .ok (.istore_n 2, 1) := dk_61 (dk_at dksX0_saws_0 1 rfl rfl)
theorem dX0_saws_2 : decode cX0_saws 2 = .ok (.iload_n 2, 1) := dk_28 (dk_at dksX0_saws_0 2 rfl rfl)
theorem dX0_saws_3 : decode cX0_saws 3 = .ok (.aload_n 0, 1) := dk_42 (dk_at dksX0_saws_0 3 rfl rfl)
theorem dX0_saws_4 : decode cX0_saws 4 = .ok (.getfield 41, 3) := dk_180 0 41 (dk_at dksX0_saws_0 4 rfl rfl)
theorem dX0_saws_7 : decode cX0_saws 7 = .ok (.getfield 155, 3) := dk_180 0 155 (dk_at dksX0_saws_0 7 rfl rfl)
theorem dX0_saws_10 : decode cX0_saws 10 = .ok (.invokevirtual 131, 3) := dk_182 0 131 (dk_at dksX0_saws_0 10 rfl rfl)
theorem dX0_saws_13 : decode cX0_saws 13 = .ok (.if_icmp .ge 61, 3) := dk_162 0 61 (dk_at dksX0_saws_0 13 rfl rfl)
theorem dX0_saws_16 : decode cX0_saws 16 = .ok (.aload_n 0, 1) := dk_42 (dk_at dksX0_saws_0 16 rfl rfl)
theorem dX0_saws_17 : decode cX0_saws 17 = .ok (.getfield 41, 3) := dk_180 0 41 (dk_at dksX0_saws_0 17 rfl rfl)
theorem dX0_saws_20 : decode cX0_saws 20 = .ok (.getfield 155, 3) := dk_180 0 155 (dk_at dksX0_saws_0 20 rfl rfl)
theorem dX0_saws_23 : decode cX0_saws 23 = .ok (.iload_n 2, 1) := dk_28 (dk_at dksX0_saws_0 23 rfl rfl)
theorem dX0_saws_24 : decode cX0_saws 24 = .ok (.invokevirtual 140, 3) := dk_182 0 140 (dk_at dksX0_saws_1 0 rfl rfl)
theorem dX0_saws_27 : decode cX0_saws 27 = .ok (.checkcast 161, 3) := dk_192 0 161 (dk_at dksX0_saws_1 3 rfl rfl)
theorem dX0_saws_30 : decode cX0_saws 30 = .ok (.getfield 314, 3) := dk_180 1 58 (dk_at dksX0_saws_1 6 rfl rfl)
theorem dX0_saws_33 : decode cX0_saws 33 = .ok (.iload_n 1, 1) := dk_27 (dk_at dksX0_saws_1 9 rfl rfl)
theorem dX0_saws_34 : decode cX0_saws 34 = .ok (.if_icmp .eq 6, 3) := dk_159 0 6 (dk_at dksX0_saws_1 10 rfl rfl)
theorem dX0_saws_37 : decode cX0_saws 37 = .ok (.goto 31, 3) := dk_167 0 31 (dk_at dksX0_saws_1 13 rfl rfl)
theorem dX0_saws_40 : decode cX0_saws 40 = .ok (.aload_n 0, 1) := dk_42 (dk_at dksX0_saws_1 16 rfl rfl)
theorem dX0_saws_41 : decode cX0_saws 41 = .ok (.getfield 48, 3) := dk_180 0 48 (dk_at dksX0_saws_1 17 rfl rfl)
theorem dX0_saws_44 : decode cX0_saws 44 = .ok (.getfield 158, 3) := dk_180 0 158 (dk_at dksX0_saws_1 20 rfl rfl)
theorem dX0_saws_47 : decode cX0_saws 47 = .ok (.iload_n 2, 1) := dk_28 (dk_at dksX0_saws_1 23 rfl rfl)
theorem dX0_saws_48 : decode cX0_saws 48 = .ok (.iaload, 1) := dk_46 (dk_at dksX0_saws_2 0 rfl rfl)
theorem dX0_saws_49 : decode cX0_saws 49 = .ok (.bipush 99, 2) := dk_16 99 (dk_at dksX0_saws_2 1 rfl rfl)
theorem dX0_saws_51 : decode cX0_saws 51 = .ok (.if_icmp .ge 16, 3) := dk_162 0 16 (dk_at dksX0_saws_2 3 rfl rfl)
theorem dX0_saws_54 : decode cX0_saws 54 = .ok (.aload_n 0, 1) := dk_42 (dk_at dksX0_saws_2 6 rfl rfl)
theorem dX0_saws_55 : decode cX0_saws 55 = .ok (.getfield 48, 3) := dk_180 0 48 (dk_at dksX0_saws_2 7 rfl rfl)
theorem dX0_saws_58 : decode cX0_saws 58 = .ok (.getfield 158, 3) := dk_180 0 158 (dk_at dksX0_saws_2 10 rfl rfl)
theorem dX0_saws_61 : decode cX0_saws 61 = .ok (.iload_n 2, 1) := dk_28 (dk_at dksX0_saws_2 13 rfl rfl)
theorem dX0_saws_62 : decode cX0_saws 62 = .ok (.dup2, 1) := dk_92 (dk_at dksX0_saws_2 14 rfl rfl)
theorem dX0_saws_63 : decode cX0_saws 63 = .ok (.iaload, 1) := dk_46 (dk_at dksX0_saws_2 15 rfl rfl)
theorem dX0_saws_64 : decode cX0_saws 64 = .ok (.iconst 1, 1) := dk_4 (dk_at dksX0_saws_2 16 rfl rfl)
theorem dX0_saws_65 : decode cX0_saws 65 = .ok (.iadd, 1) := dk_96 (dk_at dksX0_saws_2 17 rfl rfl)
theorem dX0_saws_66 : decode cX0_saws 66 = .ok (.iastore, 1) := dk_79 (dk_at dksX0_saws_2 18 rfl rfl)
theorem dX0_saws_67 : decode cX0_saws 67 = .ok (.return_, 1) := dk_177 (dk_at dksX0_saws_2 19 rfl rfl)
theorem dX0_saws_68 : decode cX0_saws 68 = .ok (.iinc 2 1, 3) := dk_132 2 1 (dk_at dksX0_saws_2 20 rfl rfl)
theorem dX0_saws_71 : decode cX0_saws 71 = .ok (.goto (-69), 3) := dk_167 255 187 (dk_at dksX0_saws_3 0 rfl rfl)
theorem dX0_saws_74 : decode cX0_saws 74 = .ok (.return_, 1) := dk_177 (dk_at dksX0_saws_3 3 rfl rfl)
abbrev cX0_done : ByteArray := prog_1_method_51_code
def yX0_done : MethodName := ⟨RX0, "done", "()I"⟩
def dkwX0_done_7 : List UInt8 := [180, 1, 67, 182, 1, 79, 42, 180, 1, 92, 172]
abbrev dktX0_done_7 : List UInt8 := dkwX0_done_7 ++ []
def dkwX0_done_6 : List UInt8 := [180, 1, 118, 3, 16, 8, 184, 0, 149, 42, 89, 180, 0, 166, 4, 96, 181, 0, 166, 42, 180, 0, 48]
abbrev dktX0_done_6 : List UInt8 := dkwX0_done_6 ++ dktX0_done_7
def dkwX0_done_5 : List UInt8 := [16, 16, 184, 0, 149, 42, 180, 0, 66, 180, 1, 118, 3, 42, 180, 0, 70, 42, 180, 0, 166, 50]
abbrev dktX0_done_5 : List UInt8 := dkwX0_done_5 ++ dktX0_done_6
def dkwX0_done_4 : List UInt8 := [181, 0, 166, 42, 180, 0, 66, 180, 1, 117, 3, 42, 180, 0, 70, 42, 180, 0, 166, 50, 180, 1, 117, 3]
abbrev dktX0_done_4 : List UInt8 := dkwX0_done_4 ++ dktX0_done_5
def dkwX0_done_3 : List UInt8 := [180, 0, 70, 3, 16, 19, 184, 0, 149, 42, 180, 0, 70, 16, 19, 43, 83, 42, 89, 180, 0, 166, 4, 100]
abbrev dktX0_done_3 : List UInt8 := dkwX0_done_3 ++ dktX0_done_4
def dkwX0_done_2 : List UInt8 := [42, 180, 0, 166, 16, 20, 160, 0, 43, 42, 180, 0, 70, 3, 50, 76, 42, 180, 0, 70, 4, 42]
abbrev dktX0_done_2 : List UInt8 := dkwX0_done_2 ++ dktX0_done_3
def dkwX0_done_1 : List UInt8 := [182, 1, 105, 42, 182, 1, 109, 153, 0, 17, 42, 180, 0, 66, 42, 180, 0, 48, 182, 1, 111, 16, 254, 172]
abbrev dktX0_done_1 : List UInt8 := dkwX0_done_1 ++ dktX0_done_2
def dkwX0_done_0 : List UInt8 := [42, 180, 0, 48, 180, 1, 67, 182, 1, 113, 153, 0, 5, 3, 172, 42, 180, 0, 66, 42, 180, 0, 48]
abbrev dktX0_done_0 : List UInt8 := dkwX0_done_0 ++ dktX0_done_1
theorem dksX0_done_0 : cX0_done.data.toList.drop 0 = dktX0_done_0 := by decide +kernel
theorem dksX0_done_1 : cX0_done.data.toList.drop 23 = dktX0_done_1 := dk_seg dksX0_done_0 23 rfl rfl
theorem dksX0_done_2 : cX0_done.data.toList.drop 47 = dktX0_done_2 := dk_seg dksX0_done_1 24 rfl rfl
theorem dksX0_done_3 : cX0_done.data.toList.drop 69 = dktX0_done_3 := dk_seg dksX0_done_2 22 rfl rfl
theorem dksX0_done_4 : cX0_done.data.toList.drop 93 = dktX0_done_4 := dk_seg dksX0_done_3 24 rfl rfl
theorem dksX0_done_5 : cX0_done.data.toList.drop 117 = dktX0_done_5 := dk_seg dksX0_done_4 24 rfl rfl
theorem dksX0_done_6 : cX0_done.data.toList.drop 139 = dktX0_done_6 := dk_seg dksX0_done_5 22 rfl rfl
theorem dksX0_done_7 : cX0_done.data.toList.drop 162 = dktX0_done_7 := dk_seg dksX0_done_6 23 rfl rfl
theorem dX0_done_0 : decode cX0_done 0 = .ok (.aload_n 0, 1) := dk_42 (dk_at dksX0_done_0 0 rfl rfl)
theorem dX0_done_1 : decode cX0_done 1 = .ok (.getfield 48, 3) := dk_180 0 48 (dk_at dksX0_done_0 1 rfl rfl)
theorem dX0_done_4 : decode cX0_done 4 = .ok (.getfield 323, 3) := dk_180 1 67 (dk_at dksX0_done_0 4 rfl rfl)
theorem dX0_done_7 : decode cX0_done 7 = .ok (.invokevirtual 369, 3) := dk_182 1 113 (dk_at dksX0_done_0 7 rfl rfl)
theorem dX0_done_10 : decode cX0_done 10 = .ok (.ifCond .eq 5, 3) := dk_153 0 5 (dk_at dksX0_done_0 10 rfl rfl)
theorem dX0_done_13 : decode cX0_done 13 = .ok (.iconst 0, 1) := dk_3 (dk_at dksX0_done_0 13 rfl rfl)
theorem dX0_done_14 : decode cX0_done 14 = .ok (.ireturn, 1) := dk_172 (dk_at dksX0_done_0 14 rfl rfl)
theorem dX0_done_15 : decode cX0_done 15 = .ok (.aload_n 0, 1) := dk_42 (dk_at dksX0_done_0 15 rfl rfl)
theorem dX0_done_16 : decode cX0_done 16 = .ok (.getfield 66, 3) := dk_180 0 66 (dk_at dksX0_done_0 16 rfl rfl)
theorem dX0_done_19 : decode cX0_done 19 = .ok (.aload_n 0, 1) := dk_42 (dk_at dksX0_done_0 19 rfl rfl)
theorem dX0_done_20 : decode cX0_done 20 = .ok (.getfield 48, 3) := dk_180 0 48 (dk_at dksX0_done_0 20 rfl rfl)
theorem dX0_done_23 : decode cX0_done 23 = .ok (.invokevirtual 361, 3) := dk_182 1 105 (dk_at dksX0_done_1 0 rfl rfl)
theorem dX0_done_26 : decode cX0_done 26 = .ok (.aload_n 0, 1) := dk_42 (dk_at dksX0_done_1 3 rfl rfl)
theorem dX0_done_27 : decode cX0_done 27 = .ok (.invokevirtual 365, 3) := dk_182 1 109 (dk_at dksX0_done_1 4 rfl rfl)
theorem dX0_done_30 : decode cX0_done 30 = .ok (.ifCond .eq 17, 3) := dk_153 0 17 (dk_at dksX0_done_1 7 rfl rfl)
theorem dX0_done_33 : decode cX0_done 33 = .ok (.aload_n 0, 1) := dk_42 (dk_at dksX0_done_1 10 rfl rfl)
theorem dX0_done_34 : decode cX0_done 34 = .ok (.getfield 66, 3) := dk_180 0 66 (dk_at dksX0_done_1 11 rfl rfl)
theorem dX0_done_37 : decode cX0_done 37 = .ok (.aload_n 0, 1) := dk_42 (dk_at dksX0_done_1 14 rfl rfl)
theorem dX0_done_38 : decode cX0_done 38 = .ok (.getfield 48, 3) := dk_180 0 48 (dk_at dksX0_done_1 15 rfl rfl)
theorem dX0_done_41 : decode cX0_done 41 = .ok (.invokevirtual 367, 3) := dk_182 1 111 (dk_at dksX0_done_1 18 rfl rfl)
theorem dX0_done_44 : decode cX0_done 44 = .ok (.bipush (-2), 2) := dk_16 254 (dk_at dksX0_done_1 21 rfl rfl)
theorem dX0_done_46 : decode cX0_done 46 = .ok (.ireturn, 1) := dk_172 (dk_at dksX0_done_1 23 rfl rfl)
theorem dX0_done_47 : decode cX0_done 47 = .ok (.aload_n 0, 1) := dk_42 (dk_at dksX0_done_2 0 rfl rfl)
theorem dX0_done_48 : decode cX0_done 48 = .ok (.getfield 166, 3) := dk_180 0 166 (dk_at dksX0_done_2 1 rfl rfl)
theorem dX0_done_51 : decode cX0_done 51 = .ok (.bipush 20, 2) := dk_16 20 (dk_at dksX0_done_2 4 rfl rfl)
theorem dX0_done_53 : decode cX0_done 53 = .ok (.if_icmp .ne 43, 3) := dk_160 0 43 (dk_at dksX0_done_2 6 rfl rfl)
theorem dX0_done_56 : decode cX0_done 56 = .ok (.aload_n 0, 1) := dk_42 (dk_at dksX0_done_2 9 rfl rfl)
theorem dX0_done_57 : decode cX0_done 57 = .ok (.getfield 70, 3) := dk_180 0 70 (dk_at dksX0_done_2 10 rfl rfl)
theorem dX0_done_60 : decode cX0_done 60 = .ok (.iconst 0, 1) := dk_3 (dk_at dksX0_done_2 13 rfl rfl)
theorem dX0_done_61 : decode cX0_done 61 = .ok (.aaload, 1) := dk_50 (dk_at dksX0_done_2 14 rfl rfl)
theorem dX0_done_62 : decode cX0_done 62 = .ok (.astore_n 1, 1) := dk_76 (dk_at dksX0_done_2 15 rfl rfl)
theorem dX0_done_63 : decode cX0_done 63 = .ok (.aload_n 0, 1) := dk_42 (dk_at dksX0_done_2 16 rfl rfl)
theorem dX0_done_64 : decode cX0_done 64 = .ok (.getfield 70, 3) := dk_180 0 70 (dk_at dksX0_done_2 17 rfl rfl)
theorem dX0_done_67 : decode cX0_done 67 = .ok (.iconst 1, 1) := dk_4 (dk_at dksX0_done_2 20 rfl rfl)
theorem dX0_done_68 : decode cX0_done 68 = .ok (.aload_n 0, 1) := dk_42 (dk_at dksX0_done_2 21 rfl rfl)
theorem dX0_done_69 : decode cX0_done 69 = .ok (.getfield 70, 3) := dk_180 0 70 (dk_at dksX0_done_3 0 rfl rfl)
theorem dX0_done_72 : decode cX0_done 72 = .ok (.iconst 0, 1) := dk_3 (dk_at dksX0_done_3 3 rfl rfl)
theorem dX0_done_73 : decode cX0_done 73 = .ok (.bipush 19, 2) := dk_16 19 (dk_at dksX0_done_3 4 rfl rfl)
theorem dX0_done_75 : decode cX0_done 75 = .ok (.invokestatic 149, 3) := dk_184 0 149 (dk_at dksX0_done_3 6 rfl rfl)
theorem dX0_done_78 : decode cX0_done 78 = .ok (.aload_n 0, 1) := dk_42 (dk_at dksX0_done_3 9 rfl rfl)
theorem dX0_done_79 : decode cX0_done 79 = .ok (.getfield 70, 3) := dk_180 0 70 (dk_at dksX0_done_3 10 rfl rfl)
theorem dX0_done_82 : decode cX0_done 82 = .ok (.bipush 19, 2) := dk_16 19 (dk_at dksX0_done_3 13 rfl rfl)
theorem dX0_done_84 : decode cX0_done 84 = .ok (.aload_n 1, 1) := dk_43 (dk_at dksX0_done_3 15 rfl rfl)
theorem dX0_done_85 : decode cX0_done 85 = .ok (.aastore, 1) := dk_83 (dk_at dksX0_done_3 16 rfl rfl)
theorem dX0_done_86 : decode cX0_done 86 = .ok (.aload_n 0, 1) := dk_42 (dk_at dksX0_done_3 17 rfl rfl)
theorem dX0_done_87 : decode cX0_done 87 = .ok (.dup, 1) := dk_89 (dk_at dksX0_done_3 18 rfl rfl)
theorem dX0_done_88 : decode cX0_done 88 = .ok (.getfield 166, 3) := dk_180 0 166 (dk_at dksX0_done_3 19 rfl rfl)
theorem dX0_done_91 : decode cX0_done 91 = .ok (.iconst 1, 1) := dk_4 (dk_at dksX0_done_3 22 rfl rfl)
theorem dX0_done_92 : decode cX0_done 92 = .ok (.isub, 1) := dk_100 (dk_at dksX0_done_3 23 rfl rfl)
theorem dX0_done_93 : decode cX0_done 93 = .ok (.putfield 166, 3) := dk_181 0 166 (dk_at dksX0_done_4 0 rfl rfl)
theorem dX0_done_96 : decode cX0_done 96 = .ok (.aload_n 0, 1) := dk_42 (dk_at dksX0_done_4 3 rfl rfl)
theorem dX0_done_97 : decode cX0_done 97 = .ok (.getfield 66, 3) := dk_180 0 66 (dk_at dksX0_done_4 4 rfl rfl)
theorem dX0_done_100 : decode cX0_done 100 = .ok (.getfield 373, 3) := dk_180 1 117 (dk_at dksX0_done_4 7 rfl rfl)
theorem dX0_done_103 : decode cX0_done 103 = .ok (.iconst 0, 1) := dk_3 (dk_at dksX0_done_4 10 rfl rfl)
theorem dX0_done_104 : decode cX0_done 104 = .ok (.aload_n 0, 1) := dk_42 (dk_at dksX0_done_4 11 rfl rfl)
theorem dX0_done_105 : decode cX0_done 105 = .ok (.getfield 70, 3) := dk_180 0 70 (dk_at dksX0_done_4 12 rfl rfl)
theorem dX0_done_108 : decode cX0_done 108 = .ok (.aload_n 0, 1) := dk_42 (dk_at dksX0_done_4 15 rfl rfl)
theorem dX0_done_109 : decode cX0_done 109 = .ok (.getfield 166, 3) := dk_180 0 166 (dk_at dksX0_done_4 16 rfl rfl)
theorem dX0_done_112 : decode cX0_done 112 = .ok (.aaload, 1) := dk_50 (dk_at dksX0_done_4 19 rfl rfl)
theorem dX0_done_113 : decode cX0_done 113 = .ok (.getfield 373, 3) := dk_180 1 117 (dk_at dksX0_done_4 20 rfl rfl)
theorem dX0_done_116 : decode cX0_done 116 = .ok (.iconst 0, 1) := dk_3 (dk_at dksX0_done_4 23 rfl rfl)
theorem dX0_done_117 : decode cX0_done 117 = .ok (.bipush 16, 2) := dk_16 16 (dk_at dksX0_done_5 0 rfl rfl)
theorem dX0_done_119 : decode cX0_done 119 = .ok (.invokestatic 149, 3) := dk_184 0 149 (dk_at dksX0_done_5 2 rfl rfl)
theorem dX0_done_122 : decode cX0_done 122 = .ok (.aload_n 0, 1) := dk_42 (dk_at dksX0_done_5 5 rfl rfl)
theorem dX0_done_123 : decode cX0_done 123 = .ok (.getfield 66, 3) := dk_180 0 66 (dk_at dksX0_done_5 6 rfl rfl)
theorem dX0_done_126 : decode cX0_done 126 = .ok (.getfield 374, 3) := dk_180 1 118 (dk_at dksX0_done_5 9 rfl rfl)
theorem dX0_done_129 : decode cX0_done 129 = .ok (.iconst 0, 1) := dk_3 (dk_at dksX0_done_5 12 rfl rfl)
theorem dX0_done_130 : decode cX0_done 130 = .ok (.aload_n 0, 1) := dk_42 (dk_at dksX0_done_5 13 rfl rfl)
theorem dX0_done_131 : decode cX0_done 131 = .ok (.getfield 70, 3) := dk_180 0 70 (dk_at dksX0_done_5 14 rfl rfl)
theorem dX0_done_134 : decode cX0_done 134 = .ok (.aload_n 0, 1) := dk_42 (dk_at dksX0_done_5 17 rfl rfl)
theorem dX0_done_135 : decode cX0_done 135 = .ok (.getfield 166, 3) := dk_180 0 166 (dk_at dksX0_done_5 18 rfl rfl)
theorem dX0_done_138 : decode cX0_done 138 = .ok (.aaload, 1) := dk_50 (dk_at dksX0_done_5 21 rfl rfl)
theorem dX0_done_139 : decode cX0_done 139 = .ok (.getfield 374, 3) := dk_180 1 118 (dk_at dksX0_done_6 0 rfl rfl)
theorem dX0_done_142 : decode cX0_done 142 = .ok (.iconst 0, 1) := dk_3 (dk_at dksX0_done_6 3 rfl rfl)
theorem dX0_done_143 : decode cX0_done 143 = .ok (.bipush 8, 2) := dk_16 8 (dk_at dksX0_done_6 4 rfl rfl)
theorem dX0_done_145 : decode cX0_done 145 = .ok (.invokestatic 149, 3) := dk_184 0 149 (dk_at dksX0_done_6 6 rfl rfl)
theorem dX0_done_148 : decode cX0_done 148 = .ok (.aload_n 0, 1) := dk_42 (dk_at dksX0_done_6 9 rfl rfl)
theorem dX0_done_149 : decode cX0_done 149 = .ok (.dup, 1) := dk_89 (dk_at dksX0_done_6 10 rfl rfl)
theorem dX0_done_150 : decode cX0_done 150 = .ok (.getfield 166, 3) := dk_180 0 166 (dk_at dksX0_done_6 11 rfl rfl)
theorem dX0_done_153 : decode cX0_done 153 = .ok (.iconst 1, 1) := dk_4 (dk_at dksX0_done_6 14 rfl rfl)
theorem dX0_done_154 : decode cX0_done 154 = .ok (.iadd, 1) := dk_96 (dk_at dksX0_done_6 15 rfl rfl)
theorem dX0_done_155 : decode cX0_done 155 = .ok (.putfield 166, 3) := dk_181 0 166 (dk_at dksX0_done_6 16 rfl rfl)
theorem dX0_done_158 : decode cX0_done 158 = .ok (.aload_n 0, 1) := dk_42 (dk_at dksX0_done_6 19 rfl rfl)
theorem dX0_done_159 : decode cX0_done 159 = .ok (.getfield 48, 3) := dk_180 0 48 (dk_at dksX0_done_6 20 rfl rfl)
theorem dX0_done_162 : decode cX0_done 162 = .ok (.getfield 323, 3) := dk_180 1 67 (dk_at dksX0_done_7 0 rfl rfl)
theorem dX0_done_165 : decode cX0_done 165 = .ok (.invokevirtual 335, 3) := dk_182 1 79 (dk_at dksX0_done_7 3 rfl rfl)
theorem dX0_done_168 : decode cX0_done 168 = .ok (.aload_n 0, 1) := dk_42 (dk_at dksX0_done_7 6 rfl rfl)
theorem dX0_done_169 : decode cX0_done 169 = .ok (.getfield 348, 3) := dk_180 1 92 (dk_at dksX0_done_7 7 rfl rfl)
theorem dX0_done_172 : decode cX0_done 172 = .ok (.ireturn, 1) := dk_172 (dk_at dksX0_done_7 10 rfl rfl)
