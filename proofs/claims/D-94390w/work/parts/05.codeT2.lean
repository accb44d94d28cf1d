set_option maxRecDepth 100000
abbrev cX9_putBack : ByteArray := prog_23_method_95_code
def yX9_putBack : MethodName := ⟨RX9, "putBack", "(I)V"⟩
def dkwX9_putBack_2 : List UInt8 := [28, 96, 42, 180, 0, 94, 16, 24, 27, 104, 16, 16, 96, 28, 96, 46, 79, 132, 2, 1, 167, 255, 224, 177]
abbrev dktX9_putBack_2 : List UInt8 := dkwX9_putBack_2 ++ []
def dkwX9_putBack_1 : List UInt8 := [28, 96, 46, 79, 132, 2, 1, 167, 255, 227, 3, 61, 28, 16, 8, 162, 0, 32, 42, 180, 0, 33, 16, 50]
abbrev dktX9_putBack_1 : List UInt8 := dkwX9_putBack_1 ++ dktX9_putBack_2
def dkwX9_putBack_0 : List UInt8 := [3, 61, 28, 16, 16, 162, 0, 29, 42, 180, 0, 33, 16, 10, 28, 96, 42, 180, 0, 94, 16, 24, 27, 104]
abbrev dktX9_putBack_0 : List UInt8 := dkwX9_putBack_0 ++ dktX9_putBack_1
theorem dksX9_putBack_0 : cX9_putBack.data.toList.drop 0 = dktX9_putBack_0 := by decide +kernel
theorem dksX9_putBack_1 : cX9_putBack.data.toList.drop 24 = dktX9_putBack_1 := dk_seg dksX9_putBack_0 24 rfl rfl
theorem dksX9_putBack_2 : cX9_putBack.data.toList.drop 48 = dktX9_putBack_2 := dk_seg dksX9_putBack_1 24 rfl rfl
theorem dX9_putBack_0 : decode cX9_putBack 0 = .ok (.iconst 0, 1) := dk_3 (dk_at dksX9_putBack_0 0 rfl rfl)
theorem dX9_putBack_1 : decode cX9_putBack 1 = .ok (.istore_n 2, 1) := dk_61 (dk_at dksX9_putBack_0 1 rfl rfl)
theorem dX9_putBack_2 : decode cX9_putBack 2 = .ok (.iload_n 2, 1) := dk_28 (dk_at dksX9_putBack_0 2 rfl rfl)
theorem dX9_putBack_3 : decode cX9_putBack 3 = .ok (.bipush 16, 2) := dk_16 16 (dk_at dksX9_putBack_0 3 rfl rfl)
theorem dX9_putBack_5 : decode cX9_putBack 5 = .ok (.if_icmp .ge 29, 3) := dk_162 0 29 (dk_at dksX9_putBack_0 5 rfl rfl)
theorem dX9_putBack_8 : decode cX9_putBack 8 = .ok (.aload_n 0, 1) := dk_42 (dk_at dksX9_putBack_0 8 rfl rfl)
theorem dX9_putBack_9 : decode cX9_putBack 9 = .ok (.getfield 33, 3) := dk_180 0 33 (dk_at dksX9_putBack_0 9 rfl rfl)
theorem dX9_putBack_12 : decode cX9_putBack 12 = .ok (.bipush 10, 2) := dk_16 10 (dk_at dksX9_putBack_0 12 rfl rfl)
theorem dX9_putBack_14 : decode cX9_putBack 14 = .ok (.iload_n 2, 1) := dk_28 (dk_at dksX9_putBack_0 14 rfl rfl)
theorem dX9_putBack_15 : decode cX9_putBack 15 = .ok (.iadd, 1) := dk_96 (dk_at dksX9_putBack_0 15 rfl rfl)
theorem dX9_putBack_16 : decode cX9_putBack 16 = .ok (.aload_n 0, 1) := dk_42 (dk_at dksX9_putBack_0 16 rfl rfl)
theorem dX9_putBack_17 : decode cX9_putBack 17 = .ok (.getfield 94, 3) := dk_180 0 94 (dk_at dksX9_putBack_0 17 rfl rfl)
theorem dX9_putBack_20 : decode cX9_putBack 20 = .ok (.bipush 24, 2) := dk_16 24 (dk_at dksX9_putBack_0 20 rfl rfl)
theorem dX9_putBack_22 : decode cX9_putBack 22 = .ok (.iload_n 1, 1) := dk_27 (dk_at dksX9_putBack_0 22 rfl rfl)
theorem dX9_putBack_23 : decode cX9_putBack 23 = .ok (.imul, 1) := dk_104 (dk_at dksX9_putBack_0 23 rfl rfl)
theorem dX9_putBack_24 : decode cX9_putBack 24 = .ok (.iload_n 2, 1) := dk_28 (dk_at dksX9_putBack_1 0 rfl rfl)
theorem dX9_putBack_25 : decode cX9_putBack 25 = .ok (.iadd, 1) := dk_96 (dk_at dksX9_putBack_1 1 rfl rfl)
theorem dX9_putBack_26 : decode cX9_putBack 26 = .ok (.iaload, 1) := dk_46 (dk_at dksX9_putBack_1 2 rfl rfl)
theorem dX9_putBack_27 : decode cX9_putBack 27 = .ok (.iastore, 1) := dk_79 (dk_at dksX9_putBack_1 3 rfl rfl)
theorem dX9_putBack_28 : decode cX9_putBack 28 = .ok (.iinc 2 1, 3) := dk_132 2 1 (dk_at dksX9_putBack_1 4 rfl rfl)
theorem dX9_putBack_31 : decode cX9_putBack 31 = .ok (.goto (-29), 3) := dk_167 255 227 (dk_at dksX9_putBack_1 7 rfl rfl)
theorem dX9_putBack_34 : decode cX9_putBack 34 = .ok (.iconst 0, 1) := dk_3 (dk_at dksX9_putBack_1 10 rfl rfl)
theorem dX9_putBack_35 : decode cX9_putBack 35 = .ok (.istore_n 2, 1) := dk_61 (dk_at dksX9_putBack_1 11 rfl rfl)
theorem dX9_putBack_36 : decode cX9_putBack 36 = .ok (.iload_n 2, 1) := dk_28 (dk_at dksX9_putBack_1 12 rfl rfl)
theorem dX9_putBack_37 : decode cX9_putBack 37 = .ok (.bipush 8, 2) := dk_16 8 (dk_at dksX9_putBack_1 13 rfl rfl)
theorem dX9_putBack_39 : decode cX9_putBack 39 = .ok (.if_icmp .ge 32, 3) := dk_162 0 32 (dk_at dksX9_putBack_1 15 rfl rfl)
theorem dX9_putBack_42 : decode cX9_putBack 42 = .ok (.aload_n 0, 1) := dk_42 (dk_at dksX9_putBack_1 18 rfl rfl)
theorem dX9_putBack_43 : decode cX9_putBack 43 = .ok (.getfield 33, 3) := dk_180 0 33 (dk_at dksX9_putBack_1 19 rfl rfl)
theorem dX9_putBack_46 : decode cX9_putBack 46 = .ok (.bipush 50, 2) := dk_16 50 (dk_at dksX9_putBack_1 22 rfl rfl)
theorem dX9_putBack_48 : decode cX9_putBack 48 = .ok (.iload_n 2, 1) := dk_28 (dk_at dksX9_putBack_2 0 rfl rfl)
theorem dX9_putBack_49 : decode cX9_putBack 49 = .ok (.iadd, 1) := dk_96 (dk_at dksX9_putBack_2 1 rfl rfl)
theorem dX9_putBack_50 : decode cX9_putBack 50 = .ok (.aload_n 0, 1) := dk_42 (dk_at dksX9_putBack_2 2 rfl rfl)
theorem dX9_putBack_51 : decode cX9_putBack 51 = .ok (.getfield 94, 3) := dk_180 0 94 (dk_at dksX9_putBack_2 3 rfl rfl)
theorem dX9_putBack_54 : decode cX9_putBack 54 = .ok (.bipush 24, 2) := dk_16 24 (dk_at dksX9_putBack_2 6 rfl rfl)
theorem dX9_putBack_56 : decode cX9_putBack 56 = .ok (.iload_n 1, 1) := dk_27 (dk_at dksX9_putBack_2 8 rfl rfl)
theorem dX9_putBack_57 : decode cX9_putBack 57 = .ok (.imul, 1) := dk_104 (dk_at dksX9_putBack_2 9 rfl rfl)
theorem dX9_putBack_58 : decode cX9_putBack 58 = .ok (.bipush 16, 2) := dk_16 16 (dk_at dksX9_putBack_2 10 rfl rfl)
theorem dX9_putBack_60 : decode cX9_putBack 60 = .ok (.iadd, 1) := dk_96 (dk_at dksX9_putBack_2 12 rfl rfl)
theorem dX9_putBack_61 : decode cX9_putBack 61 = .ok (.iload_n 2, 1) := dk_28 (dk_at dksX9_putBack_2 13 rfl rfl)
theorem dX9_putBack_62 : decode cX9_putBack 62 = .ok (.iadd, 1) := dk_96 (dk_at dksX9_putBack_2 14 rfl rfl)
theorem dX9_putBack_63 : decode cX9_putBack 63 = .ok (.iaload, 1) := dk_46 (dk_at dksX9_putBack_2 15 rfl rfl)
theorem dX9_putBack_64 : decode cX9_putBack 64 = .ok (.iastore, 1) := dk_79 (dk_at dksX9_putBack_2 16 rfl rfl)
theorem dX9_putBack_65 : decode cX9_putBack 65 = .ok (.iinc 2 1, 3) := dk_132 2 1 (dk_at dksX9_putBack_2 17 rfl rfl)
theorem dX9_putBack_68 : decode cX9_putBack 68 = .ok (.goto (-32), 3) := dk_167 255 224 (dk_at dksX9_putBack_2 20 rfl rfl)
theorem dX9_putBack_71 : decode cX9_putBack 71 = .ok (.return_, 1) := dk_177 (dk_at dksX9_putBack_2 23 rfl rfl)
abbrev cX9_done : ByteArray := prog_23_method_99_code
def yX9_done : MethodName := ⟨RX9, "done", "()I"⟩
def dkwX9_done_5 : List UInt8 := [180, 1, 27, 4, 96, 181, 1, 27, 42, 180, 0, 33, 4, 3, 79, 42, 180, 1, 192, 172]
abbrev dktX9_done_5 : List UInt8 := dkwX9_done_5 ++ []
def dkwX9_done_4 : List UInt8 := [104, 27, 96, 42, 180, 0, 94, 17, 1, 224, 27, 96, 46, 79, 132, 1, 1, 167, 255, 223, 42, 89]
abbrev dktX9_done_4 : List UInt8 := dkwX9_done_4 ++ dktX9_done_5
def dkwX9_done_3 : List UInt8 := [42, 16, 19, 181, 1, 27, 3, 60, 27, 16, 24, 162, 0, 33, 42, 180, 0, 94, 16, 24, 42, 180, 1, 27]
abbrev dktX9_done_3 : List UInt8 := dkwX9_done_3 ++ dktX9_done_4
def dkwX9_done_2 : List UInt8 := [162, 0, 24, 42, 180, 0, 94, 27, 42, 180, 0, 94, 27, 16, 24, 96, 46, 79, 132, 1, 1, 167, 255, 231]
abbrev dktX9_done_2 : List UInt8 := dkwX9_done_2 ++ dktX9_done_3
def dkwX9_done_1 : List UInt8 := [42, 16, 20, 182, 1, 204, 16, 254, 172, 42, 180, 1, 27, 16, 20, 160, 0, 39, 3, 60, 27, 17, 1, 200]
abbrev dktX9_done_1 : List UInt8 := dkwX9_done_1 ++ dktX9_done_2
def dkwX9_done_0 : List UInt8 := [42, 180, 0, 33, 4, 46, 154, 0, 5, 3, 172, 42, 16, 20, 182, 1, 198, 42, 182, 1, 201, 153, 0, 12]
abbrev dktX9_done_0 : List UInt8 := dkwX9_done_0 ++ dktX9_done_1
theorem dksX9_done_0 : cX9_done.data.toList.drop 0 = dktX9_done_0 := by decide +kernel
theorem dksX9_done_1 : cX9_done.data.toList.drop 24 = dktX9_done_1 := dk_seg dksX9_done_0 24 rfl rfl
theorem dksX9_done_2 : cX9_done.data.toList.drop 48 = dktX9_done_2 := dk_seg dksX9_done_1 24 rfl rfl
theorem dksX9_done_3 : cX9_done.data.toList.drop 72 = dktX9_done_3 := dk_seg dksX9_done_2 24 rfl rfl
theorem dksX9_done_4 : cX9_done.data.toList.drop 96 = dktX9_done_4 := dk_seg dksX9_done_3 24 rfl rfl
theorem dksX9_done_5 : cX9_done.data.toList.drop 118 = dktX9_done_5 := dk_seg dksX9_done_4 22 rfl rfl
theorem dX9_done_0 : decode cX9_done 0 = .ok (.aload_n 0, 1) := dk_42 (dk_at dksX9_done_0 0 rfl rfl)
theorem dX9_done_1 : decode cX9_done 1 = .ok (.getfield 33, 3) := dk_180 0 33 (dk_at dksX9_done_0 1 rfl rfl)
theorem dX9_done_4 : decode cX9_done 4 = .ok (.iconst 1, 1) := dk_4 (dk_at dksX9_done_0 4 rfl rfl)
theorem dX9_done_5 : decode cX9_done 5 = .ok (.iaload, 1) := dk_46 (dk_at dksX9_done_0 5 rfl rfl)
theorem dX9_done_6 : decode cX9_done 6 = .ok (.ifCond .ne 5, 3) := dk_154 0 5 (dk_at dksX9_done_0 6 rfl rfl)
theorem dX9_done_9 : decode cX9_done 9 = .ok (.iconst 0, 1) := dk_3 (dk_at dksX9_done_0 9 rfl rfl)
theorem dX9_done_10 : decode cX9_done 10 = .ok (.ireturn, 1) := dk_172 (dk_at dksX9_done_0 10 rfl rfl)
theorem dX9_done_11 : decode cX9_done 11 = .ok (.aload_n 0, 1) := dk_42 (dk_at dksX9_done_0 11 rfl rfl)
theorem dX9_done_12 : decode cX9_done 12 = .ok (.bipush 20, 2) := dk_16 20 (dk_at dksX9_done_0 12 rfl rfl)
theorem dX9_done_14 : decode cX9_done 14 = .ok (.invokevirtual 454, 3) := dk_182 1 198 (dk_at dksX9_done_0 14 rfl rfl)
theorem dX9_done_17 : decode cX9_done 17 = .ok (.aload_n 0, 1) := dk_42 (dk_at dksX9_done_0 17 rfl rfl)
theorem dX9_done_18 : decode cX9_done 18 = .ok (.invokevirtual 457, 3) := dk_182 1 201 (dk_at dksX9_done_0 18 rfl rfl)
theorem dX9_done_21 : decode cX9_done 21 = .ok (.ifCond .eq 12, 3) := dk_153 0 12 (dk_at dksX9_done_0 21 rfl rfl)
theorem dX9_done_24 : decode cX9_done 24 = .ok (.aload_n 0, 1) := dk_42 (dk_at dksX9_done_1 0 rfl rfl)
theorem dX9_done_25 : decode cX9_done 25 = .ok (.bipush 20, 2) := dk_16 20 (dk_at dksX9_done_1 1 rfl rfl)
theorem dX9_done_27 : decode cX9_done 27 = .ok (.invokevirtual 460, 3) := dk_182 1 204 (dk_at dksX9_done_1 3 rfl rfl)
theorem dX9_done_30 : decode cX9_done 30 = .ok (.bipush (-2), 2) := dk_16 254 (dk_at dksX9_done_1 6 rfl rfl)
theorem dX9_done_32 : decode cX9_done 32 = .ok (.ireturn, 1) := dk_172 (dk_at dksX9_done_1 8 rfl rfl)
theorem dX9_done_33 : decode cX9_done 33 = .ok (.aload_n 0, 1) := dk_42 (dk_at dksX9_done_1 9 rfl rfl)
theorem dX9_done_34 : decode cX9_done 34 = .ok (.getfield 283, 3) := dk_180 1 27 (dk_at dksX9_done_1 10 rfl rfl)
theorem dX9_done_37 : decode cX9_done 37 = .ok (.bipush 20, 2) := dk_16 20 (dk_at dksX9_done_1 13 rfl rfl)
theorem dX9_done_39 : decode cX9_done 39 = .ok (.if_icmp .ne 39, 3) := dk_160 0 39 (dk_at dksX9_done_1 15 rfl rfl)
theorem dX9_done_42 : decode cX9_done 42 = .ok (.iconst 0, 1) := dk_3 (dk_at dksX9_done_1 18 rfl rfl)
theorem dX9_done_43 : decode cX9_done 43 = .ok (.istore_n 1, 1) := dk_60 (dk_at dksX9_done_1 19 rfl rfl)
theorem dX9_done_44 : decode cX9_done 44 = .ok (.iload_n 1, 1) := dk_27 (dk_at dksX9_done_1 20 rfl rfl)
theorem dX9_done_45 : decode cX9_done 45 = .ok (.sipush 456, 3) := dk_17 1 200 (dk_at dksX9_done_1 21 rfl rfl)
theorem dX9_done_48 : decode cX9_done 48 = .ok (.if_icmp .ge 24, 3) := dk_162 0 24 (dk_at dksX9_done_2 0 rfl rfl)
theorem dX9_done_51 : decode cX9_done 51 = .ok (.aload_n 0, 1) := dk_42 (dk_at dksX9_done_2 3 rfl rfl)
theorem dX9_done_52 : decode cX9_done 52 = .ok (.getfield 94, 3) := dk_180 0 94 (dk_at dksX9_done_2 4 rfl rfl)
theorem dX9_done_55 : decode cX9_done 55 = .ok (.iload_n 1, 1) := dk_27 (dk_at dksX9_done_2 7 rfl rfl)
theorem dX9_done_56 : decode cX9_done 56 = .ok (.aload_n 0, 1) := dk_42 (dk_at dksX9_done_2 8 rfl rfl)
theorem dX9_done_57 : decode cX9_done 57 = .ok (.getfield 94, 3) := dk_180 0 94 (dk_at dksX9_done_2 9 rfl rfl)
theorem dX9_done_60 : decode cX9_done 60 = .ok (.iload_n 1, 1) := dk_27 (dk_at dksX9_done_2 12 rfl rfl)
theorem dX9_done_61 : decode cX9_done 61 = .ok (.bipush 24, 2) := dk_16 24 (dk_at dksX9_done_2 13 rfl rfl)
theorem dX9_done_63 : decode cX9_done 63 = .ok (.iadd, 1) := dk_96 (dk_at dksX9_done_2 15 rfl rfl)
theorem dX9_done_64 : decode cX9_done 64 = .ok (.iaload, 1) := dk_46 (dk_at dksX9_done_2 16 rfl rfl)
theorem dX9_done_65 : decode cX9_done 65 = .ok (.iastore, 1) := dk_79 (dk_at dksX9_done_2 17 rfl rfl)
theorem dX9_done_66 : decode cX9_done 66 = .ok (.iinc 1 1, 3) := dk_132 1 1 (dk_at dksX9_done_2 18 rfl rfl)
theorem dX9_done_69 : decode cX9_done 69 = .ok (.goto (-25), 3) := dk_167 255 231 (dk_at dksX9_done_2 21 rfl rfl)
theorem dX9_done_72 : decode cX9_done 72 = .ok (.aload_n 0, 1) := dk_42 (dk_at dksX9_done_3 0 rfl rfl)
theorem dX9_done_73 : decode cX9_done 73 = .ok (.bipush 19, 2) := dk_16 19 (dk_at dksX9_done_3 1 rfl rfl)
theorem dX9_done_75 : decode cX9_done 75 = .ok (.putfield 283, 3) := dk_181 1 27 (dk_at dksX9_done_3 3 rfl rfl)
theorem dX9_done_78 : decode cX9_done 78 = .ok (.iconst 0, 1) := dk_3 (dk_at dksX9_done_3 6 rfl rfl)
theorem dX9_done_79 : decode cX9_done 79 = .ok (.istore_n 1, 1) := dk_60 (dk_at dksX9_done_3 7 rfl rfl)
theorem dX9_done_80 : decode cX9_done 80 = .ok (.iload_n 1, 1) := dk_27 (dk_at dksX9_done_3 8 rfl rfl)
theorem dX9_done_81 : decode cX9_done 81 = .ok (.bipush 24, 2) := dk_16 24 (dk_at dksX9_done_3 9 rfl rfl)
theorem dX9_done_83 : decode cX9_done 83 = .ok (.if_icmp .ge 33, 3) := dk_162 0 33 (dk_at dksX9_done_3 11 rfl rfl)
theorem dX9_done_86 : decode cX9_done 86 = .ok (.aload_n 0, 1) := dk_42 (dk_at dksX9_done_3 14 rfl rfl)
theorem dX9_done_87 : decode cX9_done 87 = .ok (.getfield 94, 3) := dk_180 0 94 (dk_at dksX9_done_3 15 rfl rfl)
theorem dX9_done_90 : decode cX9_done 90 = .ok (.bipush 24, 2) := dk_16 24 (dk_at dksX9_done_3 18 rfl rfl)
theorem dX9_done_92 : decode cX9_done 92 = .ok (.aload_n 0, 1) := dk_42 (dk_at dksX9_done_3 20 rfl rfl)
theorem dX9_done_93 : decode cX9_done 93 = .ok (.getfield 283, 3) := dk_180 1 27 (dk_at dksX9_done_3 21 rfl rfl)
theorem dX9_done_96 : decode cX9_done 96 = .ok (.imul, 1) := dk_104 (dk_at dksX9_done_4 0 rfl rfl)
theorem dX9_done_97 : decode cX9_done 97 = .ok (.iload_n 1, 1) := dk_27 (dk_at dksX9_done_4 1 rfl rfl)
theorem dX9_done_98 : decode cX9_done 98 = .ok (.iadd, 1) := dk_96 (dk_at dksX9_done_4 2 rfl rfl)
theorem dX9_done_99 : decode cX9_done 99 = .ok (.aload_n 0, 1) := dk_42 (dk_at dksX9_done_4 3 rfl rfl)
theorem dX9_done_100 : decode cX9_done 100 = .ok (.getfield 94, 3) := dk_180 0 94 (dk_at dksX9_done_4 4 rfl rfl)
theorem dX9_done_103 : decode cX9_done 103 = .ok (.sipush 480, 3) := dk_17 1 224 (dk_at dksX9_done_4 7 rfl rfl)
theorem dX9_done_106 : decode cX9_done 106 = .ok (.iload_n 1, 1) := dk_27 (dk_at dksX9_done_4 10 rfl rfl)
theorem dX9_done_107 : decode cX9_done 107 = .ok (.iadd, 1) := dk_96 (dk_at dksX9_done_4 11 rfl rfl)
theorem dX9_done_108 : decode cX9_done 108 = .ok (.iaload, 1) := dk_46 (dk_at dksX9_done_4 12 rfl rfl)
theorem dX9_done_109 : decode cX9_done 109 = .ok (.iastore, 1) := dk_79 (dk_at dksX9_done_4 13 rfl rfl)
theorem dX9_done_110 : decode cX9_done 110 = .ok (.iinc 1 1, 3) := dk_132 1 1 (dk_at dksX9_done_4 14 rfl rfl)
theorem dX9_done_113 : decode cX9_done 113 = .ok (.goto (-33), 3) := dk_167 255 223 (dk_at dksX9_done_4 17 rfl rfl)
theorem dX9_done_116 : decode cX9_done 116 = .ok (.aload_n 0, 1) := dk_42 (dk_at dksX9_done_4 20 rfl rfl)
theorem dX9_done_117 : decode cX9_done 117 = .ok (.dup, 1) := dk_89 (dk_at dksX9_done_4 21 rfl rfl)
theorem dX9_done_118 : decode cX9_done 118 = .ok (.getfield 283, 3) := dk_180 1 27 (dk_at dksX9_done_5 0 rfl rfl)
theorem dX9_done_121 : decode cX9_done 121 = .ok (.iconst 1, 1) := dk_4 (dk_at dksX9_done_5 3 rfl rfl)
theorem dX9_done_122 : decode cX9_done 122 = .ok (.iadd, 1) := dk_96 (dk_at dksX9_done_5 4 rfl rfl)
theorem dX9_done_123 : decode cX9_done 123 = .ok (.putfield 283, 3) := dk_181 1 27 (dk_at dksX9_done_5 5 rfl rfl)
theorem dX9_done_126 : decode cX9_done 126 = .ok (.aload_n 0, 1) := dk_42 (dk_at dksX9_done_5 8 rfl rfl)
theorem dX9_done_127 : decode cX9_done 127 = .ok (.getfield 33, 3) := dk_180 0 33 (dk_at dksX9_done_5 9 rfl rfl)
theorem dX9_done_130 : decode cX9_done 130 = .ok (.iconst 1, 1) := dk_4 (dk_at dksX9_done_5 12 rfl rfl)
theorem dX9_done_131 : decode cX9_done 131 = .ok (.iconst 0, 1) := dk_3 (dk_at dksX9_done_5 13 rfl rfl)
theorem dX9_done_132 : decode cX9_done 132 = .ok (.iastore, 1) := dk_79 (dk_at dksX9_done_5 14 rfl rfl)
theorem dX9_done_133 : decode cX9_done 133 = .ok (.aload_n 0, 1) := dk_42 (dk_at dksX9_done_5 15 rfl rfl)
theorem dX9_done_134 : decode cX9_done 134 = .ok (.getfield 448, 3) := dk_180 1 192 (dk_at dksX9_done_5 16 rfl rfl)
theorem dX9_done_137 : decode cX9_done 137 = .ok (.ireturn, 1) := dk_172 (dk_at dksX9_done_5 19 rfl rfl)
abbrev cX9_undo : ByteArray := prog_23_method_100_code
def yX9_undo : MethodName := ⟨RX9, "undo", "()Z"⟩
def dkwX9_undo_1 : List UInt8 := [182, 1, 204, 4, 172]
abbrev dktX9_undo_1 : List UInt8 := dkwX9_undo_1 ++ []
def dkwX9_undo_0 : List UInt8 := [42, 180, 1, 27, 154, 0, 5, 3, 172, 42, 89, 180, 1, 27, 4, 100, 181, 1, 27, 42, 42, 180, 1, 27]
abbrev dktX9_undo_0 : List UInt8 := dkwX9_undo_0 ++ dktX9_undo_1
theorem dksX9_undo_0 : cX9_undo.data.toList.drop 0 = dktX9_undo_0 := by decide +kernel
theorem dksX9_undo_1 : cX9_undo.data.toList.drop 24 = dktX9_undo_1 := dk_seg dksX9_undo_0 24 rfl rfl
theorem dX9_undo_0 : decode cX9_undo 0 = .ok (.aload_n 0, 1) := dk_42 (dk_at dksX9_undo_0 0 rfl rfl)
theorem dX9_undo_1 : decode cX9_undo 1 = .ok (.getfield 283, 3) := dk_180 1 27 (dk_at dksX9_undo_0 1 rfl rfl)
theorem dX9_undo_4 : decode cX9_undo 4 = .ok (.ifCond .ne 5, 3) := dk_154 0 5 (dk_at dksX9_undo_0 4 rfl rfl)
theorem dX9_undo_7 : decode cX9_undo 7 = .ok (.iconst 0, 1) := dk_3 (dk_at dksX9_undo_0 7 rfl rfl)
theorem dX9_undo_8 : decode cX9_undo 8 = .ok (.ireturn, 1) := dk_172 (dk_at dksX9_undo_0 8 rfl rfl)
theorem dX9_undo_9 : decode cX9_undo 9 = .ok (.aload_n 0, 1) := dk_42 (dk_at dksX9_undo_0 9 rfl rfl)
theorem dX9_undo_10 : decode cX9_undo 10 = .ok (.dup, 1) := dk_89 (dk_at dksX9_undo_0 10 rfl rfl)
theorem dX9_undo_11 : decode cX9_undo 11 = .ok (.getfield 283, 3) := dk_180 1 27 (dk_at dksX9_undo_0 11 rfl rfl)
theorem dX9_undo_14 : decode cX9_undo 14 = .ok (.iconst 1, 1) := dk_4 (dk_at dksX9_undo_0 14 rfl rfl)
theorem dX9_undo_15 : decode cX9_undo 15 = .ok (.isub, 1) := dk_100 (dk_at dksX9_undo_0 15 rfl rfl)
theorem dX9_undo_16 : decode cX9_undo 16 = .ok (.putfield 283, 3) := dk_181 1 27 (dk_at dksX9_undo_0 16 rfl rfl)
theorem dX9_undo_19 : decode cX9_undo 19 = .ok (.aload_n 0, 1) := dk_42 (dk_at dksX9_undo_0 19 rfl rfl)
theorem dX9_undo_20 : decode cX9_undo 20 = .ok (.aload_n 0, 1) := dk_42 (dk_at dksX9_undo_0 20 rfl rfl)
theorem dX9_undo_21 : decode cX9_undo 21 = .ok (.getfield 283, 3) := dk_180 1 27 (dk_at dksX9_undo_0 21 rfl rfl)
theorem dX9_undo_24 : decode cX9_undo 24 = .ok (.invokevirtual 460, 3) := dk_182 1 204 (dk_at dksX9_undo_1 0 rfl rfl)
theorem dX9_undo_27 : decode cX9_undo 27 = .ok (.iconst 1, 1) := dk_4 (dk_at dksX9_undo_1 3 rfl rfl)
theorem dX9_undo_28 : decode cX9_undo 28 = .ok (.ireturn, 1) := dk_172 (dk_at dksX9_undo_1 4 rfl rfl)
abbrev cX9_nights : ByteArray := prog_23_method_104_code
def yX9_nights : MethodName := ⟨RX9, "nights", "(I)I"⟩
def dkwX9_nights_7 : List UInt8 := [167, 0, 7, 42, 182, 1, 216, 172]
abbrev dktX9_nights_7 : List UInt8 := dkwX9_nights_7 ++ []
def dkwX9_nights_6 : List UInt8 := [46, 19, 1, 185, 161, 0, 8, 16, 254, 167, 0, 20, 27, 154, 0, 12, 42, 180, 0, 106, 3, 46]
abbrev dktX9_nights_6 : List UInt8 := dkwX9_nights_6 ++ dktX9_nights_7
def dkwX9_nights_5 : List UInt8 := [164, 0, 6, 16, 254, 172, 42, 180, 1, 207, 154, 0, 5, 3, 172, 42, 182, 1, 213, 42, 180, 0, 106, 3]
abbrev dktX9_nights_5 : List UInt8 := dkwX9_nights_5 ++ dktX9_nights_6
def dkwX9_nights_4 : List UInt8 := [180, 0, 30, 16, 6, 46, 96, 4, 100, 42, 180, 0, 30, 16, 6, 46, 108, 172, 42, 180, 1, 207, 16, 8]
abbrev dktX9_nights_4 : List UInt8 := dkwX9_nights_4 ++ dktX9_nights_5
def dkwX9_nights_3 : List UInt8 := [180, 1, 207, 4, 96, 181, 1, 207, 132, 3, 1, 167, 255, 198, 27, 5, 160, 0, 26, 42, 180, 1, 207, 42]
abbrev dktX9_nights_3 : List UInt8 := dkwX9_nights_3 ++ dktX9_nights_4
def dkwX9_nights_2 : List UInt8 := [42, 180, 1, 207, 29, 79, 42, 180, 0, 100, 42, 180, 1, 207, 42, 29, 182, 1, 127, 79, 42, 89]
abbrev dktX9_nights_2 : List UInt8 := dkwX9_nights_2 ++ dktX9_nights_3
def dkwX9_nights_1 : List UInt8 := [42, 180, 0, 30, 3, 46, 162, 0, 54, 28, 29, 122, 4, 126, 154, 0, 6, 167, 0, 37, 42, 180, 0, 97]
abbrev dktX9_nights_1 : List UInt8 := dkwX9_nights_1 ++ dktX9_nights_2
def dkwX9_nights_0 : List UInt8 := [27, 3, 5, 184, 1, 136, 154, 0, 5, 2, 172, 42, 182, 1, 179, 61, 42, 3, 181, 1, 207, 3, 62, 29]
abbrev dktX9_nights_0 : List UInt8 := dkwX9_nights_0 ++ dktX9_nights_1
theorem dksX9_nights_0 : cX9_nights.data.toList.drop 0 = dktX9_nights_0 := by decide +kernel
theorem dksX9_nights_1 : cX9_nights.data.toList.drop 24 = dktX9_nights_1 := dk_seg dksX9_nights_0 24 rfl rfl
theorem dksX9_nights_2 : cX9_nights.data.toList.drop 48 = dktX9_nights_2 := dk_seg dksX9_nights_1 24 rfl rfl
theorem dksX9_nights_3 : cX9_nights.data.toList.drop 70 = dktX9_nights_3 := dk_seg dksX9_nights_2 22 rfl rfl
theorem dksX9_nights_4 : cX9_nights.data.toList.drop 94 = dktX9_nights_4 := dk_seg dksX9_nights_3 24 rfl rfl
theorem dksX9_nights_5 : cX9_nights.data.toList.drop 118 = dktX9_nights_5 := dk_seg dksX9_nights_4 24 rfl rfl
theorem dksX9_nights_6 : cX9_nights.data.toList.drop 142 = dktX9_nights_6 := dk_seg dksX9_nights_5 24 rfl rfl
theorem dksX9_nights_7 : cX9_nights.data.toList.drop 164 = dktX9_nights_7 := dk_seg dksX9_nights_6 22 rfl rfl
theorem dX9_nights_0 : decode cX9_nights 0 = .ok (.iload_n 1, 1) := dk_27 (dk_at dksX9_nights_0 0 rfl rfl)
theorem dX9_nights_1 : decode cX9_nights 1 = .ok (.iconst 0, 1) := dk_3 (dk_at dksX9_nights_0 1 rfl rfl)
theorem dX9_nights_2 : decode cX9_nights 2 = .ok (.iconst 2, 1) := dk_5 (dk_at dksX9_nights_0 2 rfl rfl)
theorem dX9_nights_3 : decode cX9_nights 3 = .ok (.invokestatic 392, 3) := dk_184 1 136 (dk_at dksX9_nights_0 3 rfl rfl)
theorem dX9_nights_6 : decode cX9_nights 6 = .ok (.ifCond .ne 5, 3) := dk_154 0 5 (dk_at dksX9_nights_0 6 rfl rfl)
theorem dX9_nights_9 : decode cX9_nights 9 = .ok (.iconst (-1), 1) := dk_2 (dk_at dksX9_nights_0 9 rfl rfl)
theorem dX9_nights_10 : decode cX9_nights 10 = .ok (.ireturn, 1) := dk_172 (dk_at dksX9_nights_0 10 rfl rfl)
theorem dX9_nights_11 : decode cX9_nights 11 = .ok (.aload_n 0, 1) := dk_42 (dk_at dksX9_nights_0 11 rfl rfl)
theorem dX9_nights_12 : decode cX9_nights 12 = .ok (.invokevirtual 435, 3) := dk_182 1 179 (dk_at dksX9_nights_0 12 rfl rfl)
theorem dX9_nights_15 : decode cX9_nights 15 = .ok (.istore_n 2, 1) := dk_61 (dk_at dksX9_nights_0 15 rfl rfl)
theorem dX9_nights_16 : decode cX9_nights 16 = .ok (.aload_n 0, 1) := dk_42 (dk_at dksX9_nights_0 16 rfl rfl)
theorem dX9_nights_17 : decode cX9_nights 17 = .ok (.iconst 0, 1) := dk_3 (dk_at dksX9_nights_0 17 rfl rfl)
theorem dX9_nights_18 : decode cX9_nights 18 = .ok (.putfield 463, 3) := dk_181 1 207 (dk_at dksX9_nights_0 18 rfl rfl)
theorem dX9_nights_21 : decode cX9_nights 21 = .ok (.iconst 0, 1) := dk_3 (dk_at dksX9_nights_0 21 rfl rfl)
theorem dX9_nights_22 : decode cX9_nights 22 = .ok (.istore_n 3, 1) := dk_62 (dk_at dksX9_nights_0 22 rfl rfl)
theorem dX9_nights_23 : decode cX9_nights 23 = .ok (.iload_n 3, 1) := dk_29 (dk_at dksX9_nights_0 23 rfl rfl)
theorem dX9_nights_24 : decode cX9_nights 24 = .ok (.aload_n 0, 1) := dk_42 (dk_at dksX9_nights_1 0 rfl rfl)
theorem dX9_nights_25 : decode cX9_nights 25 = .ok (.getfield 30, 3) := dk_180 0 30 (dk_at dksX9_nights_1 1 rfl rfl)
theorem dX9_nights_28 : decode cX9_nights 28 = .ok (.iconst 0, 1) := dk_3 (dk_at dksX9_nights_1 4 rfl rfl)
theorem dX9_nights_29 : decode cX9_nights 29 = .ok (.iaload, 1) := dk_46 (dk_at dksX9_nights_1 5 rfl rfl)
theorem dX9_nights_30 : decode cX9_nights 30 = .ok (.if_icmp .ge 54, 3) := dk_162 0 54 (dk_at dksX9_nights_1 6 rfl rfl)
theorem dX9_nights_33 : decode cX9_nights 33 = .ok (.iload_n 2, 1) := dk_28 (dk_at dksX9_nights_1 9 rfl rfl)
theorem dX9_nights_34 : decode cX9_nights 34 = .ok (.iload_n 3, 1) := dk_29 (dk_at dksX9_nights_1 10 rfl rfl)
theorem dX9_nights_35 : decode cX9_nights 35 = .ok (.ishr, 1) := dk_122 (dk_at dksX9_nights_1 11 rfl rfl)
theorem dX9_nights_36 : decode cX9_nights 36 = .ok (.iconst 1, 1) := dk_4 (dk_at dksX9_nights_1 12 rfl rfl)
theorem dX9_nights_37 : decode cX9_nights 37 = .ok (.iand, 1) := dk_126 (dk_at dksX9_nights_1 13 rfl rfl)
theorem dX9_nights_38 : decode cX9_nights 38 = .ok (.ifCond .ne 6, 3) := dk_154 0 6 (dk_at dksX9_nights_1 14 rfl rfl)
theorem dX9_nights_41 : decode cX9_nights 41 = .ok (.goto 37, 3) := dk_167 0 37 (dk_at dksX9_nights_1 17 rfl rfl)
theorem dX9_nights_44 : decode cX9_nights 44 = .ok (.aload_n 0, 1) := dk_42 (dk_at dksX9_nights_1 20 rfl rfl)
theorem dX9_nights_45 : decode cX9_nights 45 = .ok (.getfield 97, 3) := dk_180 0 97 (dk_at dksX9_nights_1 21 rfl rfl)
theorem dX9_nights_48 : decode cX9_nights 48 = .ok (.aload_n 0, 1) := dk_42 (dk_at dksX9_nights_2 0 rfl rfl)
theorem dX9_nights_49 : decode cX9_nights 49 = .ok (.getfield 463, 3) := dk_180 1 207 (dk_at dksX9_nights_2 1 rfl rfl)
theorem dX9_nights_52 : decode cX9_nights 52 = .ok (.iload_n 3, 1) := dk_29 (dk_at dksX9_nights_2 4 rfl rfl)
theorem dX9_nights_53 : decode cX9_nights 53 = .ok (.iastore, 1) := dk_79 (dk_at dksX9_nights_2 5 rfl rfl)
theorem dX9_nights_54 : decode cX9_nights 54 = .ok (.aload_n 0, 1) := dk_42 (dk_at dksX9_nights_2 6 rfl rfl)
theorem dX9_nights_55 : decode cX9_nights 55 = .ok (.getfield 100, 3) := dk_180 0 100 (dk_at dksX9_nights_2 7 rfl rfl)
theorem dX9_nights_58 : decode cX9_nights 58 = .ok (.aload_n 0, 1) := dk_42 (dk_at dksX9_nights_2 10 rfl rfl)
theorem dX9_nights_59 : decode cX9_nights 59 = .ok (.getfield 463, 3) := dk_180 1 207 (dk_at dksX9_nights_2 11 rfl rfl)
theorem dX9_nights_62 : decode cX9_nights 62 = .ok (.aload_n 0, 1) := dk_42 (dk_at dksX9_nights_2 14 rfl rfl)
theorem dX9_nights_63 : decode cX9_nights 63 = .ok (.iload_n 3, 1) := dk_29 (dk_at dksX9_nights_2 15 rfl rfl)
theorem dX9_nights_64 : decode cX9_nights 64 = .ok (.invokevirtual 383, 3) := dk_182 1 127 (dk_at dksX9_nights_2 16 rfl rfl)
theorem dX9_nights_67 : decode cX9_nights 67 = .ok (.iastore, 1) := dk_79 (dk_at dksX9_nights_2 19 rfl rfl)
theorem dX9_nights_68 : decode cX9_nights 68 = .ok (.aload_n 0, 1) := dk_42 (dk_at dksX9_nights_2 20 rfl rfl)
theorem dX9_nights_69 : decode cX9_nights 69 = .ok (.dup, 1) := dk_89 (dk_at dksX9_nights_2 21 rfl rfl)
theorem dX9_nights_70 : decode cX9_nights 70 = .ok (.getfield 463, 3) := dk_180 1 207 (dk_at dksX9_nights_3 0 rfl rfl)
theorem dX9_nights_73 : decode cX9_nights 73 = .ok (.iconst 1, 1) := dk_4 (dk_at dksX9_nights_3 3 rfl rfl)
theorem dX9_nights_74 : decode cX9_nights 74 = .ok (.iadd, 1) := dk_96 (dk_at dksX9_nights_3 4 rfl rfl)
theorem dX9_nights_75 : decode cX9_nights 75 = .ok (.putfield 463, 3) := dk_181 1 207 (dk_at dksX9_nights_3 5 rfl rfl)
theorem dX9_nights_78 : decode cX9_nights 78 = .ok (.iinc 3 1, 3) := dk_132 3 1 (dk_at dksX9_nights_3 8 rfl rfl)
theorem dX9_nights_81 : decode cX9_nights 81 = .ok (.goto (-58), 3) := dk_167 255 198 (dk_at dksX9_nights_3 11 rfl rfl)
theorem dX9_nights_84 : decode cX9_nights 84 = .ok (.iload_n 1, 1) := dk_27 (dk_at dksX9_nights_3 14 rfl rfl)
theorem dX9_nights_85 : decode cX9_nights 85 = .ok (.iconst 2, 1) := dk_5 (dk_at dksX9_nights_3 15 rfl rfl)
theorem dX9_nights_86 : decode cX9_nights 86 = .ok (.if_icmp .ne 26, 3) := dk_160 0 26 (dk_at dksX9_nights_3 16 rfl rfl)
theorem dX9_nights_89 : decode cX9_nights 89 = .ok (.aload_n 0, 1) := dk_42 (dk_at dksX9_nights_3 19 rfl rfl)
theorem dX9_nights_90 : decode cX9_nights 90 = .ok (.getfield 463, 3) := dk_180 1 207 (dk_at dksX9_nights_3 20 rfl rfl)
theorem dX9_nights_93 : decode cX9_nights 93 = .ok (.aload_n 0, 1) := dk_42 (dk_at dksX9_nights_3 23 rfl rfl)
theorem dX9_nights_94 : decode cX9_nights 94 = .ok (.getfield 30, 3) := dk_180 0 30 (dk_at dksX9_nights_4 0 rfl rfl)
theorem dX9_nights_97 : decode cX9_nights 97 = .ok (.bipush 6, 2) := dk_16 6 (dk_at dksX9_nights_4 3 rfl rfl)
theorem dX9_nights_99 : decode cX9_nights 99 = .ok (.iaload, 1) := dk_46 (dk_at dksX9_nights_4 5 rfl rfl)
theorem dX9_nights_100 : decode cX9_nights 100 = .ok (.iadd, 1) := dk_96 (dk_at dksX9_nights_4 6 rfl rfl)
theorem dX9_nights_101 : decode cX9_nights 101 = .ok (.iconst 1, 1) := dk_4 (dk_at dksX9_nights_4 7 rfl rfl)
theorem dX9_nights_102 : decode cX9_nights 102 = .ok (.isub, 1) := dk_100 (dk_at dksX9_nights_4 8 rfl rfl)
theorem dX9_nights_103 : decode cX9_nights 103 = .ok (.aload_n 0, 1) := dk_42 (dk_at dksX9_nights_4 9 rfl rfl)
theorem dX9_nights_104 : decode cX9_nights 104 = .ok (.getfield 30, 3) := dk_180 0 30 (dk_at dksX9_nights_4 10 rfl rfl)
theorem dX9_nights_107 : decode cX9_nights 107 = .ok (.bipush 6, 2) := dk_16 6 (dk_at dksX9_nights_4 13 rfl rfl)
theorem dX9_nights_109 : decode cX9_nights 109 = .ok (.iaload, 1) := dk_46 (dk_at dksX9_nights_4 15 rfl rfl)
theorem dX9_nights_110 : decode cX9_nights 110 = .ok (.idiv, 1) := dk_108 (dk_at dksX9_nights_4 16 rfl rfl)
theorem dX9_nights_111 : decode cX9_nights 111 = .ok (.ireturn, 1) := dk_172 (dk_at dksX9_nights_4 17 rfl rfl)
theorem dX9_nights_112 : decode cX9_nights 112 = .ok (.aload_n 0, 1) := dk_42 (dk_at dksX9_nights_4 18 rfl rfl)
theorem dX9_nights_113 : decode cX9_nights 113 = .ok (.getfield 463, 3) := dk_180 1 207 (dk_at dksX9_nights_4 19 rfl rfl)
theorem dX9_nights_116 : decode cX9_nights 116 = .ok (.bipush 8, 2) := dk_16 8 (dk_at dksX9_nights_4 22 rfl rfl)
theorem dX9_nights_118 : decode cX9_nights 118 = .ok (.if_icmp .le 6, 3) := dk_164 0 6 (dk_at dksX9_nights_5 0 rfl rfl)
theorem dX9_nights_121 : decode cX9_nights 121 = .ok (.bipush (-2), 2) := dk_16 254 (dk_at dksX9_nights_5 3 rfl rfl)
theorem dX9_nights_123 : decode cX9_nights 123 = .ok (.ireturn, 1) := dk_172 (dk_at dksX9_nights_5 5 rfl rfl)
theorem dX9_nights_124 : decode cX9_nights 124 = .ok (.aload_n 0, 1) := dk_42 (dk_at dksX9_nights_5 6 rfl rfl)
theorem dX9_nights_125 : decode cX9_nights 125 = .ok (.getfield 463, 3) := dk_180 1 207 (dk_at dksX9_nights_5 7 rfl rfl)
theorem dX9_nights_128 : decode cX9_nights 128 = .ok (.ifCond .ne 5, 3) := dk_154 0 5 (dk_at dksX9_nights_5 10 rfl rfl)
theorem dX9_nights_131 : decode cX9_nights 131 = .ok (.iconst 0, 1) := dk_3 (dk_at dksX9_nights_5 13 rfl rfl)
theorem dX9_nights_132 : decode cX9_nights 132 = .ok (.ireturn, 1) := dk_172 (dk_at dksX9_nights_5 14 rfl rfl)
theorem dX9_nights_133 : decode cX9_nights 133 = .ok (.aload_n 0, 1) := dk_42 (dk_at dksX9_nights_5 15 rfl rfl)
theorem dX9_nights_134 : decode cX9_nights 134 = .ok (.invokevirtual 469, 3) := dk_182 1 213 (dk_at dksX9_nights_5 16 rfl rfl)
theorem dX9_nights_137 : decode cX9_nights 137 = .ok (.aload_n 0, 1) := dk_42 (dk_at dksX9_nights_5 19 rfl rfl)
theorem dX9_nights_138 : decode cX9_nights 138 = .ok (.getfield 106, 3) := dk_180 0 106 (dk_at dksX9_nights_5 20 rfl rfl)
theorem dX9_nights_141 : decode cX9_nights 141 = .ok (.iconst 0, 1) := dk_3 (dk_at dksX9_nights_5 23 rfl rfl)
theorem dX9_nights_142 : decode cX9_nights 142 = .ok (.iaload, 1) := dk_46 (dk_at dksX9_nights_6 0 rfl rfl)
theorem dX9_nights_143 : decode cX9_nights 143 = .ok (.ldc_w 441, 3) := dk_19 1 185 (dk_at dksX9_nights_6 1 rfl rfl)
theorem dX9_nights_146 : decode cX9_nights 146 = .ok (.if_icmp .lt 8, 3) := dk_161 0 8 (dk_at dksX9_nights_6 4 rfl rfl)
theorem dX9_nights_149 : decode cX9_nights 149 = .ok (.bipush (-2), 2) := dk_16 254 (dk_at dksX9_nights_6 7 rfl rfl)
theorem dX9_nights_151 : decode cX9_nights 151 = .ok (.goto 20, 3) := dk_167 0 20 (dk_at dksX9_nights_6 9 rfl rfl)
theorem dX9_nights_154 : decode cX9_nights 154 = .ok (.iload_n 1, 1) := dk_27 (dk_at dksX9_nights_6 12 rfl rfl)
theorem dX9_nights_155 : decode cX9_nights 155 = .ok (.ifCond .ne 12, 3) := dk_154 0 12 (dk_at dksX9_nights_6 13 rfl rfl)
theorem dX9_nights_158 : decode cX9_nights 158 = .ok (.aload_n 0, 1) := dk_42 (dk_at dksX9_nights_6 16 rfl rfl)
theorem dX9_nights_159 : decode cX9_nights 159 = .ok (.getfield 106, 3) := dk_180 0 106 (dk_at dksX9_nights_6 17 rfl rfl)
theorem dX9_nights_162 : decode cX9_nights 162 = .ok (.iconst 0, 1) := dk_3 (dk_at dksX9_nights_6 20 rfl rfl)
theorem dX9_nights_163 : decode cX9_nights 163 = .ok (.iaload, 1) := dk_46 (dk_at dksX9_nights_6 21 rfl rfl)
theorem dX9_nights_164 : decode cX9_nights 164 = .ok (.goto 7, 3) := dk_167 0 7 (dk_at dksX9_nights_7 0 rfl rfl)
theorem dX9_nights_167 : decode cX9_nights 167 = .ok (.aload_n 0, 1) := dk_42 (dk_at dksX9_nights_7 3 rfl rfl)
theorem dX9_nights_168 : decode cX9_nights 168 = .ok (.invokevirtual 472, 3) := dk_182 1 216 (dk_at dksX9_nights_7 4 rfl rfl)
theorem dX9_nights_171 : decode cX9_nights 171 = .ok (.ireturn, 1) := dk_172 (dk_at dksX9_nights_7 7 rfl rfl)
abbrev cX9_layNights : ByteArray := prog_23_method_102_code
def yX9_layNights : MethodName := ⟨RX9, "layNights", "()V"⟩
def dkwX9_layNights_7 : List UInt8 := [128, 46, 4, 96, 184, 1, 186, 79, 132, 4, 1, 167, 255, 184, 132, 3, 255, 167, 255, 151, 177]
abbrev dktX9_layNights_7 : List UInt8 := dkwX9_layNights_7 ++ []
def dkwX9_layNights_6 : List UInt8 := [154, 0, 6, 167, 0, 29, 42, 180, 0, 106, 29, 42, 180, 0, 106, 29, 46, 42, 180, 0, 106, 29, 21, 4]
abbrev dktX9_layNights_6 : List UInt8 := dkwX9_layNights_6 ++ dktX9_layNights_7
def dkwX9_layNights_5 : List UInt8 := [184, 1, 152, 42, 180, 0, 30, 16, 6, 46, 163, 0, 44, 42, 180, 0, 103, 29, 21, 4, 128, 51]
abbrev dktX9_layNights_5 : List UInt8 := dkwX9_layNights_5 ++ dktX9_layNights_6
def dkwX9_layNights_4 : List UInt8 := [19, 1, 185, 79, 4, 54, 4, 21, 4, 28, 162, 0, 72, 21, 4, 29, 126, 154, 0, 59, 21, 4]
abbrev dktX9_layNights_4 : List UInt8 := dkwX9_layNights_4 ++ dktX9_layNights_5
def dkwX9_layNights_3 : List UInt8 := [28, 4, 100, 62, 29, 155, 0, 107, 42, 180, 0, 106, 29, 29, 28, 4, 100, 160, 0, 7, 3, 167, 0, 6]
abbrev dktX9_layNights_3 : List UInt8 := dkwX9_layNights_3 ++ dktX9_layNights_4
def dkwX9_layNights_2 : List UInt8 := [2, 130, 126, 154, 0, 7, 4, 167, 0, 4, 3, 84, 132, 3, 1, 167, 255, 217, 42, 16, 20, 182, 1, 204]
abbrev dktX9_layNights_2 : List UInt8 := dkwX9_layNights_2 ++ dktX9_layNights_3
def dkwX9_layNights_1 : List UInt8 := [29, 28, 162, 0, 40, 42, 29, 182, 1, 210, 42, 180, 0, 103, 29, 27, 42, 16, 12, 2, 2, 182, 1, 149]
abbrev dktX9_layNights_1 : List UInt8 := dkwX9_layNights_1 ++ dktX9_layNights_2
def dkwX9_layNights_0 : List UInt8 := [42, 16, 12, 2, 2, 182, 1, 149, 60, 4, 42, 180, 1, 207, 120, 61, 42, 16, 20, 182, 1, 198, 3, 62]
abbrev dktX9_layNights_0 : List UInt8 := dkwX9_layNights_0 ++ dktX9_layNights_1
theorem dksX9_layNights_0 : cX9_layNights.data.toList.drop 0 = dktX9_layNights_0 := by decide +kernel
theorem dksX9_layNights_1 : cX9_layNights.data.toList.drop 24 = dktX9_layNights_1 := dk_seg dksX9_layNights_0 24 rfl rfl
theorem dksX9_layNights_2 : cX9_layNights.data.toList.drop 48 = dktX9_layNights_2 := dk_seg dksX9_layNights_1 24 rfl rfl
theorem dksX9_layNights_3 : cX9_layNights.data.toList.drop 72 = dktX9_layNights_3 := dk_seg dksX9_layNights_2 24 rfl rfl
theorem dksX9_layNights_4 : cX9_layNights.data.toList.drop 96 = dktX9_layNights_4 := dk_seg dksX9_layNights_3 24 rfl rfl
theorem dksX9_layNights_5 : cX9_layNights.data.toList.drop 118 = dktX9_layNights_5 := dk_seg dksX9_layNights_4 22 rfl rfl
theorem dksX9_layNights_6 : cX9_layNights.data.toList.drop 140 = dktX9_layNights_6 := dk_seg dksX9_layNights_5 22 rfl rfl
theorem dksX9_layNights_7 : cX9_layNights.data.toList.drop 164 = dktX9_layNights_7 := dk_seg dksX9_layNights_6 24 rfl rfl
theorem dX9_layNights_0 : decode cX9_layNights 0 = .ok (.aload_n 0, 1) := dk_42 (dk_at dksX9_layNights_0 0 rfl rfl)
theorem dX9_layNights_1 : decode cX9_layNights 1 = .ok (.bipush 12, 2) := dk_16 12 (dk_at dksX9_layNights_0 1 rfl rfl)
theorem dX9_layNights_3 : decode cX9_layNights 3 = .ok (.iconst (-1), 1) := dk_2 (dk_at dksX9_layNights_0 3 rfl rfl)
theorem dX9_layNights_4 : decode cX9_layNights 4 = .ok (.iconst (-1), 1) := dk_2 (dk_at dksX9_layNights_0 4 rfl rfl)
theorem dX9_layNights_5 : decode cX9_layNights 5 = .ok (.invokevirtual 405, 3) := dk_182 1 149 (dk_at dksX9_layNights_0 5 rfl rfl)
theorem dX9_layNights_8 : decode cX9_layNights 8 = .ok (.istore_n 1, 1) := dk_60 (dk_at dksX9_layNights_0 8 rfl rfl)
theorem dX9_layNights_9 : decode cX9_layNights 9 = .ok (.iconst 1, 1) := dk_4 (dk_at dksX9_layNights_0 9 rfl rfl)
theorem dX9_layNights_10 : decode cX9_layNights 10 = .ok (.aload_n 0, 1) := dk_42 (dk_at dksX9_layNights_0 10 rfl rfl)
theorem dX9_layNights_11 : decode cX9_layNights 11 = .ok (.getfield 463, 3) := dk_180 1 207 (dk_at dksX9_layNights_0 11 rfl rfl)
theorem dX9_layNights_14 : decode cX9_layNights 14 = .ok (.ishl, 1) := dk_120 (dk_at dksX9_layNights_0 14 rfl rfl)
theorem dX9_layNights_15 : decode cX9_layNights 15 = .ok (.istore_n 2, 1) := dk_61 (dk_at dksX9_layNights_0 15 rfl rfl)
theorem dX9_layNights_16 : decode cX9_layNights 16 = .ok (.aload_n 0, 1) := dk_42 (dk_at dksX9_layNights_0 16 rfl rfl)
theorem dX9_layNights_17 : decode cX9_layNights 17 = .ok (.bipush 20, 2) := dk_16 20 (dk_at dksX9_layNights_0 17 rfl rfl)
theorem dX9_layNights_19 : decode cX9_layNights 19 = .ok (.invokevirtual 454, 3) := dk_182 1 198 (dk_at dksX9_layNights_0 19 rfl rfl)
theorem dX9_layNights_22 : decode cX9_layNights 22 = .ok (.iconst 0, 1) := dk_3 (dk_at dksX9_layNights_0 22 rfl rfl)
theorem dX9_layNights_23 : decode cX9_layNights 23 = .ok (.istore_n 3, 1) := dk_62 (dk_at dksX9_layNights_0 23 rfl rfl)
theorem dX9_layNights_24 : decode cX9_layNights 24 = .ok (.iload_n 3, 1) := dk_29 (dk_at dksX9_layNights_1 0 rfl rfl)
theorem dX9_layNights_25 : decode cX9_layNights 25 = .ok (.iload_n 2, 1) := dk_28 (dk_at dksX9_layNights_1 1 rfl rfl)
theorem dX9_layNights_26 : decode cX9_layNights 26 = .ok (.if_icmp .ge 40, 3) := dk_162 0 40 (dk_at dksX9_layNights_1 2 rfl rfl)
theorem dX9_layNights_29 : decode cX9_layNights 29 = .ok (.aload_n 0, 1) := dk_42 (dk_at dksX9_layNights_1 5 rfl rfl)
theorem dX9_layNights_30 : decode cX9_layNights 30 = .ok (.iload_n 3, 1) := dk_29 (dk_at dksX9_layNights_1 6 rfl rfl)
theorem dX9_layNights_31 : decode cX9_layNights 31 = .ok (.invokevirtual 466, 3) := dk_182 1 210 (dk_at dksX9_layNights_1 7 rfl rfl)
theorem dX9_layNights_34 : decode cX9_layNights 34 = .ok (.aload_n 0, 1) := dk_42 (dk_at dksX9_layNights_1 10 rfl rfl)
theorem dX9_layNights_35 : decode cX9_layNights 35 = .ok (.getfield 103, 3) := dk_180 0 103 (dk_at dksX9_layNights_1 11 rfl rfl)
theorem dX9_layNights_38 : decode cX9_layNights 38 = .ok (.iload_n 3, 1) := dk_29 (dk_at dksX9_layNights_1 14 rfl rfl)
theorem dX9_layNights_39 : decode cX9_layNights 39 = .ok (.iload_n 1, 1) := dk_27 (dk_at dksX9_layNights_1 15 rfl rfl)
theorem dX9_layNights_40 : decode cX9_layNights 40 = .ok (.aload_n 0, 1) := dk_42 (dk_at dksX9_layNights_1 16 rfl rfl)
theorem dX9_layNights_41 : decode cX9_layNights 41 = .ok (.bipush 12, 2) := dk_16 12 (dk_at dksX9_layNights_1 17 rfl rfl)
theorem dX9_layNights_43 : decode cX9_layNights 43 = .ok (.iconst (-1), 1) := dk_2 (dk_at dksX9_layNights_1 19 rfl rfl)
theorem dX9_layNights_44 : decode cX9_layNights 44 = .ok (.iconst (-1), 1) := dk_2 (dk_at dksX9_layNights_1 20 rfl rfl)
theorem dX9_layNights_45 : decode cX9_layNights 45 = .ok (.invokevirtual 405, 3) := dk_182 1 149 (dk_at dksX9_layNights_1 21 rfl rfl)
theorem dX9_layNights_48 : decode cX9_layNights 48 = .ok (.iconst (-1), 1) := dk_2 (dk_at dksX9_layNights_2 0 rfl rfl)
theorem dX9_layNights_49 : decode cX9_layNights 49 = .ok (.ixor, 1) := dk_130 (dk_at dksX9_layNights_2 1 rfl rfl)
theorem dX9_layNights_50 : decode cX9_layNights 50 = .ok (.iand, 1) := dk_126 (dk_at dksX9_layNights_2 2 rfl rfl)
theorem dX9_layNights_51 : decode cX9_layNights 51 = .ok (.ifCond .ne 7, 3) := dk_154 0 7 (dk_at dksX9_layNights_2 3 rfl rfl)
theorem dX9_layNights_54 : decode cX9_layNights 54 = .ok (.iconst 1, 1) := dk_4 (dk_at dksX9_layNights_2 6 rfl rfl)
theorem dX9_layNights_55 : decode cX9_layNights 55 = .ok (.goto 4, 3) := dk_167 0 4 (dk_at dksX9_layNights_2 7 rfl rfl)
theorem dX9_layNights_58 : decode cX9_layNights 58 = .ok (.iconst 0, 1) := dk_3 (dk_at dksX9_layNights_2 10 rfl rfl)
theorem dX9_layNights_59 : decode cX9_layNights 59 = .ok (.bastore, 1) := dk_84 (dk_at dksX9_layNights_2 11 rfl rfl)
theorem dX9_layNights_60 : decode cX9_layNights 60 = .ok (.iinc 3 1, 3) := dk_132 3 1 (dk_at dksX9_layNights_2 12 rfl rfl)
theorem dX9_layNights_63 : decode cX9_layNights 63 = .ok (.goto (-39), 3) := dk_167 255 217 (dk_at dksX9_layNights_2 15 rfl rfl)
theorem dX9_layNights_66 : decode cX9_layNights 66 = .ok (.aload_n 0, 1) := dk_42 (dk_at dksX9_layNights_2 18 rfl rfl)
theorem dX9_layNights_67 : decode cX9_layNights 67 = .ok (.bipush 20, 2) := dk_16 20 (dk_at dksX9_layNights_2 19 rfl rfl)
theorem dX9_layNights_69 : decode cX9_layNights 69 = .ok (.invokevirtual 460, 3) := dk_182 1 204 (dk_at dksX9_layNights_2 21 rfl rfl)
theorem dX9_layNights_72 : decode cX9_layNights 72 = .ok (.iload_n 2, 1) := dk_28 (dk_at dksX9_layNights_3 0 rfl rfl)
theorem dX9_layNights_73 : decode cX9_layNights 73 = .ok (.iconst 1, 1) := dk_4 (dk_at dksX9_layNights_3 1 rfl rfl)
theorem dX9_layNights_74 : decode cX9_layNights 74 = .ok (.isub, 1) := dk_100 (dk_at dksX9_layNights_3 2 rfl rfl)
theorem dX9_layNights_75 : decode cX9_layNights 75 = .ok (.istore_n 3, 1) := dk_62 (dk_at dksX9_layNights_3 3 rfl rfl)
theorem dX9_layNights_76 : decode cX9_layNights 76 = .ok (.iload_n 3, 1) := dk_29 (dk_at dksX9_layNights_3 4 rfl rfl)
theorem dX9_layNights_77 : decode cX9_layNights 77 = .ok (.ifCond .lt 107, 3) := dk_155 0 107 (dk_at dksX9_layNights_3 5 rfl rfl)
theorem dX9_layNights_80 : decode cX9_layNights 80 = .ok (.aload_n 0, 1) := dk_42 (dk_at dksX9_layNights_3 8 rfl rfl)
theorem dX9_layNights_81 : decode cX9_layNights 81 = .ok (.getfield 106, 3) := dk_180 0 106 (dk_at dksX9_layNights_3 9 rfl rfl)
theorem dX9_layNights_84 : decode cX9_layNights 84 = .ok (.iload_n 3, 1) := dk_29 (dk_at dksX9_layNights_3 12 rfl rfl)
theorem dX9_layNights_85 : decode cX9_layNights 85 = .ok (.iload_n 3, 1) := dk_29 (dk_at dksX9_layNights_3 13 rfl rfl)
theorem dX9_layNights_86 : decode cX9_layNights 86 = .ok (.iload_n 2, 1) := dk_28 (dk_at dksX9_layNights_3 14 rfl rfl)
theorem dX9_layNights_87 : decode cX9_layNights 87 = .ok (.iconst 1, 1) := dk_4 (dk_at dksX9_layNights_3 15 rfl rfl)
theorem dX9_layNights_88 : decode cX9_layNights 88 = .ok (.isub, 1) := dk_100 (dk_at dksX9_layNights_3 16 rfl rfl)
theorem dX9_layNights_89 : decode cX9_layNights 89 = .ok (.if_icmp .ne 7, 3) := dk_160 0 7 (dk_at dksX9_layNights_3 17 rfl rfl)
theorem dX9_layNights_92 : decode cX9_layNights 92 = .ok (.iconst 0, 1) := dk_3 (dk_at dksX9_layNights_3 20 rfl rfl)
theorem dX9_layNights_93 : decode cX9_layNights 93 = .ok (.goto 6, 3) := dk_167 0 6 (dk_at dksX9_layNights_3 21 rfl rfl)
theorem dX9_layNights_96 : decode cX9_layNights 96 = .ok (.ldc_w 441, 3) := dk_19 1 185 (dk_at dksX9_layNights_4 0 rfl rfl)
theorem dX9_layNights_99 : decode cX9_layNights 99 = .ok (.iastore, 1) := dk_79 (dk_at dksX9_layNights_4 3 rfl rfl)
theorem dX9_layNights_100 : decode cX9_layNights 100 = .ok (.iconst 1, 1) := dk_4 (dk_at dksX9_layNights_4 4 rfl rfl)
theorem dX9_layNights_101 : decode cX9_layNights 101 = .ok (.istore 4, 2) := dk_54 4 (dk_at dksX9_layNights_4 5 rfl rfl)
theorem dX9_layNights_103 : decode cX9_layNights 103 = .ok (.iload 4, 2) := dk_21 4 (dk_at dksX9_layNights_4 7 rfl rfl)
theorem dX9_layNights_105 : decode cX9_layNights 105 = .ok (.iload_n 2, 1) := dk_28 (dk_at dksX9_layNights_4 9 rfl rfl)
theorem dX9_layNights_106 : decode cX9_layNights 106 = .ok (.if_icmp .ge 72, 3) := dk_162 0 72 (dk_at dksX9_layNights_4 10 rfl rfl)
theorem dX9_layNights_109 : decode cX9_layNights 109 = .ok (.iload 4, 2) := dk_21 4 (dk_at dksX9_layNights_4 13 rfl rfl)
theorem dX9_layNights_111 : decode cX9_layNights 111 = .ok (.iload_n 3, 1) := dk_29 (dk_at dksX9_layNights_4 15 rfl rfl)
theorem dX9_layNights_112 : decode cX9_layNights 112 = .ok (.iand, 1) := dk_126 (dk_at dksX9_layNights_4 16 rfl rfl)
theorem dX9_layNights_113 : decode cX9_layNights 113 = .ok (.ifCond .ne 59, 3) := dk_154 0 59 (dk_at dksX9_layNights_4 17 rfl rfl)
theorem dX9_layNights_116 : decode cX9_layNights 116 = .ok (.iload 4, 2) := dk_21 4 (dk_at dksX9_layNights_4 20 rfl rfl)
theorem dX9_layNights_118 : decode cX9_layNights 118 = .ok (.invokestatic 408, 3) := dk_184 1 152 (dk_at dksX9_layNights_5 0 rfl rfl)
theorem dX9_layNights_121 : decode cX9_layNights 121 = .ok (.aload_n 0, 1) := dk_42 (dk_at dksX9_layNights_5 3 rfl rfl)
theorem dX9_layNights_122 : decode cX9_layNights 122 = .ok (.getfield 30, 3) := dk_180 0 30 (dk_at dksX9_layNights_5 4 rfl rfl)
theorem dX9_layNights_125 : decode cX9_layNights 125 = .ok (.bipush 6, 2) := dk_16 6 (dk_at dksX9_layNights_5 7 rfl rfl)
theorem dX9_layNights_127 : decode cX9_layNights 127 = .ok (.iaload, 1) := dk_46 (dk_at dksX9_layNights_5 9 rfl rfl)
theorem dX9_layNights_128 : decode cX9_layNights 128 = .ok (.if_icmp .gt 44, 3) := dk_163 0 44 (dk_at dksX9_layNights_5 10 rfl rfl)
theorem dX9_layNights_131 : decode cX9_layNights 131 = .ok (.aload_n 0, 1) := dk_42 (dk_at dksX9_layNights_5 13 rfl rfl)
theorem dX9_layNights_132 : decode cX9_layNights 132 = .ok (.getfield 103, 3) := dk_180 0 103 (dk_at dksX9_layNights_5 14 rfl rfl)
theorem dX9_layNights_135 : decode cX9_layNights 135 = .ok (.iload_n 3, 1) := dk_29 (dk_at dksX9_layNights_5 17 rfl rfl)
theorem dX9_layNights_136 : decode cX9_layNights 136 = .ok (.iload 4, 2) := dk_21 4 (dk_at dksX9_layNights_5 18 rfl rfl)
theorem dX9_layNights_138 : decode cX9_layNights 138 = .ok (.ior, 1) := dk_128 (dk_at dksX9_layNights_5 20 rfl rfl)
theorem dX9_layNights_139 : decode cX9_layNights 139 = .ok (.baload, 1) := dk_51 (dk_at dksX9_layNights_5 21 rfl rfl)
theorem dX9_layNights_140 : decode cX9_layNights 140 = .ok (.ifCond .ne 6, 3) := dk_154 0 6 (dk_at dksX9_layNights_6 0 rfl rfl)
theorem dX9_layNights_143 : decode cX9_layNights 143 = .ok (.goto 29, 3) := dk_167 0 29 (dk_at dksX9_layNights_6 3 rfl rfl)
theorem dX9_layNights_146 : decode cX9_layNights 146 = .ok (.aload_n 0, 1) := dk_42 (dk_at dksX9_layNights_6 6 rfl rfl)
theorem dX9_layNights_147 : decode cX9_layNights 147 = .ok (.getfield 106, 3) := dk_180 0 106 (dk_at dksX9_layNights_6 7 rfl rfl)
theorem dX9_layNights_150 : decode cX9_layNights 150 = .ok (.iload_n 3, 1) := dk_29 (dk_at dksX9_layNights_6 10 rfl rfl)
theorem dX9_layNights_151 : decode cX9_layNights 151 = .ok (.aload_n 0, 1) := dk_42 (dk_at dksX9_layNights_6 11 rfl rfl)
theorem dX9_layNights_152 : decode cX9_layNights 152 = .ok (.getfield 106, 3) := dk_180 0 106 (dk_at dksX9_layNights_6 12 rfl rfl)
theorem dX9_layNights_155 : decode cX9_layNights 155 = .ok (.iload_n 3, 1) := dk_29 (dk_at dksX9_layNights_6 15 rfl rfl)
theorem dX9_layNights_156 : decode cX9_layNights 156 = .ok (.iaload, 1) := dk_46 (dk_at dksX9_layNights_6 16 rfl rfl)
theorem dX9_layNights_157 : decode cX9_layNights 157 = .ok (.aload_n 0, 1) := dk_42 (dk_at dksX9_layNights_6 17 rfl rfl)
theorem dX9_layNights_158 : decode cX9_layNights 158 = .ok (.getfield 106, 3) := dk_180 0 106 (dk_at dksX9_layNights_6 18 rfl rfl)
theorem dX9_layNights_161 : decode cX9_layNights 161 = .ok (.iload_n 3, 1) := dk_29 (dk_at dksX9_layNights_6 21 rfl rfl)
theorem dX9_layNights_162 : decode cX9_layNights 162 = .ok (.iload 4, 2) := dk_21 4 (dk_at dksX9_layNights_6 22 rfl rfl)
theorem dX9_layNights_164 : decode cX9_layNights 164 = .ok (.ior, 1) := dk_128 (dk_at dksX9_layNights_7 0 rfl rfl)
theorem dX9_layNights_165 : decode cX9_layNights 165 = .ok (.iaload, 1) := dk_46 (dk_at dksX9_layNights_7 1 rfl rfl)
theorem dX9_layNights_166 : decode cX9_layNights 166 = .ok (.iconst 1, 1) := dk_4 (dk_at dksX9_layNights_7 2 rfl rfl)
theorem dX9_layNights_167 : decode cX9_layNights 167 = .ok (.iadd, 1) := dk_96 (dk_at dksX9_layNights_7 3 rfl rfl)
theorem dX9_layNights_168 : decode cX9_layNights 168 = .ok (.invokestatic 442, 3) := dk_184 1 186 (dk_at dksX9_layNights_7 4 rfl rfl)
theorem dX9_layNights_171 : decode cX9_layNights 171 = .ok (.iastore, 1) := dk_79 (dk_at dksX9_layNights_7 7 rfl rfl)
theorem dX9_layNights_172 : decode cX9_layNights 172 = .ok (.iinc 4 1, 3) := dk_132 4 1 (dk_at dksX9_layNights_7 8 rfl rfl)
theorem dX9_layNights_175 : decode cX9_layNights 175 = .ok (.goto (-72), 3) := dk_167 255 184 (dk_at dksX9_layNights_7 11 rfl rfl)
theorem dX9_layNights_178 : decode cX9_layNights 178 = .ok (.iinc 3 (-1), 3) := dk_132 3 255 (dk_at dksX9_layNights_7 14 rfl rfl)
theorem dX9_layNights_181 : decode cX9_layNights 181 = .ok (.goto (-105), 3) := dk_167 255 151 (dk_at dksX9_layNights_7 17 rfl rfl)
theorem dX9_layNights_184 : decode cX9_layNights 184 = .ok (.return_, 1) := dk_177 (dk_at dksX9_layNights_7 20 rfl rfl)
abbrev cX9_brings : ByteArray := prog_23_method_101_code
def yX9_brings : MethodName := ⟨RX9, "brings", "(I)V"⟩
def dkwX9_brings_2 : List UInt8 := [132, 2, 1, 167, 255, 216, 177]
abbrev dktX9_brings_2 : List UInt8 := dkwX9_brings_2 ++ []
def dkwX9_brings_1 : List UInt8 := [160, 0, 23, 42, 180, 0, 33, 16, 10, 42, 180, 0, 97, 28, 46, 96, 42, 180, 0, 100, 28, 46, 79]
abbrev dktX9_brings_1 : List UInt8 := dkwX9_brings_1 ++ dktX9_brings_2
def dkwX9_brings_0 : List UInt8 := [42, 16, 20, 182, 1, 204, 3, 61, 28, 42, 180, 1, 207, 162, 0, 38, 27, 28, 122, 4, 126, 4]
abbrev dktX9_brings_0 : List UInt8 := dkwX9_brings_0 ++ dktX9_brings_1
theorem dksX9_brings_0 : cX9_brings.data.toList.drop 0 = dktX9_brings_0 := by decide +kernel
theorem dksX9_brings_1 : cX9_brings.data.toList.drop 22 = dktX9_brings_1 := dk_seg dksX9_brings_0 22 rfl rfl
theorem dksX9_brings_2 : cX9_brings.data.toList.drop 45 = dktX9_brings_2 := dk_seg dksX9_brings_1 23 rfl rfl
theorem dX9_brings_0 : decode cX9_brings 0 = .ok (.aload_n 0, 1) := dk_42 (dk_at dksX9_brings_0 0 rfl rfl)
theorem dX9_brings_1 : decode cX9_brings 1 = .ok (.bipush 20, 2) := dk_16 20 (dk_at dksX9_brings_0 1 rfl rfl)
theorem dX9_brings_3 : decode cX9_brings 3 = .ok (.invokevirtual 460, 3) := dk_182 1 204 (dk_at dksX9_brings_0 3 rfl rfl)
theorem dX9_brings_6 : decode cX9_brings 6 = .ok (.iconst 0, 1) := dk_3 (dk_at dksX9_brings_0 6 rfl rfl)
theorem dX9_brings_7 : decode cX9_brings 7 = .ok (.istore_n 2, 1) := dk_61 (dk_at dksX9_brings_0 7 rfl rfl)
theorem dX9_brings_8 : decode cX9_brings 8 = .ok (.iload_n 2, 1) := dk_28 (dk_at dksX9_brings_0 8 rfl rfl)
theorem dX9_brings_9 : decode cX9_brings 9 = .ok (.aload_n 0, 1) := dk_42 (dk_at dksX9_brings_0 9 rfl rfl)
theorem dX9_brings_10 : decode cX9_brings 10 = .ok (.getfield 463, 3) := dk_180 1 207 (dk_at dksX9_brings_0 10 rfl rfl)
theorem dX9_brings_13 : decode cX9_brings 13 = .ok (.if_icmp .ge 38, 3) := dk_162 0 38 (dk_at dksX9_brings_0 13 rfl rfl)
theorem dX9_brings_16 : decode cX9_brings 16 = .ok (.iload_n 1, 1) := dk_27 (dk_at dksX9_brings_0 16 rfl rfl)
theorem dX9_brings_17 : decode cX9_brings 17 = .ok (.iload_n 2, 1) := dk_28 (dk_at dksX9_brings_0 17 rfl rfl)
theorem dX9_brings_18 : decode cX9_brings 18 = .ok (.ishr, 1) := dk_122 (dk_at dksX9_brings_0 18 rfl rfl)
theorem dX9_brings_19 : decode cX9_brings 19 = .ok (.iconst 1, 1) := dk_4 (dk_at dksX9_brings_0 19 rfl rfl)
theorem dX9_brings_20 : decode cX9_brings 20 = .ok (.iand, 1) := dk_126 (dk_at dksX9_brings_0 20 rfl rfl)
theorem dX9_brings_21 : decode cX9_brings 21 = .ok (.iconst 1, 1) := dk_4 (dk_at dksX9_brings_0 21 rfl rfl)
theorem dX9_brings_22 : decode cX9_brings 22 = .ok (.if_icmp .ne 23, 3) := dk_160 0 23 (dk_at dksX9_brings_1 0 rfl rfl)
theorem dX9_brings_25 : decode cX9_brings 25 = .ok (.aload_n 0, 1) := dk_42 (dk_at dksX9_brings_1 3 rfl rfl)
theorem dX9_brings_26 : decode cX9_brings 26 = .ok (.getfield 33, 3) := dk_180 0 33 (dk_at dksX9_brings_1 4 rfl rfl)
theorem dX9_brings_29 : decode cX9_brings 29 = .ok (.bipush 10, 2) := dk_16 10 (dk_at dksX9_brings_1 7 rfl rfl)
theorem dX9_brings_31 : decode cX9_brings 31 = .ok (.aload_n 0, 1) := dk_42 (dk_at dksX9_brings_1 9 rfl rfl)
theorem dX9_brings_32 : decode cX9_brings 32 = .ok (.getfield 97, 3) := dk_180 0 97 (dk_at dksX9_brings_1 10 rfl rfl)
theorem dX9_brings_35 : decode cX9_brings 35 = .ok (.iload_n 2, 1) := dk_28 (dk_at dksX9_brings_1 13 rfl rfl)
theorem dX9_brings_36 : decode cX9_brings 36 = .ok (.iaload, 1) := dk_46 (dk_at dksX9_brings_1 14 rfl rfl)
theorem dX9_brings_37 : decode cX9_brings 37 = .ok (.iadd, 1) := dk_96 (dk_at dksX9_brings_1 15 rfl rfl)
theorem dX9_brings_38 : decode cX9_brings 38 = .ok (.aload_n 0, 1) := dk_42 (dk_at dksX9_brings_1 16 rfl rfl)
theorem dX9_brings_39 : decode cX9_brings 39 = .ok (.getfield 100, 3) := dk_180 0 100 (dk_at dksX9_brings_1 17 rfl rfl)
theorem dX9_brings_42 : decode cX9_brings 42 = .ok (.iload_n 2, 1) := dk_28 (dk_at dksX9_brings_1 20 rfl rfl)
theorem dX9_brings_43 : decode cX9_brings 43 = .ok (.iaload, 1) := dk_46 (dk_at dksX9_brings_1 21 rfl rfl)
theorem dX9_brings_44 : decode cX9_brings 44 = .ok (.iastore, 1) := dk_79 (dk_at dksX9_brings_1 22 rfl rfl)
theorem dX9_brings_45 : decode cX9_brings 45 = .ok (.iinc 2 1, 3) := dk_132 2 1 (dk_at dksX9_brings_2 0 rfl rfl)
theorem dX9_brings_48 : decode cX9_brings 48 = .ok (.goto (-40), 3) := dk_167 255 216 (dk_at dksX9_brings_2 3 rfl rfl)
theorem dX9_brings_51 : decode cX9_brings 51 = .ok (.return_, 1) := dk_177 (dk_at dksX9_brings_2 6 rfl rfl)
abbrev cX9_firstNight : ByteArray := prog_23_method_103_code
def yX9_firstNight : MethodName := ⟨RX9, "firstNight", "()I"⟩
def dkwX9_firstNight_5 : List UInt8 := [167, 255, 225, 28, 172]
abbrev dktX9_firstNight_5 : List UInt8 := dkwX9_firstNight_5 ++ []
def dkwX9_firstNight_4 : List UInt8 := [29, 122, 4, 126, 4, 160, 0, 14, 28, 4, 42, 180, 0, 97, 29, 46, 120, 128, 61, 132, 3, 1]
abbrev dktX9_firstNight_4 : List UInt8 := dkwX9_firstNight_4 ++ dktX9_firstNight_5
def dkwX9_firstNight_3 : List UInt8 := [162, 0, 5, 28, 60, 132, 2, 1, 167, 255, 183, 3, 61, 3, 62, 29, 42, 180, 1, 207, 162, 0, 29, 27]
abbrev dktX9_firstNight_3 : List UInt8 := dkwX9_firstNight_3 ++ dktX9_firstNight_4
def dkwX9_firstNight_2 : List UInt8 := [180, 0, 106, 3, 46, 159, 0, 6, 167, 0, 20, 27, 153, 0, 14, 28, 184, 1, 152, 27, 184, 1, 152]
abbrev dktX9_firstNight_2 : List UInt8 := dkwX9_firstNight_2 ++ dktX9_firstNight_3
def dkwX9_firstNight_1 : List UInt8 := [46, 163, 0, 49, 42, 180, 0, 103, 28, 51, 153, 0, 40, 42, 180, 0, 106, 28, 46, 4, 96, 42]
abbrev dktX9_firstNight_1 : List UInt8 := dkwX9_firstNight_1 ++ dktX9_firstNight_2
def dkwX9_firstNight_0 : List UInt8 := [3, 60, 4, 61, 28, 4, 42, 180, 1, 207, 120, 162, 0, 69, 28, 184, 1, 152, 42, 180, 0, 30, 16, 6]
abbrev dktX9_firstNight_0 : List UInt8 := dkwX9_firstNight_0 ++ dktX9_firstNight_1
theorem dksX9_firstNight_0 : cX9_firstNight.data.toList.drop 0 = dktX9_firstNight_0 := by decide +kernel
theorem dksX9_firstNight_1 : cX9_firstNight.data.toList.drop 24 = dktX9_firstNight_1 := dk_seg dksX9_firstNight_0 24 rfl rfl
theorem dksX9_firstNight_2 : cX9_firstNight.data.toList.drop 46 = dktX9_firstNight_2 := dk_seg dksX9_firstNight_1 22 rfl rfl
theorem dksX9_firstNight_3 : cX9_firstNight.data.toList.drop 69 = dktX9_firstNight_3 := dk_seg dksX9_firstNight_2 23 rfl rfl
theorem dksX9_firstNight_4 : cX9_firstNight.data.toList.drop 93 = dktX9_firstNight_4 := dk_seg dksX9_firstNight_3 24 rfl rfl
theorem dksX9_firstNight_5 : cX9_firstNight.data.toList.drop 115 = dktX9_firstNight_5 := dk_seg dksX9_firstNight_4 22 rfl rfl
theorem dX9_firstNight_0 : decode cX9_firstNight 0 = .ok (.iconst 0, 1) := dk_3 (dk_at dksX9_firstNight_0 0 rfl rfl)
theorem dX9_firstNight_1 : decode cX9_firstNight 1 = .ok (.istore_n 1, 1) := dk_60 (dk_at dksX9_firstNight_0 1 rfl rfl)
theorem dX9_firstNight_2 : decode cX9_firstNight 2 = .ok (.iconst 1, 1) := dk_4 (dk_at dksX9_firstNight_0 2 rfl rfl)
theorem dX9_firstNight_3 : decode cX9_firstNight 3 = .ok (.istore_n 2, 1) := dk_61 (dk_at dksX9_firstNight_0 3 rfl rfl)
theorem dX9_firstNight_4 : decode cX9_firstNight 4 = .ok (.iload_n 2, 1) := dk_28 (dk_at dksX9_firstNight_0 4 rfl rfl)
theorem dX9_firstNight_5 : decode cX9_firstNight 5 = .ok (.iconst 1, 1) := dk_4 (dk_at dksX9_firstNight_0 5 rfl rfl)
theorem dX9_firstNight_6 : decode cX9_firstNight 6 = .ok (.aload_n 0, 1) := dk_42 (dk_at dksX9_firstNight_0 6 rfl rfl)
theorem dX9_firstNight_7 : decode cX9_firstNight 7 = .ok (.getfield 463, 3) := dk_180 1 207 (dk_at dksX9_firstNight_0 7 rfl rfl)
theorem dX9_firstNight_10 : decode cX9_firstNight 10 = .ok (.ishl, 1) := dk_120 (dk_at dksX9_firstNight_0 10 rfl rfl)
theorem dX9_firstNight_11 : decode cX9_firstNight 11 = .ok (.if_icmp .ge 69, 3) := dk_162 0 69 (dk_at dksX9_firstNight_0 11 rfl rfl)
theorem dX9_firstNight_14 : decode cX9_firstNight 14 = .ok (.iload_n 2, 1) := dk_28 (dk_at dksX9_firstNight_0 14 rfl rfl)
theorem dX9_firstNight_15 : decode cX9_firstNight 15 = .ok (.invokestatic 408, 3) := dk_184 1 152 (dk_at dksX9_firstNight_0 15 rfl rfl)
theorem dX9_firstNight_18 : decode cX9_firstNight 18 = .ok (.aload_n 0, 1) := dk_42 (dk_at dksX9_firstNight_0 18 rfl rfl)
theorem dX9_firstNight_19 : decode cX9_firstNight 19 = .ok (.getfield 30, 3) := dk_180 0 30 (dk_at dksX9_firstNight_0 19 rfl rfl)
theorem dX9_firstNight_22 : decode cX9_firstNight 22 = .ok (.bipush 6, 2) := dk_16 6 (dk_at dksX9_firstNight_0 22 rfl rfl)
theorem dX9_firstNight_24 : decode cX9_firstNight 24 = .ok (.iaload, 1) := dk_46 (dk_at dksX9_firstNight_1 0 rfl rfl)
theorem dX9_firstNight_25 : decode cX9_firstNight 25 = .ok (.if_icmp .gt 49, 3) := dk_163 0 49 (dk_at dksX9_firstNight_1 1 rfl rfl)
theorem dX9_firstNight_28 : decode cX9_firstNight 28 = .ok (.aload_n 0, 1) := dk_42 (dk_at dksX9_firstNight_1 4 rfl rfl)
theorem dX9_firstNight_29 : decode cX9_firstNight 29 = .ok (.getfield 103, 3) := dk_180 0 103 (dk_at dksX9_firstNight_1 5 rfl rfl)
theorem dX9_firstNight_32 : decode cX9_firstNight 32 = .ok (.iload_n 2, 1) := dk_28 (dk_at dksX9_firstNight_1 8 rfl rfl)
theorem dX9_firstNight_33 : decode cX9_firstNight 33 = .ok (.baload, 1) := dk_51 (dk_at dksX9_firstNight_1 9 rfl rfl)
theorem dX9_firstNight_34 : decode cX9_firstNight 34 = .ok (.ifCond .eq 40, 3) := dk_153 0 40 (dk_at dksX9_firstNight_1 10 rfl rfl)
theorem dX9_firstNight_37 : decode cX9_firstNight 37 = .ok (.aload_n 0, 1) := dk_42 (dk_at dksX9_firstNight_1 13 rfl rfl)
theorem dX9_firstNight_38 : decode cX9_firstNight 38 = .ok (.getfield 106, 3) := dk_180 0 106 (dk_at dksX9_firstNight_1 14 rfl rfl)
theorem dX9_firstNight_41 : decode cX9_firstNight 41 = .ok (.iload_n 2, 1) := dk_28 (dk_at dksX9_firstNight_1 17 rfl rfl)
theorem dX9_firstNight_42 : decode cX9_firstNight 42 = .ok (.iaload, 1) := dk_46 (dk_at dksX9_firstNight_1 18 rfl rfl)
theorem dX9_firstNight_43 : decode cX9_firstNight 43 = .ok (.iconst 1, 1) := dk_4 (dk_at dksX9_firstNight_1 19 rfl rfl)
theorem dX9_firstNight_44 : decode cX9_firstNight 44 = .ok (.iadd, 1) := dk_96 (dk_at dksX9_firstNight_1 20 rfl rfl)
theorem dX9_firstNight_45 : decode cX9_firstNight 45 = .ok (.aload_n 0, 1) := dk_42 (dk_at dksX9_firstNight_1 21 rfl rfl)
theorem dX9_firstNight_46 : decode cX9_firstNight 46 = .ok (.getfield 106, 3) := dk_180 0 106 (dk_at dksX9_firstNight_2 0 rfl rfl)
theorem dX9_firstNight_49 : decode cX9_firstNight 49 = .ok (.iconst 0, 1) := dk_3 (dk_at dksX9_firstNight_2 3 rfl rfl)
theorem dX9_firstNight_50 : decode cX9_firstNight 50 = .ok (.iaload, 1) := dk_46 (dk_at dksX9_firstNight_2 4 rfl rfl)
theorem dX9_firstNight_51 : decode cX9_firstNight 51 = .ok (.if_icmp .eq 6, 3) := dk_159 0 6 (dk_at dksX9_firstNight_2 5 rfl rfl)
theorem dX9_firstNight_54 : decode cX9_firstNight 54 = .ok (.goto 20, 3) := dk_167 0 20 (dk_at dksX9_firstNight_2 8 rfl rfl)
theorem dX9_firstNight_57 : decode cX9_firstNight 57 = .ok (.iload_n 1, 1) := dk_27 (dk_at dksX9_firstNight_2 11 rfl rfl)
theorem dX9_firstNight_58 : decode cX9_firstNight 58 = .ok (.ifCond .eq 14, 3) := dk_153 0 14 (dk_at dksX9_firstNight_2 12 rfl rfl)
theorem dX9_firstNight_61 : decode cX9_firstNight 61 = .ok (.iload_n 2, 1) := dk_28 (dk_at dksX9_firstNight_2 15 rfl rfl)
theorem dX9_firstNight_62 : decode cX9_firstNight 62 = .ok (.invokestatic 408, 3) := dk_184 1 152 (dk_at dksX9_firstNight_2 16 rfl rfl)
theorem dX9_firstNight_65 : decode cX9_firstNight 65 = .ok (.iload_n 1, 1) := dk_27 (dk_at dksX9_firstNight_2 19 rfl rfl)
theorem dX9_firstNight_66 : decode cX9_firstNight 66 = .ok (.invokestatic 408, 3) := dk_184 1 152 (dk_at dksX9_firstNight_2 20 rfl rfl)
theorem dX9_firstNight_69 : decode cX9_firstNight 69 = .ok (.if_icmp .ge 5, 3) := dk_162 0 5 (dk_at dksX9_firstNight_3 0 rfl rfl)
theorem dX9_firstNight_72 : decode cX9_firstNight 72 = .ok (.iload_n 2, 1) := dk_28 (dk_at dksX9_firstNight_3 3 rfl rfl)
theorem dX9_firstNight_73 : decode cX9_firstNight 73 = .ok (.istore_n 1, 1) := dk_60 (dk_at dksX9_firstNight_3 4 rfl rfl)
theorem dX9_firstNight_74 : decode cX9_firstNight 74 = .ok (.iinc 2 1, 3) := dk_132 2 1 (dk_at dksX9_firstNight_3 5 rfl rfl)
theorem dX9_firstNight_77 : decode cX9_firstNight 77 = .ok (.goto (-73), 3) := dk_167 255 183 (dk_at dksX9_firstNight_3 8 rfl rfl)
theorem dX9_firstNight_80 : decode cX9_firstNight 80 = .ok (.iconst 0, 1) := dk_3 (dk_at dksX9_firstNight_3 11 rfl rfl)
theorem dX9_firstNight_81 : decode cX9_firstNight 81 = .ok (.istore_n 2, 1) := dk_61 (dk_at dksX9_firstNight_3 12 rfl rfl)
theorem dX9_firstNight_82 : decode cX9_firstNight 82 = .ok (.iconst 0, 1) := dk_3 (dk_at dksX9_firstNight_3 13 rfl rfl)
theorem dX9_firstNight_83 : decode cX9_firstNight 83 = .ok (.istore_n 3, 1) := dk_62 (dk_at dksX9_firstNight_3 14 rfl rfl)
theorem dX9_firstNight_84 : decode cX9_firstNight 84 = .ok (.iload_n 3, 1) := dk_29 (dk_at dksX9_firstNight_3 15 rfl rfl)
theorem dX9_firstNight_85 : decode cX9_firstNight 85 = .ok (.aload_n 0, 1) := dk_42 (dk_at dksX9_firstNight_3 16 rfl rfl)
theorem dX9_firstNight_86 : decode cX9_firstNight 86 = .ok (.getfield 463, 3) := dk_180 1 207 (dk_at dksX9_firstNight_3 17 rfl rfl)
theorem dX9_firstNight_89 : decode cX9_firstNight 89 = .ok (.if_icmp .ge 29, 3) := dk_162 0 29 (dk_at dksX9_firstNight_3 20 rfl rfl)
theorem dX9_firstNight_92 : decode cX9_firstNight 92 = .ok (.iload_n 1, 1) := dk_27 (dk_at dksX9_firstNight_3 23 rfl rfl)
theorem dX9_firstNight_93 : decode cX9_firstNight 93 = .ok (.iload_n 3, 1) := dk_29 (dk_at dksX9_firstNight_4 0 rfl rfl)
theorem dX9_firstNight_94 : decode cX9_firstNight 94 = .ok (.ishr, 1) := dk_122 (dk_at dksX9_firstNight_4 1 rfl rfl)
theorem dX9_firstNight_95 : decode cX9_firstNight 95 = .ok (.iconst 1, 1) := dk_4 (dk_at dksX9_firstNight_4 2 rfl rfl)
theorem dX9_firstNight_96 : decode cX9_firstNight 96 = .ok (.iand, 1) := dk_126 (dk_at dksX9_firstNight_4 3 rfl rfl)
theorem dX9_firstNight_97 : decode cX9_firstNight 97 = .ok (.iconst 1, 1) := dk_4 (dk_at dksX9_firstNight_4 4 rfl rfl)
theorem dX9_firstNight_98 : decode cX9_firstNight 98 = .ok (.if_icmp .ne 14, 3) := dk_160 0 14 (dk_at dksX9_firstNight_4 5 rfl rfl)
theorem dX9_firstNight_101 : decode cX9_firstNight 101 = .ok (.iload_n 2, 1) := dk_28 (dk_at dksX9_firstNight_4 8 rfl rfl)
theorem dX9_firstNight_102 : decode cX9_firstNight 102 = .ok (.iconst 1, 1) := dk_4 (dk_at dksX9_firstNight_4 9 rfl rfl)
theorem dX9_firstNight_103 : decode cX9_firstNight 103 = .ok (.aload_n 0, 1) := dk_42 (dk_at dksX9_firstNight_4 10 rfl rfl)
theorem dX9_firstNight_104 : decode cX9_firstNight 104 = .ok (.getfield 97, 3) := dk_180 0 97 (dk_at dksX9_firstNight_4 11 rfl rfl)
theorem dX9_firstNight_107 : decode cX9_firstNight 107 = .ok (.iload_n 3, 1) := dk_29 (dk_at dksX9_firstNight_4 14 rfl rfl)
theorem dX9_firstNight_108 : decode cX9_firstNight 108 = .ok (.iaload, 1) := dk_46 (dk_at dksX9_firstNight_4 15 rfl rfl)
theorem dX9_firstNight_109 : decode cX9_firstNight 109 = .ok (.ishl, 1) := dk_120 (dk_at dksX9_firstNight_4 16 rfl rfl)
theorem dX9_firstNight_110 : decode cX9_firstNight 110 = .ok (.ior, 1) := dk_128 (dk_at dksX9_firstNight_4 17 rfl rfl)
theorem dX9_firstNight_111 : decode cX9_firstNight 111 = .ok (.istore_n 2, 1) := dk_61 (dk_at dksX9_firstNight_4 18 rfl rfl)
theorem dX9_firstNight_112 : decode cX9_firstNight 112 = .ok (.iinc 3 1, 3) := dk_132 3 1 (dk_at dksX9_firstNight_4 19 rfl rfl)
theorem dX9_firstNight_115 : decode cX9_firstNight 115 = .ok (.goto (-31), 3) := dk_167 255 225 (dk_at dksX9_firstNight_5 0 rfl rfl)
theorem dX9_firstNight_118 : decode cX9_firstNight 118 = .ok (.iload_n 2, 1) := dk_28 (dk_at dksX9_firstNight_5 3 rfl rfl)
theorem dX9_firstNight_119 : decode cX9_firstNight 119 = .ok (.ireturn, 1) := dk_172 (dk_at dksX9_firstNight_5 4 rfl rfl)
abbrev cX9_looks : ByteArray := prog_23_method_107_code
def yX9_looks : MethodName := ⟨RX9, "looks", "(II)I"⟩
def dkwX9_looks_4 : List UInt8 := [154, 0, 5, 3, 172, 132, 3, 1, 167, 255, 209, 4, 172]
abbrev dktX9_looks_4 : List UInt8 := dkwX9_looks_4 ++ []
def dkwX9_looks_3 : List UInt8 := [27, 182, 1, 115, 42, 28, 182, 1, 115, 182, 1, 219, 153, 0, 15, 42, 29, 27, 28, 182, 1, 222]
abbrev dktX9_looks_3 : List UInt8 := dkwX9_looks_3 ++ dktX9_looks_4
def dkwX9_looks_2 : List UInt8 := [160, 0, 5, 3, 172, 3, 62, 29, 42, 180, 0, 30, 3, 46, 162, 0, 43, 42, 42, 29, 182, 1, 115, 42]
abbrev dktX9_looks_2 : List UInt8 := dkwX9_looks_2 ++ dktX9_looks_3
def dkwX9_looks_1 : List UInt8 := [27, 182, 1, 124, 42, 28, 182, 1, 124, 164, 0, 16, 42, 27, 182, 1, 115, 42, 28, 182, 1, 115]
abbrev dktX9_looks_1 : List UInt8 := dkwX9_looks_1 ++ dktX9_looks_2
def dkwX9_looks_0 : List UInt8 := [42, 27, 182, 1, 121, 153, 0, 16, 42, 28, 182, 1, 121, 153, 0, 8, 27, 28, 160, 0, 5, 2, 172, 42]
abbrev dktX9_looks_0 : List UInt8 := dkwX9_looks_0 ++ dktX9_looks_1
theorem dksX9_looks_0 : cX9_looks.data.toList.drop 0 = dktX9_looks_0 := by decide +kernel
theorem dksX9_looks_1 : cX9_looks.data.toList.drop 24 = dktX9_looks_1 := dk_seg dksX9_looks_0 24 rfl rfl
theorem dksX9_looks_2 : cX9_looks.data.toList.drop 46 = dktX9_looks_2 := dk_seg dksX9_looks_1 22 rfl rfl
theorem dksX9_looks_3 : cX9_looks.data.toList.drop 70 = dktX9_looks_3 := dk_seg dksX9_looks_2 24 rfl rfl
theorem dksX9_looks_4 : cX9_looks.data.toList.drop 92 = dktX9_looks_4 := dk_seg dksX9_looks_3 22 rfl rfl
theorem dX9_looks_0 : decode cX9_looks 0 = .ok (.aload_n 0, 1) := dk_42 (dk_at dksX9_looks_0 0 rfl rfl)
theorem dX9_looks_1 : decode cX9_looks 1 = .ok (.iload_n 1, 1) := dk_27 (dk_at dksX9_looks_0 1 rfl rfl)
theorem dX9_looks_2 : decode cX9_looks 2 = .ok (.invokevirtual 377, 3) := dk_182 1 121 (dk_at dksX9_looks_0 2 rfl rfl)
theorem dX9_looks_5 : decode cX9_looks 5 = .ok (.ifCond .eq 16, 3) := dk_153 0 16 (dk_at dksX9_looks_0 5 rfl rfl)
theorem dX9_looks_8 : decode cX9_looks 8 = .ok (.aload_n 0, 1) := dk_42 (dk_at dksX9_looks_0 8 rfl rfl)
theorem dX9_looks_9 : decode cX9_looks 9 = .ok (.iload_n 2, 1) := dk_28 (dk_at dksX9_looks_0 9 rfl rfl)
theorem dX9_looks_10 : decode cX9_looks 10 = .ok (.invokevirtual 377, 3) := dk_182 1 121 (dk_at dksX9_looks_0 10 rfl rfl)
theorem dX9_looks_13 : decode cX9_looks 13 = .ok (.ifCond .eq 8, 3) := dk_153 0 8 (dk_at dksX9_looks_0 13 rfl rfl)
theorem dX9_looks_16 : decode cX9_looks 16 = .ok (.iload_n 1, 1) := dk_27 (dk_at dksX9_looks_0 16 rfl rfl)
theorem dX9_looks_17 : decode cX9_looks 17 = .ok (.iload_n 2, 1) := dk_28 (dk_at dksX9_looks_0 17 rfl rfl)
theorem dX9_looks_18 : decode cX9_looks 18 = .ok (.if_icmp .ne 5, 3) := dk_160 0 5 (dk_at dksX9_looks_0 18 rfl rfl)
theorem dX9_looks_21 : decode cX9_looks 21 = .ok (.iconst (-1), 1) := dk_2 (dk_at dksX9_looks_0 21 rfl rfl)
theorem dX9_looks_22 : decode cX9_looks 22 = .ok (.ireturn, 1) := dk_172 (dk_at dksX9_looks_0 22 rfl rfl)
theorem dX9_looks_23 : decode cX9_looks 23 = .ok (.aload_n 0, 1) := dk_42 (dk_at dksX9_looks_0 23 rfl rfl)
theorem dX9_looks_24 : decode cX9_looks 24 = .ok (.iload_n 1, 1) := dk_27 (dk_at dksX9_looks_1 0 rfl rfl)
theorem dX9_looks_25 : decode cX9_looks 25 = .ok (.invokevirtual 380, 3) := dk_182 1 124 (dk_at dksX9_looks_1 1 rfl rfl)
theorem dX9_looks_28 : decode cX9_looks 28 = .ok (.aload_n 0, 1) := dk_42 (dk_at dksX9_looks_1 4 rfl rfl)
theorem dX9_looks_29 : decode cX9_looks 29 = .ok (.iload_n 2, 1) := dk_28 (dk_at dksX9_looks_1 5 rfl rfl)
theorem dX9_looks_30 : decode cX9_looks 30 = .ok (.invokevirtual 380, 3) := dk_182 1 124 (dk_at dksX9_looks_1 6 rfl rfl)
theorem dX9_looks_33 : decode cX9_looks 33 = .ok (.if_icmp .le 16, 3) := dk_164 0 16 (dk_at dksX9_looks_1 9 rfl rfl)
theorem dX9_looks_36 : decode cX9_looks 36 = .ok (.aload_n 0, 1) := dk_42 (dk_at dksX9_looks_1 12 rfl rfl)
theorem dX9_looks_37 : decode cX9_looks 37 = .ok (.iload_n 1, 1) := dk_27 (dk_at dksX9_looks_1 13 rfl rfl)
theorem dX9_looks_38 : decode cX9_looks 38 = .ok (.invokevirtual 371, 3) := dk_182 1 115 (dk_at dksX9_looks_1 14 rfl rfl)
theorem dX9_looks_41 : decode cX9_looks 41 = .ok (.aload_n 0, 1) := dk_42 (dk_at dksX9_looks_1 17 rfl rfl)
theorem dX9_looks_42 : decode cX9_looks 42 = .ok (.iload_n 2, 1) := dk_28 (dk_at dksX9_looks_1 18 rfl rfl)
theorem dX9_looks_43 : decode cX9_looks 43 = .ok (.invokevirtual 371, 3) := dk_182 1 115 (dk_at dksX9_looks_1 19 rfl rfl)
theorem dX9_looks_46 : decode cX9_looks 46 = .ok (.if_icmp .ne 5, 3) := dk_160 0 5 (dk_at dksX9_looks_2 0 rfl rfl)
theorem dX9_looks_49 : decode cX9_looks 49 = .ok (.iconst 0, 1) := dk_3 (dk_at dksX9_looks_2 3 rfl rfl)
theorem dX9_looks_50 : decode cX9_looks 50 = .ok (.ireturn, 1) := dk_172 (dk_at dksX9_looks_2 4 rfl rfl)
theorem dX9_looks_51 : decode cX9_looks 51 = .ok (.iconst 0, 1) := dk_3 (dk_at dksX9_looks_2 5 rfl rfl)
theorem dX9_looks_52 : decode cX9_looks 52 = .ok (.istore_n 3, 1) := dk_62 (dk_at dksX9_looks_2 6 rfl rfl)
theorem dX9_looks_53 : decode cX9_looks 53 = .ok (.iload_n 3, 1) := dk_29 (dk_at dksX9_looks_2 7 rfl rfl)
theorem dX9_looks_54 : decode cX9_looks 54 = .ok (.aload_n 0, 1) := dk_42 (dk_at dksX9_looks_2 8 rfl rfl)
theorem dX9_looks_55 : decode cX9_looks 55 = .ok (.getfield 30, 3) := dk_180 0 30 (dk_at dksX9_looks_2 9 rfl rfl)
theorem dX9_looks_58 : decode cX9_looks 58 = .ok (.iconst 0, 1) := dk_3 (dk_at dksX9_looks_2 12 rfl rfl)
theorem dX9_looks_59 : decode cX9_looks 59 = .ok (.iaload, 1) := dk_46 (dk_at dksX9_looks_2 13 rfl rfl)
theorem dX9_looks_60 : decode cX9_looks 60 = .ok (.if_icmp .ge 43, 3) := dk_162 0 43 (dk_at dksX9_looks_2 14 rfl rfl)
theorem dX9_looks_63 : decode cX9_looks 63 = .ok (.aload_n 0, 1) := dk_42 (dk_at dksX9_looks_2 17 rfl rfl)
theorem dX9_looks_64 : decode cX9_looks 64 = .ok (.aload_n 0, 1) := dk_42 (dk_at dksX9_looks_2 18 rfl rfl)
theorem dX9_looks_65 : decode cX9_looks 65 = .ok (.iload_n 3, 1) := dk_29 (dk_at dksX9_looks_2 19 rfl rfl)
theorem dX9_looks_66 : decode cX9_looks 66 = .ok (.invokevirtual 371, 3) := dk_182 1 115 (dk_at dksX9_looks_2 20 rfl rfl)
theorem dX9_looks_69 : decode cX9_looks 69 = .ok (.aload_n 0, 1) := dk_42 (dk_at dksX9_looks_2 23 rfl rfl)
theorem dX9_looks_70 : decode cX9_looks 70 = .ok (.iload_n 1, 1) := dk_27 (dk_at dksX9_looks_3 0 rfl rfl)
theorem dX9_looks_71 : decode cX9_looks 71 = .ok (.invokevirtual 371, 3) := dk_182 1 115 (dk_at dksX9_looks_3 1 rfl rfl)
theorem dX9_looks_74 : decode cX9_looks 74 = .ok (.aload_n 0, 1) := dk_42 (dk_at dksX9_looks_3 4 rfl rfl)
theorem dX9_looks_75 : decode cX9_looks 75 = .ok (.iload_n 2, 1) := dk_28 (dk_at dksX9_looks_3 5 rfl rfl)
theorem dX9_looks_76 : decode cX9_looks 76 = .ok (.invokevirtual 371, 3) := dk_182 1 115 (dk_at dksX9_looks_3 6 rfl rfl)
theorem dX9_looks_79 : decode cX9_looks 79 = .ok (.invokevirtual 475, 3) := dk_182 1 219 (dk_at dksX9_looks_3 9 rfl rfl)
theorem dX9_looks_82 : decode cX9_looks 82 = .ok (.ifCond .eq 15, 3) := dk_153 0 15 (dk_at dksX9_looks_3 12 rfl rfl)
theorem dX9_looks_85 : decode cX9_looks 85 = .ok (.aload_n 0, 1) := dk_42 (dk_at dksX9_looks_3 15 rfl rfl)
theorem dX9_looks_86 : decode cX9_looks 86 = .ok (.iload_n 3, 1) := dk_29 (dk_at dksX9_looks_3 16 rfl rfl)
theorem dX9_looks_87 : decode cX9_looks 87 = .ok (.iload_n 1, 1) := dk_27 (dk_at dksX9_looks_3 17 rfl rfl)
theorem dX9_looks_88 : decode cX9_looks 88 = .ok (.iload_n 2, 1) := dk_28 (dk_at dksX9_looks_3 18 rfl rfl)
theorem dX9_looks_89 : decode cX9_looks 89 = .ok (.invokevirtual 478, 3) := dk_182 1 222 (dk_at dksX9_looks_3 19 rfl rfl)
theorem dX9_looks_92 : decode cX9_looks 92 = .ok (.ifCond .ne 5, 3) := dk_154 0 5 (dk_at dksX9_looks_4 0 rfl rfl)
theorem dX9_looks_95 : decode cX9_looks 95 = .ok (.iconst 0, 1) := dk_3 (dk_at dksX9_looks_4 3 rfl rfl)
theorem dX9_looks_96 : decode cX9_looks 96 = .ok (.ireturn, 1) := dk_172 (dk_at dksX9_looks_4 4 rfl rfl)
theorem dX9_looks_97 : decode cX9_looks 97 = .ok (.iinc 3 1, 3) := dk_132 3 1 (dk_at dksX9_looks_4 5 rfl rfl)
theorem dX9_looks_100 : decode cX9_looks 100 = .ok (.goto (-47), 3) := dk_167 255 209 (dk_at dksX9_looks_4 8 rfl rfl)
theorem dX9_looks_103 : decode cX9_looks 103 = .ok (.iconst 1, 1) := dk_4 (dk_at dksX9_looks_4 11 rfl rfl)
theorem dX9_looks_104 : decode cX9_looks 104 = .ok (.ireturn, 1) := dk_172 (dk_at dksX9_looks_4 12 rfl rfl)
abbrev cX9_isBetween : ByteArray := prog_23_method_106_code
def yX9_isBetween : MethodName := ⟨RX9, "isBetween", "(III)Z"⟩
def dkwX9_isBetween_1 : List UInt8 := [3, 172]
abbrev dktX9_isBetween_1 : List UInt8 := dkwX9_isBetween_1 ++ []
def dkwX9_isBetween_0 : List UInt8 := [27, 28, 164, 0, 8, 27, 29, 161, 0, 13, 27, 29, 164, 0, 12, 27, 28, 162, 0, 7, 4, 167, 0, 4]
abbrev dktX9_isBetween_0 : List UInt8 := dkwX9_isBetween_0 ++ dktX9_isBetween_1
theorem dksX9_isBetween_0 : cX9_isBetween.data.toList.drop 0 = dktX9_isBetween_0 := by decide +kernel
theorem dksX9_isBetween_1 : cX9_isBetween.data.toList.drop 24 = dktX9_isBetween_1 := dk_seg dksX9_isBetween_0 24 rfl rfl
theorem dX9_isBetween_0 : decode cX9_isBetween 0 = .ok (.iload_n 1, 1) := dk_27 (dk_at dksX9_isBetween_0 0 rfl rfl)
theorem dX9_isBetween_1 : decode cX9_isBetween 1 = .ok (.iload_n 2, 1) := dk_28 (dk_at dksX9_isBetween_0 1 rfl rfl)
theorem dX9_isBetween_2 : decode cX9_isBetween 2 = .ok (.if_icmp .le 8, 3) := dk_164 0 8 (dk_at dksX9_isBetween_0 2 rfl rfl)
theorem dX9_isBetween_5 : decode cX9_isBetween 5 = .ok (.iload_n 1, 1) := dk_27 (dk_at dksX9_isBetween_0 5 rfl rfl)
theorem dX9_isBetween_6 : decode cX9_isBetween 6 = .ok (.iload_n 3, 1) := dk_29 (dk_at dksX9_isBetween_0 6 rfl rfl)
theorem dX9_isBetween_7 : decode cX9_isBetween 7 = .ok (.if_icmp .lt 13, 3) := dk_161 0 13 (dk_at dksX9_isBetween_0 7 rfl rfl)
theorem dX9_isBetween_10 : decode cX9_isBetween 10 = .ok (.iload_n 1, 1) := dk_27 (dk_at dksX9_isBetween_0 10 rfl rfl)
theorem dX9_isBetween_11 : decode cX9_isBetween 11 = .ok (.iload_n 3, 1) := dk_29 (dk_at dksX9_isBetween_0 11 rfl rfl)
theorem dX9_isBetween_12 : decode cX9_isBetween 12 = .ok (.if_icmp .le 12, 3) := dk_164 0 12 (dk_at dksX9_isBetween_0 12 rfl rfl)
theorem dX9_isBetween_15 : decode cX9_isBetween 15 = .ok (.iload_n 1, 1) := dk_27 (dk_at dksX9_isBetween_0 15 rfl rfl)
theorem dX9_isBetween_16 : decode cX9_isBetween 16 = .ok (.iload_n 2, 1) := dk_28 (dk_at dksX9_isBetween_0 16 rfl rfl)
theorem dX9_isBetween_17 : decode cX9_isBetween 17 = .ok (.if_icmp .ge 7, 3) := dk_162 0 7 (dk_at dksX9_isBetween_0 17 rfl rfl)
theorem dX9_isBetween_20 : decode cX9_isBetween 20 = .ok (.iconst 1, 1) := dk_4 (dk_at dksX9_isBetween_0 20 rfl rfl)
theorem dX9_isBetween_21 : decode cX9_isBetween 21 = .ok (.goto 4, 3) := dk_167 0 4 (dk_at dksX9_isBetween_0 21 rfl rfl)
theorem dX9_isBetween_24 : decode cX9_isBetween 24 = .ok (.iconst 0, 1) := dk_3 (dk_at dksX9_isBetween_1 0 rfl rfl)
theorem dX9_isBetween_25 : decode cX9_isBetween 25 = .ok (.ireturn, 1) := dk_172 (dk_at dksX9_isBetween_1 1 rfl rfl)
abbrev cX9_isBelow : ByteArray := prog_23_method_105_code
def yX9_isBelow : MethodName := ⟨RX9, "isBelow", "(III)Z"⟩
def dkwX9_isBelow_4 : List UInt8 := [3, 172]
abbrev dktX9_isBelow_4 : List UInt8 := dkwX9_isBelow_4 ++ []
def dkwX9_isBelow_3 : List UInt8 := [182, 1, 124, 100, 42, 27, 182, 1, 115, 42, 21, 4, 182, 1, 115, 100, 104, 162, 0, 7, 4, 167, 0, 4]
abbrev dktX9_isBelow_3 : List UInt8 := dkwX9_isBelow_3 ++ dktX9_isBelow_4
def dkwX9_isBelow_2 : List UInt8 := [21, 5, 182, 1, 115, 42, 21, 4, 182, 1, 115, 100, 104, 42, 21, 5, 182, 1, 124, 42, 21, 4]
abbrev dktX9_isBelow_2 : List UInt8 := dkwX9_isBelow_2 ++ dktX9_isBelow_3
def dkwX9_isBelow_1 : List UInt8 := [160, 0, 7, 29, 167, 0, 4, 28, 54, 5, 42, 27, 182, 1, 124, 42, 21, 4, 182, 1, 124, 100, 42]
abbrev dktX9_isBelow_1 : List UInt8 := dkwX9_isBelow_1 ++ dktX9_isBelow_2
def dkwX9_isBelow_0 : List UInt8 := [42, 28, 182, 1, 115, 42, 29, 182, 1, 115, 162, 0, 7, 28, 167, 0, 4, 29, 54, 4, 21, 4, 28]
abbrev dktX9_isBelow_0 : List UInt8 := dkwX9_isBelow_0 ++ dktX9_isBelow_1
theorem dksX9_isBelow_0 : cX9_isBelow.data.toList.drop 0 = dktX9_isBelow_0 := by decide +kernel
theorem dksX9_isBelow_1 : cX9_isBelow.data.toList.drop 23 = dktX9_isBelow_1 := dk_seg dksX9_isBelow_0 23 rfl rfl
theorem dksX9_isBelow_2 : cX9_isBelow.data.toList.drop 46 = dktX9_isBelow_2 := dk_seg dksX9_isBelow_1 23 rfl rfl
theorem dksX9_isBelow_3 : cX9_isBelow.data.toList.drop 68 = dktX9_isBelow_3 := dk_seg dksX9_isBelow_2 22 rfl rfl
theorem dksX9_isBelow_4 : cX9_isBelow.data.toList.drop 92 = dktX9_isBelow_4 := dk_seg dksX9_isBelow_3 24 rfl rfl
theorem dX9_isBelow_0 : decode cX9_isBelow 0 = .ok (.aload_n 0, 1) := dk_42 (dk_at dksX9_isBelow_0 0 rfl rfl)
theorem dX9_isBelow_1 : decode cX9_isBelow 1 = .ok (.iload_n 2, 1) := dk_28 (dk_at dksX9_isBelow_0 1 rfl rfl)
theorem dX9_isBelow_2 : decode cX9_isBelow 2 = .ok (.invokevirtual 371, 3) := dk_182 1 115 (dk_at dksX9_isBelow_0 2 rfl rfl)
theorem dX9_isBelow_5 : decode cX9_isBelow 5 = .ok (.aload_n 0, 1) := dk_42 (dk_at dksX9_isBelow_0 5 rfl rfl)
theorem dX9_isBelow_6 : decode cX9_isBelow 6 = .ok (.iload_n 3, 1) := dk_29 (dk_at dksX9_isBelow_0 6 rfl rfl)
theorem dX9_isBelow_7 : decode cX9_isBelow 7 = .ok (.invokevirtual 371, 3) := dk_182 1 115 (dk_at dksX9_isBelow_0 7 rfl rfl)
theorem dX9_isBelow_10 : decode cX9_isBelow 10 = .ok (.if_icmp .ge 7, 3) := dk_162 0 7 (dk_at dksX9_isBelow_0 10 rfl rfl)
theorem dX9_isBelow_13 : decode cX9_isBelow 13 = .ok (.iload_n 2, 1) := dk_28 (dk_at dksX9_isBelow_0 13 rfl rfl)
theorem dX9_isBelow_14 : decode cX9_isBelow 14 = .ok (.goto 4, 3) := dk_167 0 4 (dk_at dksX9_isBelow_0 14 rfl rfl)
theorem dX9_isBelow_17 : decode cX9_isBelow 17 = .ok (.iload_n 3, 1) := dk_29 (dk_at dksX9_isBelow_0 17 rfl rfl)
theorem dX9_isBelow_18 : decode cX9_isBelow 18 = .ok (.istore 4, 2) := dk_54 4 (dk_at dksX9_isBelow_0 18 rfl rfl)
theorem dX9_isBelow_20 : decode cX9_isBelow 20 = .ok (.iload 4, 2) := dk_21 4 (dk_at dksX9_isBelow_0 20 rfl rfl)
theorem dX9_isBelow_22 : decode cX9_isBelow 22 = .ok (.iload_n 2, 1) := dk_28 (dk_at dksX9_isBelow_0 22 rfl rfl)
theorem dX9_isBelow_23 : decode cX9_isBelow 23 = .ok (.if_icmp .ne 7, 3) := dk_160 0 7 (dk_at dksX9_isBelow_1 0 rfl rfl)
theorem dX9_isBelow_26 : decode cX9_isBelow 26 = .ok (.iload_n 3, 1) := dk_29 (dk_at dksX9_isBelow_1 3 rfl rfl)
theorem dX9_isBelow_27 : decode cX9_isBelow 27 = .ok (.goto 4, 3) := dk_167 0 4 (dk_at dksX9_isBelow_1 4 rfl rfl)
theorem dX9_isBelow_30 : decode cX9_isBelow 30 = .ok (.iload_n 2, 1) := dk_28 (dk_at dksX9_isBelow_1 7 rfl rfl)
theorem dX9_isBelow_31 : decode cX9_isBelow 31 = .ok (.istore 5, 2) := dk_54 5 (dk_at dksX9_isBelow_1 8 rfl rfl)
theorem dX9_isBelow_33 : decode cX9_isBelow 33 = .ok (.aload_n 0, 1) := dk_42 (dk_at dksX9_isBelow_1 10 rfl rfl)
theorem dX9_isBelow_34 : decode cX9_isBelow 34 = .ok (.iload_n 1, 1) := dk_27 (dk_at dksX9_isBelow_1 11 rfl rfl)
theorem dX9_isBelow_35 : decode cX9_isBelow 35 = .ok (.invokevirtual 380, 3) := dk_182 1 124 (dk_at dksX9_isBelow_1 12 rfl rfl)
theorem dX9_isBelow_38 : decode cX9_isBelow 38 = .ok (.aload_n 0, 1) := dk_42 (dk_at dksX9_isBelow_1 15 rfl rfl)
theorem dX9_isBelow_39 : decode cX9_isBelow 39 = .ok (.iload 4, 2) := dk_21 4 (dk_at dksX9_isBelow_1 16 rfl rfl)
theorem dX9_isBelow_41 : decode cX9_isBelow 41 = .ok (.invokevirtual 380, 3) := dk_182 1 124 (dk_at dksX9_isBelow_1 18 rfl rfl)
theorem dX9_isBelow_44 : decode cX9_isBelow 44 = .ok (.isub, 1) := dk_100 (dk_at dksX9_isBelow_1 21 rfl rfl)
theorem dX9_isBelow_45 : decode cX9_isBelow 45 = .ok (.aload_n 0, 1) := dk_42 (dk_at dksX9_isBelow_1 22 rfl rfl)
theorem dX9_isBelow_46 : decode cX9_isBelow 46 = .ok (.iload 5, 2) := dk_21 5 (dk_at dksX9_isBelow_2 0 rfl rfl)
theorem dX9_isBelow_48 : decode cX9_isBelow 48 = .ok (.invokevirtual 371, 3) := dk_182 1 115 (dk_at dksX9_isBelow_2 2 rfl rfl)
theorem dX9_isBelow_51 : decode cX9_isBelow 51 = .ok (.aload_n 0, 1) := dk_42 (dk_at dksX9_isBelow_2 5 rfl rfl)
theorem dX9_isBelow_52 : decode cX9_isBelow 52 = .ok (.iload 4, 2) := dk_21 4 (dk_at dksX9_isBelow_2 6 rfl rfl)
theorem dX9_isBelow_54 : decode cX9_isBelow 54 = .ok (.invokevirtual 371, 3) := dk_182 1 115 (dk_at dksX9_isBelow_2 8 rfl rfl)
theorem dX9_isBelow_57 : decode cX9_isBelow 57 = .ok (.isub, 1) := dk_100 (dk_at dksX9_isBelow_2 11 rfl rfl)
theorem dX9_isBelow_58 : decode cX9_isBelow 58 = .ok (.imul, 1) := dk_104 (dk_at dksX9_isBelow_2 12 rfl rfl)
theorem dX9_isBelow_59 : decode cX9_isBelow 59 = .ok (.aload_n 0, 1) := dk_42 (dk_at dksX9_isBelow_2 13 rfl rfl)
theorem dX9_isBelow_60 : decode cX9_isBelow 60 = .ok (.iload 5, 2) := dk_21 5 (dk_at dksX9_isBelow_2 14 rfl rfl)
theorem dX9_isBelow_62 : decode cX9_isBelow 62 = .ok (.invokevirtual 380, 3) := dk_182 1 124 (dk_at dksX9_isBelow_2 16 rfl rfl)
theorem dX9_isBelow_65 : decode cX9_isBelow 65 = .ok (.aload_n 0, 1) := dk_42 (dk_at dksX9_isBelow_2 19 rfl rfl)
theorem dX9_isBelow_66 : decode cX9_isBelow 66 = .ok (.iload 4, 2) := dk_21 4 (dk_at dksX9_isBelow_2 20 rfl rfl)
theorem dX9_isBelow_68 : decode cX9_isBelow 68 = .ok (.invokevirtual 380, 3) := dk_182 1 124 (dk_at dksX9_isBelow_3 0 rfl rfl)
theorem dX9_isBelow_71 : decode cX9_isBelow 71 = .ok (.isub, 1) := dk_100 (dk_at dksX9_isBelow_3 3 rfl rfl)
theorem dX9_isBelow_72 : decode cX9_isBelow 72 = .ok (.aload_n 0, 1) := dk_42 (dk_at dksX9_isBelow_3 4 rfl rfl)
theorem dX9_isBelow_73 : decode cX9_isBelow 73 = .ok (.iload_n 1, 1) := dk_27 (dk_at dksX9_isBelow_3 5 rfl rfl)
theorem dX9_isBelow_74 : decode cX9_isBelow 74 = .ok (.invokevirtual 371, 3) := dk_182 1 115 (dk_at dksX9_isBelow_3 6 rfl rfl)
theorem dX9_isBelow_77 : decode cX9_isBelow 77 = .ok (.aload_n 0, 1) := dk_42 (dk_at dksX9_isBelow_3 9 rfl rfl)
theorem dX9_isBelow_78 : decode cX9_isBelow 78 = .ok (.iload 4, 2) := dk_21 4 (dk_at dksX9_isBelow_3 10 rfl rfl)
theorem dX9_isBelow_80 : decode cX9_isBelow 80 = .ok (.invokevirtual 371, 3) := dk_182 1 115 (dk_at dksX9_isBelow_3 12 rfl rfl)
theorem dX9_isBelow_83 : decode cX9_isBelow 83 = .ok (.isub, 1) := dk_100 (dk_at dksX9_isBelow_3 15 rfl rfl)
theorem dX9_isBelow_84 : decode cX9_isBelow 84 = .ok (.imul, 1) := dk_104 (dk_at dksX9_isBelow_3 16 rfl rfl)
theorem dX9_isBelow_85 : decode cX9_isBelow 85 = .ok (.if_icmp .ge 7, 3) := dk_162 0 7 (dk_at dksX9_isBelow_3 17 rfl rfl)
theorem dX9_isBelow_88 : decode cX9_isBelow 88 = .ok (.iconst 1, 1) := dk_4 (dk_at dksX9_isBelow_3 20 rfl rfl)
theorem dX9_isBelow_89 : decode cX9_isBelow 89 = .ok (.goto 4, 3) := dk_167 0 4 (dk_at dksX9_isBelow_3 21 rfl rfl)
theorem dX9_isBelow_92 : decode cX9_isBelow 92 = .ok (.iconst 0, 1) := dk_3 (dk_at dksX9_isBelow_4 0 rfl rfl)
theorem dX9_isBelow_93 : decode cX9_isBelow 93 = .ok (.ireturn, 1) := dk_172 (dk_at dksX9_isBelow_4 1 rfl rfl)
abbrev cX9_light : ByteArray := prog_23_method_108_code
def yX9_light : MethodName := ⟨RX9, "light", "(I)I"⟩
def dkwX9_light_4 : List UInt8 := [4, 167, 0, 4, 3, 29, 153, 0, 7, 5, 167, 0, 4, 3, 96, 172]
abbrev dktX9_light_4 : List UInt8 := dkwX9_light_4 ++ []
def dkwX9_light_3 : List UInt8 := [21, 6, 158, 0, 12, 21, 5, 21, 6, 161, 0, 5, 3, 62, 132, 4, 1, 167, 255, 185, 28, 153, 0, 7]
abbrev dktX9_light_3 : List UInt8 := dkwX9_light_3 ++ dktX9_light_4
def dkwX9_light_2 : List UInt8 := [42, 27, 182, 1, 115, 100, 54, 6, 21, 6, 156, 0, 13, 21, 5, 21, 6, 116, 161, 0, 5, 3, 61]
abbrev dktX9_light_2 : List UInt8 := dkwX9_light_2 ++ dktX9_light_3
def dkwX9_light_1 : List UInt8 := [46, 162, 0, 66, 42, 21, 4, 182, 1, 124, 42, 27, 182, 1, 124, 100, 54, 5, 42, 21, 4, 182, 1, 115]
abbrev dktX9_light_1 : List UInt8 := dkwX9_light_1 ++ dktX9_light_2
def dkwX9_light_0 : List UInt8 := [42, 27, 182, 1, 121, 154, 0, 5, 2, 172, 4, 61, 4, 62, 3, 54, 4, 21, 4, 42, 180, 0, 30, 3]
abbrev dktX9_light_0 : List UInt8 := dkwX9_light_0 ++ dktX9_light_1
theorem dksX9_light_0 : cX9_light.data.toList.drop 0 = dktX9_light_0 := by decide +kernel
theorem dksX9_light_1 : cX9_light.data.toList.drop 24 = dktX9_light_1 := dk_seg dksX9_light_0 24 rfl rfl
theorem dksX9_light_2 : cX9_light.data.toList.drop 48 = dktX9_light_2 := dk_seg dksX9_light_1 24 rfl rfl
theorem dksX9_light_3 : cX9_light.data.toList.drop 71 = dktX9_light_3 := dk_seg dksX9_light_2 23 rfl rfl
theorem dksX9_light_4 : cX9_light.data.toList.drop 95 = dktX9_light_4 := dk_seg dksX9_light_3 24 rfl rfl
theorem dX9_light_0 : decode cX9_light 0 = .ok (.aload_n 0, 1) := dk_42 (dk_at dksX9_light_0 0 rfl rfl)
theorem dX9_light_1 : decode cX9_light 1 = .ok (.iload_n 1, 1) := dk_27 (dk_at dksX9_light_0 1 rfl rfl)
theorem dX9_light_2 : decode cX9_light 2 = .ok (.invokevirtual 377, 3) := dk_182 1 121 (dk_at dksX9_light_0 2 rfl rfl)
theorem dX9_light_5 : decode cX9_light 5 = .ok (.ifCond .ne 5, 3) := dk_154 0 5 (dk_at dksX9_light_0 5 rfl rfl)
theorem dX9_light_8 : decode cX9_light 8 = .ok (.iconst (-1), 1) := dk_2 (dk_at dksX9_light_0 8 rfl rfl)
theorem dX9_light_9 : decode cX9_light 9 = .ok (.ireturn, 1) := dk_172 (dk_at dksX9_light_0 9 rfl rfl)
theorem dX9_light_10 : decode cX9_light 10 = .ok (.iconst 1, 1) := dk_4 (dk_at dksX9_light_0 10 rfl rfl)
theorem dX9_light_11 : decode cX9_light 11 = .ok (.istore_n 2, 1) := dk_61 (dk_at dksX9_light_0 11 rfl rfl)
theorem dX9_light_12 : decode cX9_light 12 = .ok (.iconst 1, 1) := dk_4 (dk_at dksX9_light_0 12 rfl rfl)
theorem dX9_light_13 : decode cX9_light 13 = .ok (.istore_n 3, 1) := dk_62 (dk_at dksX9_light_0 13 rfl rfl)
theorem dX9_light_14 : decode cX9_light 14 = .ok (.iconst 0, 1) := dk_3 (dk_at dksX9_light_0 14 rfl rfl)
theorem dX9_light_15 : decode cX9_light 15 = .ok (.istore 4, 2) := dk_54 4 (dk_at dksX9_light_0 15 rfl rfl)
theorem dX9_light_17 : decode cX9_light 17 = .ok (.iload 4, 2) := dk_21 4 (dk_at dksX9_light_0 17 rfl rfl)
theorem dX9_light_19 : decode cX9_light 19 = .ok (.aload_n 0, 1) := dk_42 (dk_at dksX9_light_0 19 rfl rfl)
theorem dX9_light_20 : decode cX9_light 20 = .ok (.getfield 30, 3) := dk_180 0 30 (dk_at dksX9_light_0 20 rfl rfl)
theorem dX9_light_23 : decode cX9_light 23 = .ok (.iconst 0, 1) := dk_3 (dk_at dksX9_light_0 23 rfl rfl)
theorem dX9_light_24 : decode cX9_light 24 = .ok (.iaload, 1) := dk_46 (dk_at dksX9_light_1 0 rfl rfl)
theorem dX9_light_25 : decode cX9_light 25 = .ok (.if_icmp .ge 66, 3) := dk_162 0 66 (dk_at dksX9_light_1 1 rfl rfl)
theorem dX9_light_28 : decode cX9_light 28 = .ok (.aload_n 0, 1) := dk_42 (dk_at dksX9_light_1 4 rfl rfl)
theorem dX9_light_29 : decode cX9_light 29 = .ok (.iload 4, 2) := dk_21 4 (dk_at dksX9_light_1 5 rfl rfl)
theorem dX9_light_31 : decode cX9_light 31 = .ok (.invokevirtual 380, 3) := dk_182 1 124 (dk_at dksX9_light_1 7 rfl rfl)
theorem dX9_light_34 : decode cX9_light 34 = .ok (.aload_n 0, 1) := dk_42 (dk_at dksX9_light_1 10 rfl rfl)
theorem dX9_light_35 : decode cX9_light 35 = .ok (.iload_n 1, 1) := dk_27 (dk_at dksX9_light_1 11 rfl rfl)
theorem dX9_light_36 : decode cX9_light 36 = .ok (.invokevirtual 380, 3) := dk_182 1 124 (dk_at dksX9_light_1 12 rfl rfl)
theorem dX9_light_39 : decode cX9_light 39 = .ok (.isub, 1) := dk_100 (dk_at dksX9_light_1 15 rfl rfl)
theorem dX9_light_40 : decode cX9_light 40 = .ok (.istore 5, 2) := dk_54 5 (dk_at dksX9_light_1 16 rfl rfl)
theorem dX9_light_42 : decode cX9_light 42 = .ok (.aload_n 0, 1) := dk_42 (dk_at dksX9_light_1 18 rfl rfl)
theorem dX9_light_43 : decode cX9_light 43 = .ok (.iload 4, 2) := dk_21 4 (dk_at dksX9_light_1 19 rfl rfl)
theorem dX9_light_45 : decode cX9_light 45 = .ok (.invokevirtual 371, 3) := dk_182 1 115 (dk_at dksX9_light_1 21 rfl rfl)
theorem dX9_light_48 : decode cX9_light 48 = .ok (.aload_n 0, 1) := dk_42 (dk_at dksX9_light_2 0 rfl rfl)
theorem dX9_light_49 : decode cX9_light 49 = .ok (.iload_n 1, 1) := dk_27 (dk_at dksX9_light_2 1 rfl rfl)
theorem dX9_light_50 : decode cX9_light 50 = .ok (.invokevirtual 371, 3) := dk_182 1 115 (dk_at dksX9_light_2 2 rfl rfl)
theorem dX9_light_53 : decode cX9_light 53 = .ok (.isub, 1) := dk_100 (dk_at dksX9_light_2 5 rfl rfl)
theorem dX9_light_54 : decode cX9_light 54 = .ok (.istore 6, 2) := dk_54 6 (dk_at dksX9_light_2 6 rfl rfl)
theorem dX9_light_56 : decode cX9_light 56 = .ok (.iload 6, 2) := dk_21 6 (dk_at dksX9_light_2 8 rfl rfl)
theorem dX9_light_58 : decode cX9_light 58 = .ok (.ifCond .ge 13, 3) := dk_156 0 13 (dk_at dksX9_light_2 10 rfl rfl)
theorem dX9_light_61 : decode cX9_light 61 = .ok (.iload 5, 2) := dk_21 5 (dk_at dksX9_light_2 13 rfl rfl)
theorem dX9_light_63 : decode cX9_light 63 = .ok (.iload 6, 2) := dk_21 6 (dk_at dksX9_light_2 15 rfl rfl)
theorem dX9_light_65 : decode cX9_light 65 = .ok (.ineg, 1) := dk_116 (dk_at dksX9_light_2 17 rfl rfl)
theorem dX9_light_66 : decode cX9_light 66 = .ok (.if_icmp .lt 5, 3) := dk_161 0 5 (dk_at dksX9_light_2 18 rfl rfl)
theorem dX9_light_69 : decode cX9_light 69 = .ok (.iconst 0, 1) := dk_3 (dk_at dksX9_light_2 21 rfl rfl)
theorem dX9_light_70 : decode cX9_light 70 = .ok (.istore_n 2, 1) := dk_61 (dk_at dksX9_light_2 22 rfl rfl)
theorem dX9_light_71 : decode cX9_light 71 = .ok (.iload 6, 2) := dk_21 6 (dk_at dksX9_light_3 0 rfl rfl)
theorem dX9_light_73 : decode cX9_light 73 = .ok (.ifCond .le 12, 3) := dk_158 0 12 (dk_at dksX9_light_3 2 rfl rfl)
theorem dX9_light_76 : decode cX9_light 76 = .ok (.iload 5, 2) := dk_21 5 (dk_at dksX9_light_3 5 rfl rfl)
theorem dX9_light_78 : decode cX9_light 78 = .ok (.iload 6, 2) := dk_21 6 (dk_at dksX9_light_3 7 rfl rfl)
theorem dX9_light_80 : decode cX9_light 80 = .ok (.if_icmp .lt 5, 3) := dk_161 0 5 (dk_at dksX9_light_3 9 rfl rfl)
theorem dX9_light_83 : decode cX9_light 83 = .ok (.iconst 0, 1) := dk_3 (dk_at dksX9_light_3 12 rfl rfl)
theorem dX9_light_84 : decode cX9_light 84 = .ok (.istore_n 3, 1) := dk_62 (dk_at dksX9_light_3 13 rfl rfl)
theorem dX9_light_85 : decode cX9_light 85 = .ok (.iinc 4 1, 3) := dk_132 4 1 (dk_at dksX9_light_3 14 rfl rfl)
theorem dX9_light_88 : decode cX9_light 88 = .ok (.goto (-71), 3) := dk_167 255 185 (dk_at dksX9_light_3 17 rfl rfl)
theorem dX9_light_91 : decode cX9_light 91 = .ok (.iload_n 2, 1) := dk_28 (dk_at dksX9_light_3 20 rfl rfl)
theorem dX9_light_92 : decode cX9_light 92 = .ok (.ifCond .eq 7, 3) := dk_153 0 7 (dk_at dksX9_light_3 21 rfl rfl)
theorem dX9_light_95 : decode cX9_light 95 = .ok (.iconst 1, 1) := dk_4 (dk_at dksX9_light_4 0 rfl rfl)
theorem dX9_light_96 : decode cX9_light 96 = .ok (.goto 4, 3) := dk_167 0 4 (dk_at dksX9_light_4 1 rfl rfl)
theorem dX9_light_99 : decode cX9_light 99 = .ok (.iconst 0, 1) := dk_3 (dk_at dksX9_light_4 4 rfl rfl)
theorem dX9_light_100 : decode cX9_light 100 = .ok (.iload_n 3, 1) := dk_29 (dk_at dksX9_light_4 5 rfl rfl)
theorem dX9_light_101 : decode cX9_light 101 = .ok (.ifCond .eq 7, 3) := dk_153 0 7 (dk_at dksX9_light_4 6 rfl rfl)
theorem dX9_light_104 : decode cX9_light 104 = .ok (.iconst 2, 1) := dk_5 (dk_at dksX9_light_4 9 rfl rfl)
theorem dX9_light_105 : decode cX9_light 105 = .ok (.goto 4, 3) := dk_167 0 4 (dk_at dksX9_light_4 10 rfl rfl)
theorem dX9_light_108 : decode cX9_light 108 = .ok (.iconst 0, 1) := dk_3 (dk_at dksX9_light_4 13 rfl rfl)
theorem dX9_light_109 : decode cX9_light 109 = .ok (.iadd, 1) := dk_96 (dk_at dksX9_light_4 14 rfl rfl)
theorem dX9_light_110 : decode cX9_light 110 = .ok (.ireturn, 1) := dk_172 (dk_at dksX9_light_4 15 rfl rfl)
abbrev cX9_sway : ByteArray := prog_23_method_110_code
def yX9_sway : MethodName := ⟨RX9, "sway", "(II)I"⟩
def dkwX9_sway_1 : List UInt8 := [2, 172]
abbrev dktX9_sway_1 : List UInt8 := dkwX9_sway_1 ++ []
def dkwX9_sway_0 : List UInt8 := [42, 27, 182, 1, 121, 153, 0, 19, 28, 184, 1, 225, 153, 0, 12, 42, 27, 28, 182, 1, 169, 167, 0, 4]
abbrev dktX9_sway_0 : List UInt8 := dkwX9_sway_0 ++ dktX9_sway_1
theorem dksX9_sway_0 : cX9_sway.data.toList.drop 0 = dktX9_sway_0 := by decide +kernel
theorem dksX9_sway_1 : cX9_sway.data.toList.drop 24 = dktX9_sway_1 := dk_seg dksX9_sway_0 24 rfl rfl
theorem dX9_sway_0 : decode cX9_sway 0 = .ok (.aload_n 0, 1) := dk_42 (dk_at dksX9_sway_0 0 rfl rfl)
theorem dX9_sway_1 : decode cX9_sway 1 = .ok (.iload_n 1, 1) := dk_27 (dk_at dksX9_sway_0 1 rfl rfl)
theorem dX9_sway_2 : decode cX9_sway 2 = .ok (.invokevirtual 377, 3) := dk_182 1 121 (dk_at dksX9_sway_0 2 rfl rfl)
theorem dX9_sway_5 : decode cX9_sway 5 = .ok (.ifCond .eq 19, 3) := dk_153 0 19 (dk_at dksX9_sway_0 5 rfl rfl)
theorem dX9_sway_8 : decode cX9_sway 8 = .ok (.iload_n 2, 1) := dk_28 (dk_at dksX9_sway_0 8 rfl rfl)
theorem dX9_sway_9 : decode cX9_sway 9 = .ok (.invokestatic 481, 3) := dk_184 1 225 (dk_at dksX9_sway_0 9 rfl rfl)
theorem dX9_sway_12 : decode cX9_sway 12 = .ok (.ifCond .eq 12, 3) := dk_153 0 12 (dk_at dksX9_sway_0 12 rfl rfl)
theorem dX9_sway_15 : decode cX9_sway 15 = .ok (.aload_n 0, 1) := dk_42 (dk_at dksX9_sway_0 15 rfl rfl)
theorem dX9_sway_16 : decode cX9_sway 16 = .ok (.iload_n 1, 1) := dk_27 (dk_at dksX9_sway_0 16 rfl rfl)
theorem dX9_sway_17 : decode cX9_sway 17 = .ok (.iload_n 2, 1) := dk_28 (dk_at dksX9_sway_0 17 rfl rfl)
theorem dX9_sway_18 : decode cX9_sway 18 = .ok (.invokevirtual 425, 3) := dk_182 1 169 (dk_at dksX9_sway_0 18 rfl rfl)
theorem dX9_sway_21 : decode cX9_sway 21 = .ok (.goto 4, 3) := dk_167 0 4 (dk_at dksX9_sway_0 21 rfl rfl)
theorem dX9_sway_24 : decode cX9_sway 24 = .ok (.iconst (-1), 1) := dk_2 (dk_at dksX9_sway_1 0 rfl rfl)
theorem dX9_sway_25 : decode cX9_sway 25 = .ok (.ireturn, 1) := dk_172 (dk_at dksX9_sway_1 1 rfl rfl)
abbrev cX9_isWind : ByteArray := prog_23_method_109_code
def yX9_isWind : MethodName := ⟨RX9, "isWind", "(I)Z"⟩
def dkwX9_isWind_0 : List UInt8 := [26, 155, 0, 13, 26, 16, 100, 162, 0, 7, 4, 167, 0, 4, 3, 172]
abbrev dktX9_isWind_0 : List UInt8 := dkwX9_isWind_0 ++ []
theorem dksX9_isWind_0 : cX9_isWind.data.toList.drop 0 = dktX9_isWind_0 := by decide +kernel
theorem dX9_isWind_0 : decode cX9_isWind 0 = .ok (.iload_n 0, 1) := dk_26 (dk_at dksX9_isWind_0 0 rfl rfl)
theorem dX9_isWind_1 : decode cX9_isWind 1 = .ok (.ifCond .lt 13, 3) := dk_155 0 13 (dk_at dksX9_isWind_0 1 rfl rfl)
theorem dX9_isWind_4 : decode cX9_isWind 4 = .ok (.iload_n 0, 1) := dk_26 (dk_at dksX9_isWind_0 4 rfl rfl)
theorem dX9_isWind_5 : decode cX9_isWind 5 = .ok (.bipush 100, 2) := dk_16 100 (dk_at dksX9_isWind_0 5 rfl rfl)
theorem dX9_isWind_7 : decode cX9_isWind 7 = .ok (.if_icmp .ge 7, 3) := dk_162 0 7 (dk_at dksX9_isWind_0 7 rfl rfl)
theorem dX9_isWind_10 : decode cX9_isWind 10 = .ok (.iconst 1, 1) := dk_4 (dk_at dksX9_isWind_0 10 rfl rfl)
theorem dX9_isWind_11 : decode cX9_isWind 11 = .ok (.goto 4, 3) := dk_167 0 4 (dk_at dksX9_isWind_0 11 rfl rfl)
theorem dX9_isWind_14 : decode cX9_isWind 14 = .ok (.iconst 0, 1) := dk_3 (dk_at dksX9_isWind_0 14 rfl rfl)
theorem dX9_isWind_15 : decode cX9_isWind 15 = .ok (.ireturn, 1) := dk_172 (dk_at dksX9_isWind_0 15 rfl rfl)
abbrev cX9_chain : ByteArray := prog_23_method_114_code
def yX9_chain : MethodName := ⟨RX9, "chain", "(III)I"⟩
def dkwX9_chain_3 : List UInt8 := [180, 0, 109, 29, 16, 10, 100, 46, 172]
abbrev dktX9_chain_3 : List UInt8 := dkwX9_chain_3 ++ []
def dkwX9_chain_2 : List UInt8 := [180, 1, 231, 184, 1, 152, 167, 0, 24, 29, 4, 160, 0, 10, 42, 180, 1, 234, 167, 0, 12, 42]
abbrev dktX9_chain_2 : List UInt8 := dkwX9_chain_2 ++ dktX9_chain_3
def dkwX9_chain_1 : List UInt8 := [42, 29, 16, 10, 100, 182, 1, 121, 154, 0, 5, 2, 172, 42, 27, 28, 182, 1, 240, 29, 154, 0, 13, 42]
abbrev dktX9_chain_1 : List UInt8 := dkwX9_chain_1 ++ dktX9_chain_2
def dkwX9_chain_0 : List UInt8 := [42, 27, 182, 1, 121, 153, 0, 30, 28, 184, 1, 225, 153, 0, 23, 29, 3, 4, 184, 1, 136, 154, 0, 16]
abbrev dktX9_chain_0 : List UInt8 := dkwX9_chain_0 ++ dktX9_chain_1
theorem dksX9_chain_0 : cX9_chain.data.toList.drop 0 = dktX9_chain_0 := by decide +kernel
theorem dksX9_chain_1 : cX9_chain.data.toList.drop 24 = dktX9_chain_1 := dk_seg dksX9_chain_0 24 rfl rfl
theorem dksX9_chain_2 : cX9_chain.data.toList.drop 48 = dktX9_chain_2 := dk_seg dksX9_chain_1 24 rfl rfl
theorem dksX9_chain_3 : cX9_chain.data.toList.drop 70 = dktX9_chain_3 := dk_seg dksX9_chain_2 22 rfl rfl
theorem dX9_chain_0 : decode cX9_chain 0 = .ok (.aload_n 0, 1) := dk_42 (dk_at dksX9_chain_0 0 rfl rfl)
theorem dX9_chain_1 : decode cX9_chain 1 = .ok (.iload_n 1, 1) := dk_27 (dk_at dksX9_chain_0 1 rfl rfl)
theorem dX9_chain_2 : decode cX9_chain 2 = .ok (.invokevirtual 377, 3) := dk_182 1 121 (dk_at dksX9_chain_0 2 rfl rfl)
theorem dX9_chain_5 : decode cX9_chain 5 = .ok (.ifCond .eq 30, 3) := dk_153 0 30 (dk_at dksX9_chain_0 5 rfl rfl)
theorem dX9_chain_8 : decode cX9_chain 8 = .ok (.iload_n 2, 1) := dk_28 (dk_at dksX9_chain_0 8 rfl rfl)
theorem dX9_chain_9 : decode cX9_chain 9 = .ok (.invokestatic 481, 3) := dk_184 1 225 (dk_at dksX9_chain_0 9 rfl rfl)
theorem dX9_chain_12 : decode cX9_chain 12 = .ok (.ifCond .eq 23, 3) := dk_153 0 23 (dk_at dksX9_chain_0 12 rfl rfl)
theorem dX9_chain_15 : decode cX9_chain 15 = .ok (.iload_n 3, 1) := dk_29 (dk_at dksX9_chain_0 15 rfl rfl)
theorem dX9_chain_16 : decode cX9_chain 16 = .ok (.iconst 0, 1) := dk_3 (dk_at dksX9_chain_0 16 rfl rfl)
theorem dX9_chain_17 : decode cX9_chain 17 = .ok (.iconst 1, 1) := dk_4 (dk_at dksX9_chain_0 17 rfl rfl)
theorem dX9_chain_18 : decode cX9_chain 18 = .ok (.invokestatic 392, 3) := dk_184 1 136 (dk_at dksX9_chain_0 18 rfl rfl)
theorem dX9_chain_21 : decode cX9_chain 21 = .ok (.ifCond .ne 16, 3) := dk_154 0 16 (dk_at dksX9_chain_0 21 rfl rfl)
theorem dX9_chain_24 : decode cX9_chain 24 = .ok (.aload_n 0, 1) := dk_42 (dk_at dksX9_chain_1 0 rfl rfl)
theorem dX9_chain_25 : decode cX9_chain 25 = .ok (.iload_n 3, 1) := dk_29 (dk_at dksX9_chain_1 1 rfl rfl)
theorem dX9_chain_26 : decode cX9_chain 26 = .ok (.bipush 10, 2) := dk_16 10 (dk_at dksX9_chain_1 2 rfl rfl)
theorem dX9_chain_28 : decode cX9_chain 28 = .ok (.isub, 1) := dk_100 (dk_at dksX9_chain_1 4 rfl rfl)
theorem dX9_chain_29 : decode cX9_chain 29 = .ok (.invokevirtual 377, 3) := dk_182 1 121 (dk_at dksX9_chain_1 5 rfl rfl)
theorem dX9_chain_32 : decode cX9_chain 32 = .ok (.ifCond .ne 5, 3) := dk_154 0 5 (dk_at dksX9_chain_1 8 rfl rfl)
theorem dX9_chain_35 : decode cX9_chain 35 = .ok (.iconst (-1), 1) := dk_2 (dk_at dksX9_chain_1 11 rfl rfl)
theorem dX9_chain_36 : decode cX9_chain 36 = .ok (.ireturn, 1) := dk_172 (dk_at dksX9_chain_1 12 rfl rfl)
theorem dX9_chain_37 : decode cX9_chain 37 = .ok (.aload_n 0, 1) := dk_42 (dk_at dksX9_chain_1 13 rfl rfl)
theorem dX9_chain_38 : decode cX9_chain 38 = .ok (.iload_n 1, 1) := dk_27 (dk_at dksX9_chain_1 14 rfl rfl)
theorem dX9_chain_39 : decode cX9_chain 39 = .ok (.iload_n 2, 1) := dk_28 (dk_at dksX9_chain_1 15 rfl rfl)
theorem dX9_chain_40 : decode cX9_chain 40 = .ok (.invokevirtual 496, 3) := dk_182 1 240 (dk_at dksX9_chain_1 16 rfl rfl)
theorem dX9_chain_43 : decode cX9_chain 43 = .ok (.iload_n 3, 1) := dk_29 (dk_at dksX9_chain_1 19 rfl rfl)
theorem dX9_chain_44 : decode cX9_chain 44 = .ok (.ifCond .ne 13, 3) := dk_154 0 13 (dk_at dksX9_chain_1 20 rfl rfl)
theorem dX9_chain_47 : decode cX9_chain 47 = .ok (.aload_n 0, 1) := dk_42 (dk_at dksX9_chain_1 23 rfl rfl)
theorem dX9_chain_48 : decode cX9_chain 48 = .ok (.getfield 487, 3) := dk_180 1 231 (dk_at dksX9_chain_2 0 rfl rfl)
theorem dX9_chain_51 : decode cX9_chain 51 = .ok (.invokestatic 408, 3) := dk_184 1 152 (dk_at dksX9_chain_2 3 rfl rfl)
theorem dX9_chain_54 : decode cX9_chain 54 = .ok (.goto 24, 3) := dk_167 0 24 (dk_at dksX9_chain_2 6 rfl rfl)
theorem dX9_chain_57 : decode cX9_chain 57 = .ok (.iload_n 3, 1) := dk_29 (dk_at dksX9_chain_2 9 rfl rfl)
theorem dX9_chain_58 : decode cX9_chain 58 = .ok (.iconst 1, 1) := dk_4 (dk_at dksX9_chain_2 10 rfl rfl)
theorem dX9_chain_59 : decode cX9_chain 59 = .ok (.if_icmp .ne 10, 3) := dk_160 0 10 (dk_at dksX9_chain_2 11 rfl rfl)
theorem dX9_chain_62 : decode cX9_chain 62 = .ok (.aload_n 0, 1) := dk_42 (dk_at dksX9_chain_2 14 rfl rfl)
theorem dX9_chain_63 : decode cX9_chain 63 = .ok (.getfield 490, 3) := dk_180 1 234 (dk_at dksX9_chain_2 15 rfl rfl)
theorem dX9_chain_66 : decode cX9_chain 66 = .ok (.goto 12, 3) := dk_167 0 12 (dk_at dksX9_chain_2 18 rfl rfl)
theorem dX9_chain_69 : decode cX9_chain 69 = .ok (.aload_n 0, 1) := dk_42 (dk_at dksX9_chain_2 21 rfl rfl)
theorem dX9_chain_70 : decode cX9_chain 70 = .ok (.getfield 109, 3) := dk_180 0 109 (dk_at dksX9_chain_3 0 rfl rfl)
theorem dX9_chain_73 : decode cX9_chain 73 = .ok (.iload_n 3, 1) := dk_29 (dk_at dksX9_chain_3 3 rfl rfl)
theorem dX9_chain_74 : decode cX9_chain 74 = .ok (.bipush 10, 2) := dk_16 10 (dk_at dksX9_chain_3 4 rfl rfl)
theorem dX9_chain_76 : decode cX9_chain 76 = .ok (.isub, 1) := dk_100 (dk_at dksX9_chain_3 6 rfl rfl)
theorem dX9_chain_77 : decode cX9_chain 77 = .ok (.iaload, 1) := dk_46 (dk_at dksX9_chain_3 7 rfl rfl)
theorem dX9_chain_78 : decode cX9_chain 78 = .ok (.ireturn, 1) := dk_172 (dk_at dksX9_chain_3 8 rfl rfl)
abbrev cX9_chains : ByteArray := prog_23_method_113_code
def yX9_chains : MethodName := ⟨RX9, "chains", "(II)V"⟩
def dkwX9_chains_6 : List UInt8 := [42, 89, 180, 1, 231, 21, 5, 128, 181, 1, 231, 132, 4, 1, 167, 255, 146, 177]
abbrev dktX9_chains_6 : List UInt8 := dkwX9_chains_6 ++ []
def dkwX9_chains_5 : List UInt8 := [167, 255, 194, 21, 5, 153, 0, 7, 4, 167, 0, 4, 3, 62, 29, 153, 0, 9, 42, 21, 4, 181, 1, 234]
abbrev dktX9_chains_5 : List UInt8 := dkwX9_chains_5 ++ dktX9_chains_6
def dkwX9_chains_4 : List UInt8 := [167, 0, 21, 21, 5, 4, 21, 6, 120, 128, 54, 5, 42, 180, 0, 109, 21, 6, 21, 4, 79, 132, 6, 1]
abbrev dktX9_chains_4 : List UInt8 := dkwX9_chains_4 ++ dktX9_chains_5
def dkwX9_chains_3 : List UInt8 := [21, 6, 122, 4, 126, 4, 159, 0, 38, 42, 21, 6, 28, 42, 180, 1, 231, 182, 1, 237, 154, 0, 6]
abbrev dktX9_chains_3 : List UInt8 := dkwX9_chains_3 ++ dktX9_chains_4
def dkwX9_chains_2 : List UInt8 := [153, 0, 112, 3, 54, 5, 3, 54, 6, 21, 6, 42, 180, 0, 30, 3, 46, 162, 0, 57, 42, 180, 1, 231]
abbrev dktX9_chains_2 : List UInt8 := dkwX9_chains_2 ++ dktX9_chains_3
def dkwX9_chains_1 : List UInt8 := [180, 0, 109, 27, 3, 79, 42, 4, 27, 120, 181, 1, 231, 42, 3, 181, 1, 234, 4, 62, 4, 54, 4, 29]
abbrev dktX9_chains_1 : List UInt8 := dkwX9_chains_1 ++ dktX9_chains_2
def dkwX9_chains_0 : List UInt8 := [3, 62, 29, 16, 16, 162, 0, 17, 42, 180, 0, 109, 29, 16, 254, 79, 132, 3, 1, 167, 255, 239, 42]
abbrev dktX9_chains_0 : List UInt8 := dkwX9_chains_0 ++ dktX9_chains_1
theorem dksX9_chains_0 : cX9_chains.data.toList.drop 0 = dktX9_chains_0 := by decide +kernel
theorem dksX9_chains_1 : cX9_chains.data.toList.drop 23 = dktX9_chains_1 := dk_seg dksX9_chains_0 23 rfl rfl
theorem dksX9_chains_2 : cX9_chains.data.toList.drop 47 = dktX9_chains_2 := dk_seg dksX9_chains_1 24 rfl rfl
theorem dksX9_chains_3 : cX9_chains.data.toList.drop 71 = dktX9_chains_3 := dk_seg dksX9_chains_2 24 rfl rfl
theorem dksX9_chains_4 : cX9_chains.data.toList.drop 94 = dktX9_chains_4 := dk_seg dksX9_chains_3 23 rfl rfl
theorem dksX9_chains_5 : cX9_chains.data.toList.drop 118 = dktX9_chains_5 := dk_seg dksX9_chains_4 24 rfl rfl
theorem dksX9_chains_6 : cX9_chains.data.toList.drop 142 = dktX9_chains_6 := dk_seg dksX9_chains_5 24 rfl rfl
theorem dX9_chains_0 : decode cX9_chains 0 = .ok (.iconst 0, 1) := dk_3 (dk_at dksX9_chains_0 0 rfl rfl)
theorem dX9_chains_1 : decode cX9_chains 1 = .ok (.istore_n 3, 1) := dk_62 (dk_at dksX9_chains_0 1 rfl rfl)
theorem dX9_chains_2 : decode cX9_chains 2 = .ok (.iload_n 3, 1) := dk_29 (dk_at dksX9_chains_0 2 rfl rfl)
theorem dX9_chains_3 : decode cX9_chains 3 = .ok (.bipush 16, 2) := dk_16 16 (dk_at dksX9_chains_0 3 rfl rfl)
theorem dX9_chains_5 : decode cX9_chains 5 = .ok (.if_icmp .ge 17, 3) := dk_162 0 17 (dk_at dksX9_chains_0 5 rfl rfl)
theorem dX9_chains_8 : decode cX9_chains 8 = .ok (.aload_n 0, 1) := dk_42 (dk_at dksX9_chains_0 8 rfl rfl)
theorem dX9_chains_9 : decode cX9_chains 9 = .ok (.getfield 109, 3) := dk_180 0 109 (dk_at dksX9_chains_0 9 rfl rfl)
theorem dX9_chains_12 : decode cX9_chains 12 = .ok (.iload_n 3, 1) := dk_29 (dk_at dksX9_chains_0 12 rfl rfl)
theorem dX9_chains_13 : decode cX9_chains 13 = .ok (.bipush (-2), 2) := dk_16 254 (dk_at dksX9_chains_0 13 rfl rfl)
theorem dX9_chains_15 : decode cX9_chains 15 = .ok (.iastore, 1) := dk_79 (dk_at dksX9_chains_0 15 rfl rfl)
theorem dX9_chains_16 : decode cX9_chains 16 = .ok (.iinc 3 1, 3) := dk_132 3 1 (dk_at dksX9_chains_0 16 rfl rfl)
theorem dX9_chains_19 : decode cX9_chains 19 = .ok (.goto (-17), 3) := dk_167 255 239 (dk_at dksX9_chains_0 19 rfl rfl)
theorem dX9_chains_22 : decode cX9_chains 22 = .ok (.aload_n 0, 1) := dk_42 (dk_at dksX9_chains_0 22 rfl rfl)
theorem dX9_chains_23 : decode cX9_chains 23 = .ok (.getfield 109, 3) := dk_180 0 109 (dk_at dksX9_chains_1 0 rfl rfl)
theorem dX9_chains_26 : decode cX9_chains 26 = .ok (.iload_n 1, 1) := dk_27 (dk_at dksX9_chains_1 3 rfl rfl)
theorem dX9_chains_27 : decode cX9_chains 27 = .ok (.iconst 0, 1) := dk_3 (dk_at dksX9_chains_1 4 rfl rfl)
theorem dX9_chains_28 : decode cX9_chains 28 = .ok (.iastore, 1) := dk_79 (dk_at dksX9_chains_1 5 rfl rfl)
theorem dX9_chains_29 : decode cX9_chains 29 = .ok (.aload_n 0, 1) := dk_42 (dk_at dksX9_chains_1 6 rfl rfl)
theorem dX9_chains_30 : decode cX9_chains 30 = .ok (.iconst 1, 1) := dk_4 (dk_at dksX9_chains_1 7 rfl rfl)
theorem dX9_chains_31 : decode cX9_chains 31 = .ok (.iload_n 1, 1) := dk_27 (dk_at dksX9_chains_1 8 rfl rfl)
theorem dX9_chains_32 : decode cX9_chains 32 = .ok (.ishl, 1) := dk_120 (dk_at dksX9_chains_1 9 rfl rfl)
theorem dX9_chains_33 : decode cX9_chains 33 = .ok (.putfield 487, 3) := dk_181 1 231 (dk_at dksX9_chains_1 10 rfl rfl)
theorem dX9_chains_36 : decode cX9_chains 36 = .ok (.aload_n 0, 1) := dk_42 (dk_at dksX9_chains_1 13 rfl rfl)
theorem dX9_chains_37 : decode cX9_chains 37 = .ok (.iconst 0, 1) := dk_3 (dk_at dksX9_chains_1 14 rfl rfl)
theorem dX9_chains_38 : decode cX9_chains 38 = .ok (.putfield 490, 3) := dk_181 1 234 (dk_at dksX9_chains_1 15 rfl rfl)
theorem dX9_chains_41 : decode cX9_chains 41 = .ok (.iconst 1, 1) := dk_4 (dk_at dksX9_chains_1 18 rfl rfl)
theorem dX9_chains_42 : decode cX9_chains 42 = .ok (.istore_n 3, 1) := dk_62 (dk_at dksX9_chains_1 19 rfl rfl)
theorem dX9_chains_43 : decode cX9_chains 43 = .ok (.iconst 1, 1) := dk_4 (dk_at dksX9_chains_1 20 rfl rfl)
theorem dX9_chains_44 : decode cX9_chains 44 = .ok (.istore 4, 2) := dk_54 4 (dk_at dksX9_chains_1 21 rfl rfl)
theorem dX9_chains_46 : decode cX9_chains 46 = .ok (.iload_n 3, 1) := dk_29 (dk_at dksX9_chains_1 23 rfl rfl)
theorem dX9_chains_47 : decode cX9_chains 47 = .ok (.ifCond .eq 112, 3) := dk_153 0 112 (dk_at dksX9_chains_2 0 rfl rfl)
theorem dX9_chains_50 : decode cX9_chains 50 = .ok (.iconst 0, 1) := dk_3 (dk_at dksX9_chains_2 3 rfl rfl)
theorem dX9_chains_51 : decode cX9_chains 51 = .ok (.istore 5, 2) := dk_54 5 (dk_at dksX9_chains_2 4 rfl rfl)
theorem dX9_chains_53 : decode cX9_chains 53 = .ok (.iconst 0, 1) := dk_3 (dk_at dksX9_chains_2 6 rfl rfl)
theorem dX9_chains_54 : decode cX9_chains 54 = .ok (.istore 6, 2) := dk_54 6 (dk_at dksX9_chains_2 7 rfl rfl)
theorem dX9_chains_56 : decode cX9_chains 56 = .ok (.iload 6, 2) := dk_21 6 (dk_at dksX9_chains_2 9 rfl rfl)
theorem dX9_chains_58 : decode cX9_chains 58 = .ok (.aload_n 0, 1) := dk_42 (dk_at dksX9_chains_2 11 rfl rfl)
theorem dX9_chains_59 : decode cX9_chains 59 = .ok (.getfield 30, 3) := dk_180 0 30 (dk_at dksX9_chains_2 12 rfl rfl)
theorem dX9_chains_62 : decode cX9_chains 62 = .ok (.iconst 0, 1) := dk_3 (dk_at dksX9_chains_2 15 rfl rfl)
theorem dX9_chains_63 : decode cX9_chains 63 = .ok (.iaload, 1) := dk_46 (dk_at dksX9_chains_2 16 rfl rfl)
theorem dX9_chains_64 : decode cX9_chains 64 = .ok (.if_icmp .ge 57, 3) := dk_162 0 57 (dk_at dksX9_chains_2 17 rfl rfl)
theorem dX9_chains_67 : decode cX9_chains 67 = .ok (.aload_n 0, 1) := dk_42 (dk_at dksX9_chains_2 20 rfl rfl)
theorem dX9_chains_68 : decode cX9_chains 68 = .ok (.getfield 487, 3) := dk_180 1 231 (dk_at dksX9_chains_2 21 rfl rfl)
theorem dX9_chains_71 : decode cX9_chains 71 = .ok (.iload 6, 2) := dk_21 6 (dk_at dksX9_chains_3 0 rfl rfl)
theorem dX9_chains_73 : decode cX9_chains 73 = .ok (.ishr, 1) := dk_122 (dk_at dksX9_chains_3 2 rfl rfl)
theorem dX9_chains_74 : decode cX9_chains 74 = .ok (.iconst 1, 1) := dk_4 (dk_at dksX9_chains_3 3 rfl rfl)
theorem dX9_chains_75 : decode cX9_chains 75 = .ok (.iand, 1) := dk_126 (dk_at dksX9_chains_3 4 rfl rfl)
theorem dX9_chains_76 : decode cX9_chains 76 = .ok (.iconst 1, 1) := dk_4 (dk_at dksX9_chains_3 5 rfl rfl)
theorem dX9_chains_77 : decode cX9_chains 77 = .ok (.if_icmp .eq 38, 3) := dk_159 0 38 (dk_at dksX9_chains_3 6 rfl rfl)
theorem dX9_chains_80 : decode cX9_chains 80 = .ok (.aload_n 0, 1) := dk_42 (dk_at dksX9_chains_3 9 rfl rfl)
theorem dX9_chains_81 : decode cX9_chains 81 = .ok (.iload 6, 2) := dk_21 6 (dk_at dksX9_chains_3 10 rfl rfl)
theorem dX9_chains_83 : decode cX9_chains 83 = .ok (.iload_n 2, 1) := dk_28 (dk_at dksX9_chains_3 12 rfl rfl)
theorem dX9_chains_84 : decode cX9_chains 84 = .ok (.aload_n 0, 1) := dk_42 (dk_at dksX9_chains_3 13 rfl rfl)
theorem dX9_chains_85 : decode cX9_chains 85 = .ok (.getfield 487, 3) := dk_180 1 231 (dk_at dksX9_chains_3 14 rfl rfl)
theorem dX9_chains_88 : decode cX9_chains 88 = .ok (.invokevirtual 493, 3) := dk_182 1 237 (dk_at dksX9_chains_3 17 rfl rfl)
theorem dX9_chains_91 : decode cX9_chains 91 = .ok (.ifCond .ne 6, 3) := dk_154 0 6 (dk_at dksX9_chains_3 20 rfl rfl)
theorem dX9_chains_94 : decode cX9_chains 94 = .ok (.goto 21, 3) := dk_167 0 21 (dk_at dksX9_chains_4 0 rfl rfl)
theorem dX9_chains_97 : decode cX9_chains 97 = .ok (.iload 5, 2) := dk_21 5 (dk_at dksX9_chains_4 3 rfl rfl)
theorem dX9_chains_99 : decode cX9_chains 99 = .ok (.iconst 1, 1) := dk_4 (dk_at dksX9_chains_4 5 rfl rfl)
theorem dX9_chains_100 : decode cX9_chains 100 = .ok (.iload 6, 2) := dk_21 6 (dk_at dksX9_chains_4 6 rfl rfl)
theorem dX9_chains_102 : decode cX9_chains 102 = .ok (.ishl, 1) := dk_120 (dk_at dksX9_chains_4 8 rfl rfl)
theorem dX9_chains_103 : decode cX9_chains 103 = .ok (.ior, 1) := dk_128 (dk_at dksX9_chains_4 9 rfl rfl)
theorem dX9_chains_104 : decode cX9_chains 104 = .ok (.istore 5, 2) := dk_54 5 (dk_at dksX9_chains_4 10 rfl rfl)
theorem dX9_chains_106 : decode cX9_chains 106 = .ok (.aload_n 0, 1) := dk_42 (dk_at dksX9_chains_4 12 rfl rfl)
theorem dX9_chains_107 : decode cX9_chains 107 = .ok (.getfield 109, 3) := dk_180 0 109 (dk_at dksX9_chains_4 13 rfl rfl)
theorem dX9_chains_110 : decode cX9_chains 110 = .ok (.iload 6, 2) := dk_21 6 (dk_at dksX9_chains_4 16 rfl rfl)
theorem dX9_chains_112 : decode cX9_chains 112 = .ok (.iload 4, 2) := dk_21 4 (dk_at dksX9_chains_4 18 rfl rfl)
theorem dX9_chains_114 : decode cX9_chains 114 = .ok (.iastore, 1) := dk_79 (dk_at dksX9_chains_4 20 rfl rfl)
theorem dX9_chains_115 : decode cX9_chains 115 = .ok (.iinc 6 1, 3) := dk_132 6 1 (dk_at dksX9_chains_4 21 rfl rfl)
theorem dX9_chains_118 : decode cX9_chains 118 = .ok (.goto (-62), 3) := dk_167 255 194 (dk_at dksX9_chains_5 0 rfl rfl)
theorem dX9_chains_121 : decode cX9_chains 121 = .ok (.iload 5, 2) := dk_21 5 (dk_at dksX9_chains_5 3 rfl rfl)
theorem dX9_chains_123 : decode cX9_chains 123 = .ok (.ifCond .eq 7, 3) := dk_153 0 7 (dk_at dksX9_chains_5 5 rfl rfl)
theorem dX9_chains_126 : decode cX9_chains 126 = .ok (.iconst 1, 1) := dk_4 (dk_at dksX9_chains_5 8 rfl rfl)
theorem dX9_chains_127 : decode cX9_chains 127 = .ok (.goto 4, 3) := dk_167 0 4 (dk_at dksX9_chains_5 9 rfl rfl)
theorem dX9_chains_130 : decode cX9_chains 130 = .ok (.iconst 0, 1) := dk_3 (dk_at dksX9_chains_5 12 rfl rfl)
theorem dX9_chains_131 : decode cX9_chains 131 = .ok (.istore_n 3, 1) := dk_62 (dk_at dksX9_chains_5 13 rfl rfl)
theorem dX9_chains_132 : decode cX9_chains 132 = .ok (.iload_n 3, 1) := dk_29 (dk_at dksX9_chains_5 14 rfl rfl)
theorem dX9_chains_133 : decode cX9_chains 133 = .ok (.ifCond .eq 9, 3) := dk_153 0 9 (dk_at dksX9_chains_5 15 rfl rfl)
theorem dX9_chains_136 : decode cX9_chains 136 = .ok (.aload_n 0, 1) := dk_42 (dk_at dksX9_chains_5 18 rfl rfl)
theorem dX9_chains_137 : decode cX9_chains 137 = .ok (.iload 4, 2) := dk_21 4 (dk_at dksX9_chains_5 19 rfl rfl)
theorem dX9_chains_139 : decode cX9_chains 139 = .ok (.putfield 490, 3) := dk_181 1 234 (dk_at dksX9_chains_5 21 rfl rfl)
theorem dX9_chains_142 : decode cX9_chains 142 = .ok (.aload_n 0, 1) := dk_42 (dk_at dksX9_chains_6 0 rfl rfl)
theorem dX9_chains_143 : decode cX9_chains 143 = .ok (.dup, 1) := dk_89 (dk_at dksX9_chains_6 1 rfl rfl)
theorem dX9_chains_144 : decode cX9_chains 144 = .ok (.getfield 487, 3) := dk_180 1 231 (dk_at dksX9_chains_6 2 rfl rfl)
theorem dX9_chains_147 : decode cX9_chains 147 = .ok (.iload 5, 2) := dk_21 5 (dk_at dksX9_chains_6 5 rfl rfl)
theorem dX9_chains_149 : decode cX9_chains 149 = .ok (.ior, 1) := dk_128 (dk_at dksX9_chains_6 7 rfl rfl)
theorem dX9_chains_150 : decode cX9_chains 150 = .ok (.putfield 487, 3) := dk_181 1 231 (dk_at dksX9_chains_6 8 rfl rfl)
theorem dX9_chains_153 : decode cX9_chains 153 = .ok (.iinc 4 1, 3) := dk_132 4 1 (dk_at dksX9_chains_6 11 rfl rfl)
theorem dX9_chains_156 : decode cX9_chains 156 = .ok (.goto (-110), 3) := dk_167 255 146 (dk_at dksX9_chains_6 14 rfl rfl)
theorem dX9_chains_159 : decode cX9_chains 159 = .ok (.return_, 1) := dk_177 (dk_at dksX9_chains_6 17 rfl rfl)
abbrev cX9_isFalling : ByteArray := prog_23_method_112_code
def yX9_isFalling : MethodName := ⟨RX9, "isFalling", "(III)Z"⟩
def dkwX9_isFalling_1 : List UInt8 := [182, 1, 228, 79, 42, 180, 0, 82, 16, 8, 21, 4, 79, 42, 16, 8, 17, 0, 190, 182, 1, 172, 172]
abbrev dktX9_isFalling_1 : List UInt8 := dkwX9_isFalling_1 ++ []
def dkwX9_isFalling_0 : List UInt8 := [42, 27, 28, 182, 1, 169, 54, 4, 42, 27, 28, 182, 1, 163, 42, 180, 0, 82, 16, 7, 42, 27, 29]
abbrev dktX9_isFalling_0 : List UInt8 := dkwX9_isFalling_0 ++ dktX9_isFalling_1
theorem dksX9_isFalling_0 : cX9_isFalling.data.toList.drop 0 = dktX9_isFalling_0 := by decide +kernel
theorem dksX9_isFalling_1 : cX9_isFalling.data.toList.drop 23 = dktX9_isFalling_1 := dk_seg dksX9_isFalling_0 23 rfl rfl
theorem dX9_isFalling_0 : decode cX9_isFalling 0 = .ok (.aload_n 0, 1) := dk_42 (dk_at dksX9_isFalling_0 0 rfl rfl)
theorem dX9_isFalling_1 : decode cX9_isFalling 1 = .ok (.iload_n 1, 1) := dk_27 (dk_at dksX9_isFalling_0 1 rfl rfl)
theorem dX9_isFalling_2 : decode cX9_isFalling 2 = .ok (.iload_n 2, 1) := dk_28 (dk_at dksX9_isFalling_0 2 rfl rfl)
theorem dX9_isFalling_3 : decode cX9_isFalling 3 = .ok (.invokevirtual 425, 3) := dk_182 1 169 (dk_at dksX9_isFalling_0 3 rfl rfl)
theorem dX9_isFalling_6 : decode cX9_isFalling 6 = .ok (.istore 4, 2) := dk_54 4 (dk_at dksX9_isFalling_0 6 rfl rfl)
theorem dX9_isFalling_8 : decode cX9_isFalling 8 = .ok (.aload_n 0, 1) := dk_42 (dk_at dksX9_isFalling_0 8 rfl rfl)
theorem dX9_isFalling_9 : decode cX9_isFalling 9 = .ok (.iload_n 1, 1) := dk_27 (dk_at dksX9_isFalling_0 9 rfl rfl)
theorem dX9_isFalling_10 : decode cX9_isFalling 10 = .ok (.iload_n 2, 1) := dk_28 (dk_at dksX9_isFalling_0 10 rfl rfl)
theorem dX9_isFalling_11 : decode cX9_isFalling 11 = .ok (.invokevirtual 419, 3) := dk_182 1 163 (dk_at dksX9_isFalling_0 11 rfl rfl)
theorem dX9_isFalling_14 : decode cX9_isFalling 14 = .ok (.aload_n 0, 1) := dk_42 (dk_at dksX9_isFalling_0 14 rfl rfl)
theorem dX9_isFalling_15 : decode cX9_isFalling 15 = .ok (.getfield 82, 3) := dk_180 0 82 (dk_at dksX9_isFalling_0 15 rfl rfl)
theorem dX9_isFalling_18 : decode cX9_isFalling 18 = .ok (.bipush 7, 2) := dk_16 7 (dk_at dksX9_isFalling_0 18 rfl rfl)
theorem dX9_isFalling_20 : decode cX9_isFalling 20 = .ok (.aload_n 0, 1) := dk_42 (dk_at dksX9_isFalling_0 20 rfl rfl)
theorem dX9_isFalling_21 : decode cX9_isFalling 21 = .ok (.iload_n 1, 1) := dk_27 (dk_at dksX9_isFalling_0 21 rfl rfl)
theorem dX9_isFalling_22 : decode cX9_isFalling 22 = .ok (.iload_n 3, 1) := dk_29 (dk_at dksX9_isFalling_0 22 rfl rfl)
theorem dX9_isFalling_23 : decode cX9_isFalling 23 = .ok (.invokevirtual 484, 3) := dk_182 1 228 (dk_at dksX9_isFalling_1 0 rfl rfl)
theorem dX9_isFalling_26 : decode cX9_isFalling 26 = .ok (.iastore, 1) := dk_79 (dk_at dksX9_isFalling_1 3 rfl rfl)
theorem dX9_isFalling_27 : decode cX9_isFalling 27 = .ok (.aload_n 0, 1) := dk_42 (dk_at dksX9_isFalling_1 4 rfl rfl)
theorem dX9_isFalling_28 : decode cX9_isFalling 28 = .ok (.getfield 82, 3) := dk_180 0 82 (dk_at dksX9_isFalling_1 5 rfl rfl)
theorem dX9_isFalling_31 : decode cX9_isFalling 31 = .ok (.bipush 8, 2) := dk_16 8 (dk_at dksX9_isFalling_1 8 rfl rfl)
theorem dX9_isFalling_33 : decode cX9_isFalling 33 = .ok (.iload 4, 2) := dk_21 4 (dk_at dksX9_isFalling_1 10 rfl rfl)
theorem dX9_isFalling_35 : decode cX9_isFalling 35 = .ok (.iastore, 1) := dk_79 (dk_at dksX9_isFalling_1 12 rfl rfl)
theorem dX9_isFalling_36 : decode cX9_isFalling 36 = .ok (.aload_n 0, 1) := dk_42 (dk_at dksX9_isFalling_1 13 rfl rfl)
theorem dX9_isFalling_37 : decode cX9_isFalling 37 = .ok (.bipush 8, 2) := dk_16 8 (dk_at dksX9_isFalling_1 14 rfl rfl)
theorem dX9_isFalling_39 : decode cX9_isFalling 39 = .ok (.sipush 190, 3) := dk_17 0 190 (dk_at dksX9_isFalling_1 16 rfl rfl)
theorem dX9_isFalling_42 : decode cX9_isFalling 42 = .ok (.invokevirtual 428, 3) := dk_182 1 172 (dk_at dksX9_isFalling_1 19 rfl rfl)
theorem dX9_isFalling_45 : decode cX9_isFalling 45 = .ok (.ireturn, 1) := dk_172 (dk_at dksX9_isFalling_1 22 rfl rfl)
abbrev cX9_goneBeside : ByteArray := prog_23_method_111_code
def yX9_goneBeside : MethodName := ⟨RX9, "goneBeside", "(II)I"⟩
def dkwX9_goneBeside_3 : List UInt8 := [160, 0, 10, 29, 4, 21, 5, 120, 128, 62, 132, 4, 1, 167, 255, 178, 29, 28, 126, 184, 1, 152, 172]
abbrev dktX9_goneBeside_3 : List UInt8 := dkwX9_goneBeside_3 ++ []
def dkwX9_goneBeside_2 : List UInt8 := [21, 6, 156, 0, 6, 167, 0, 29, 21, 5, 27, 160, 0, 10, 29, 4, 21, 6, 120, 128, 62, 21, 6, 27]
abbrev dktX9_goneBeside_2 : List UInt8 := dkwX9_goneBeside_2 ++ dktX9_goneBeside_3
def dkwX9_goneBeside_1 : List UInt8 := [21, 4, 104, 96, 46, 54, 5, 42, 180, 0, 30, 16, 120, 6, 21, 4, 104, 96, 4, 96, 46, 54, 6]
abbrev dktX9_goneBeside_1 : List UInt8 := dkwX9_goneBeside_1 ++ dktX9_goneBeside_2
def dkwX9_goneBeside_0 : List UInt8 := [3, 62, 3, 54, 4, 21, 4, 42, 180, 0, 30, 6, 46, 162, 0, 73, 42, 180, 0, 30, 16, 120, 6]
abbrev dktX9_goneBeside_0 : List UInt8 := dkwX9_goneBeside_0 ++ dktX9_goneBeside_1
theorem dksX9_goneBeside_0 : cX9_goneBeside.data.toList.drop 0 = dktX9_goneBeside_0 := by decide +kernel
theorem dksX9_goneBeside_1 : cX9_goneBeside.data.toList.drop 23 = dktX9_goneBeside_1 := dk_seg dksX9_goneBeside_0 23 rfl rfl
theorem dksX9_goneBeside_2 : cX9_goneBeside.data.toList.drop 46 = dktX9_goneBeside_2 := dk_seg dksX9_goneBeside_1 23 rfl rfl
theorem dksX9_goneBeside_3 : cX9_goneBeside.data.toList.drop 70 = dktX9_goneBeside_3 := dk_seg dksX9_goneBeside_2 24 rfl rfl
theorem dX9_goneBeside_0 : decode cX9_goneBeside 0 = .ok (.iconst 0, 1) := dk_3 (dk_at dksX9_goneBeside_0 0 rfl rfl)
theorem dX9_goneBeside_1 : decode cX9_goneBeside 1 = .ok (.istore_n 3, 1) := dk_62 (dk_at dksX9_goneBeside_0 1 rfl rfl)
theorem dX9_goneBeside_2 : decode cX9_goneBeside 2 = .ok (.iconst 0, 1) := dk_3 (dk_at dksX9_goneBeside_0 2 rfl rfl)
theorem dX9_goneBeside_3 : decode cX9_goneBeside 3 = .ok (.istore 4, 2) := dk_54 4 (dk_at dksX9_goneBeside_0 3 rfl rfl)
theorem dX9_goneBeside_5 : decode cX9_goneBeside 5 = .ok (.iload 4, 2) := dk_21 4 (dk_at dksX9_goneBeside_0 5 rfl rfl)
theorem dX9_goneBeside_7 : decode cX9_goneBeside 7 = .ok (.aload_n 0, 1) := dk_42 (dk_at dksX9_goneBeside_0 7 rfl rfl)
theorem dX9_goneBeside_8 : decode cX9_goneBeside 8 = .ok (.getfield 30, 3) := dk_180 0 30 (dk_at dksX9_goneBeside_0 8 rfl rfl)
theorem dX9_goneBeside_11 : decode cX9_goneBeside 11 = .ok (.iconst 3, 1) := dk_6 (dk_at dksX9_goneBeside_0 11 rfl rfl)
theorem dX9_goneBeside_12 : decode cX9_goneBeside 12 = .ok (.iaload, 1) := dk_46 (dk_at dksX9_goneBeside_0 12 rfl rfl)
theorem dX9_goneBeside_13 : decode cX9_goneBeside 13 = .ok (.if_icmp .ge 73, 3) := dk_162 0 73 (dk_at dksX9_goneBeside_0 13 rfl rfl)
theorem dX9_goneBeside_16 : decode cX9_goneBeside 16 = .ok (.aload_n 0, 1) := dk_42 (dk_at dksX9_goneBeside_0 16 rfl rfl)
theorem dX9_goneBeside_17 : decode cX9_goneBeside 17 = .ok (.getfield 30, 3) := dk_180 0 30 (dk_at dksX9_goneBeside_0 17 rfl rfl)
theorem dX9_goneBeside_20 : decode cX9_goneBeside 20 = .ok (.bipush 120, 2) := dk_16 120 (dk_at dksX9_goneBeside_0 20 rfl rfl)
theorem dX9_goneBeside_22 : decode cX9_goneBeside 22 = .ok (.iconst 3, 1) := dk_6 (dk_at dksX9_goneBeside_0 22 rfl rfl)
theorem dX9_goneBeside_23 : decode cX9_goneBeside 23 = .ok (.iload 4, 2) := dk_21 4 (dk_at dksX9_goneBeside_1 0 rfl rfl)
theorem dX9_goneBeside_25 : decode cX9_goneBeside 25 = .ok (.imul, 1) := dk_104 (dk_at dksX9_goneBeside_1 2 rfl rfl)
theorem dX9_goneBeside_26 : decode cX9_goneBeside 26 = .ok (.iadd, 1) := dk_96 (dk_at dksX9_goneBeside_1 3 rfl rfl)
theorem dX9_goneBeside_27 : decode cX9_goneBeside 27 = .ok (.iaload, 1) := dk_46 (dk_at dksX9_goneBeside_1 4 rfl rfl)
theorem dX9_goneBeside_28 : decode cX9_goneBeside 28 = .ok (.istore 5, 2) := dk_54 5 (dk_at dksX9_goneBeside_1 5 rfl rfl)
theorem dX9_goneBeside_30 : decode cX9_goneBeside 30 = .ok (.aload_n 0, 1) := dk_42 (dk_at dksX9_goneBeside_1 7 rfl rfl)
theorem dX9_goneBeside_31 : decode cX9_goneBeside 31 = .ok (.getfield 30, 3) := dk_180 0 30 (dk_at dksX9_goneBeside_1 8 rfl rfl)
theorem dX9_goneBeside_34 : decode cX9_goneBeside 34 = .ok (.bipush 120, 2) := dk_16 120 (dk_at dksX9_goneBeside_1 11 rfl rfl)
theorem dX9_goneBeside_36 : decode cX9_goneBeside 36 = .ok (.iconst 3, 1) := dk_6 (dk_at dksX9_goneBeside_1 13 rfl rfl)
theorem dX9_goneBeside_37 : decode cX9_goneBeside 37 = .ok (.iload 4, 2) := dk_21 4 (dk_at dksX9_goneBeside_1 14 rfl rfl)
theorem dX9_goneBeside_39 : decode cX9_goneBeside 39 = .ok (.imul, 1) := dk_104 (dk_at dksX9_goneBeside_1 16 rfl rfl)
theorem dX9_goneBeside_40 : decode cX9_goneBeside 40 = .ok (.iadd, 1) := dk_96 (dk_at dksX9_goneBeside_1 17 rfl rfl)
theorem dX9_goneBeside_41 : decode cX9_goneBeside 41 = .ok (.iconst 1, 1) := dk_4 (dk_at dksX9_goneBeside_1 18 rfl rfl)
theorem dX9_goneBeside_42 : decode cX9_goneBeside 42 = .ok (.iadd, 1) := dk_96 (dk_at dksX9_goneBeside_1 19 rfl rfl)
theorem dX9_goneBeside_43 : decode cX9_goneBeside 43 = .ok (.iaload, 1) := dk_46 (dk_at dksX9_goneBeside_1 20 rfl rfl)
theorem dX9_goneBeside_44 : decode cX9_goneBeside 44 = .ok (.istore 6, 2) := dk_54 6 (dk_at dksX9_goneBeside_1 21 rfl rfl)
theorem dX9_goneBeside_46 : decode cX9_goneBeside 46 = .ok (.iload 6, 2) := dk_21 6 (dk_at dksX9_goneBeside_2 0 rfl rfl)
theorem dX9_goneBeside_48 : decode cX9_goneBeside 48 = .ok (.ifCond .ge 6, 3) := dk_156 0 6 (dk_at dksX9_goneBeside_2 2 rfl rfl)
theorem dX9_goneBeside_51 : decode cX9_goneBeside 51 = .ok (.goto 29, 3) := dk_167 0 29 (dk_at dksX9_goneBeside_2 5 rfl rfl)
theorem dX9_goneBeside_54 : decode cX9_goneBeside 54 = .ok (.iload 5, 2) := dk_21 5 (dk_at dksX9_goneBeside_2 8 rfl rfl)
theorem dX9_goneBeside_56 : decode cX9_goneBeside 56 = .ok (.iload_n 1, 1) := dk_27 (dk_at dksX9_goneBeside_2 10 rfl rfl)
theorem dX9_goneBeside_57 : decode cX9_goneBeside 57 = .ok (.if_icmp .ne 10, 3) := dk_160 0 10 (dk_at dksX9_goneBeside_2 11 rfl rfl)
theorem dX9_goneBeside_60 : decode cX9_goneBeside 60 = .ok (.iload_n 3, 1) := dk_29 (dk_at dksX9_goneBeside_2 14 rfl rfl)
theorem dX9_goneBeside_61 : decode cX9_goneBeside 61 = .ok (.iconst 1, 1) := dk_4 (dk_at dksX9_goneBeside_2 15 rfl rfl)
theorem dX9_goneBeside_62 : decode cX9_goneBeside 62 = .ok (.iload 6, 2) := dk_21 6 (dk_at dksX9_goneBeside_2 16 rfl rfl)
theorem dX9_goneBeside_64 : decode cX9_goneBeside 64 = .ok (.ishl, 1) := dk_120 (dk_at dksX9_goneBeside_2 18 rfl rfl)
theorem dX9_goneBeside_65 : decode cX9_goneBeside 65 = .ok (.ior, 1) := dk_128 (dk_at dksX9_goneBeside_2 19 rfl rfl)
theorem dX9_goneBeside_66 : decode cX9_goneBeside 66 = .ok (.istore_n 3, 1) := dk_62 (dk_at dksX9_goneBeside_2 20 rfl rfl)
theorem dX9_goneBeside_67 : decode cX9_goneBeside 67 = .ok (.iload 6, 2) := dk_21 6 (dk_at dksX9_goneBeside_2 21 rfl rfl)
theorem dX9_goneBeside_69 : decode cX9_goneBeside 69 = .ok (.iload_n 1, 1) := dk_27 (dk_at dksX9_goneBeside_2 23 rfl rfl)
theorem dX9_goneBeside_70 : decode cX9_goneBeside 70 = .ok (.if_icmp .ne 10, 3) := dk_160 0 10 (dk_at dksX9_goneBeside_3 0 rfl rfl)
theorem dX9_goneBeside_73 : decode cX9_goneBeside 73 = .ok (.iload_n 3, 1) := dk_29 (dk_at dksX9_goneBeside_3 3 rfl rfl)
theorem dX9_goneBeside_74 : decode cX9_goneBeside 74 = .ok (.iconst 1, 1) := dk_4 (dk_at dksX9_goneBeside_3 4 rfl rfl)
theorem dX9_goneBeside_75 : decode cX9_goneBeside 75 = .ok (.iload 5, 2) := dk_21 5 (dk_at dksX9_goneBeside_3 5 rfl rfl)
theorem dX9_goneBeside_77 : decode cX9_goneBeside 77 = .ok (.ishl, 1) := dk_120 (dk_at dksX9_goneBeside_3 7 rfl rfl)
theorem dX9_goneBeside_78 : decode cX9_goneBeside 78 = .ok (.ior, 1) := dk_128 (dk_at dksX9_goneBeside_3 8 rfl rfl)
theorem dX9_goneBeside_79 : decode cX9_goneBeside 79 = .ok (.istore_n 3, 1) := dk_62 (dk_at dksX9_goneBeside_3 9 rfl rfl)
theorem dX9_goneBeside_80 : decode cX9_goneBeside 80 = .ok (.iinc 4 1, 3) := dk_132 4 1 (dk_at dksX9_goneBeside_3 10 rfl rfl)
theorem dX9_goneBeside_83 : decode cX9_goneBeside 83 = .ok (.goto (-78), 3) := dk_167 255 178 (dk_at dksX9_goneBeside_3 13 rfl rfl)
theorem dX9_goneBeside_86 : decode cX9_goneBeside 86 = .ok (.iload_n 3, 1) := dk_29 (dk_at dksX9_goneBeside_3 16 rfl rfl)
theorem dX9_goneBeside_87 : decode cX9_goneBeside 87 = .ok (.iload_n 2, 1) := dk_28 (dk_at dksX9_goneBeside_3 17 rfl rfl)
theorem dX9_goneBeside_88 : decode cX9_goneBeside 88 = .ok (.iand, 1) := dk_126 (dk_at dksX9_goneBeside_3 18 rfl rfl)
theorem dX9_goneBeside_89 : decode cX9_goneBeside 89 = .ok (.invokestatic 408, 3) := dk_184 1 152 (dk_at dksX9_goneBeside_3 19 rfl rfl)
theorem dX9_goneBeside_92 : decode cX9_goneBeside 92 = .ok (.ireturn, 1) := dk_172 (dk_at dksX9_goneBeside_3 22 rfl rfl)
abbrev cX9_dread : ByteArray := prog_23_method_115_code
def yX9_dread : MethodName := ⟨RX9, "dread", "(I)I"⟩
def dkwX9_dread_3 : List UInt8 := [172]
abbrev dktX9_dread_3 : List UInt8 := dkwX9_dread_3 ++ []
def dkwX9_dread_2 : List UInt8 := [163, 0, 6, 167, 0, 14, 21, 4, 61, 42, 180, 1, 231, 184, 1, 152, 62, 132, 4, 1, 167, 255, 206, 28]
abbrev dktX9_dread_2 : List UInt8 := dkwX9_dread_2 ++ dktX9_dread_3
def dkwX9_dread_1 : List UInt8 := [46, 162, 0, 45, 42, 21, 4, 27, 182, 1, 240, 28, 155, 0, 17, 42, 180, 1, 231, 184, 1, 152, 29]
abbrev dktX9_dread_1 : List UInt8 := dkwX9_dread_1 ++ dktX9_dread_2
def dkwX9_dread_0 : List UInt8 := [27, 184, 1, 225, 154, 0, 5, 2, 172, 16, 254, 61, 3, 62, 3, 54, 4, 21, 4, 42, 180, 0, 30, 3]
abbrev dktX9_dread_0 : List UInt8 := dkwX9_dread_0 ++ dktX9_dread_1
theorem dksX9_dread_0 : cX9_dread.data.toList.drop 0 = dktX9_dread_0 := by decide +kernel
theorem dksX9_dread_1 : cX9_dread.data.toList.drop 24 = dktX9_dread_1 := dk_seg dksX9_dread_0 24 rfl rfl
theorem dksX9_dread_2 : cX9_dread.data.toList.drop 47 = dktX9_dread_2 := dk_seg dksX9_dread_1 23 rfl rfl
theorem dksX9_dread_3 : cX9_dread.data.toList.drop 71 = dktX9_dread_3 := dk_seg dksX9_dread_2 24 rfl rfl
theorem dX9_dread_0 : decode cX9_dread 0 = .ok (.iload_n 1, 1) := dk_27 (dk_at dksX9_dread_0 0 rfl rfl)
theorem dX9_dread_1 : decode cX9_dread 1 = .ok (.invokestatic 481, 3) := dk_184 1 225 (dk_at dksX9_dread_0 1 rfl rfl)
theorem dX9_dread_4 : decode cX9_dread 4 = .ok (.ifCond .ne 5, 3) := dk_154 0 5 (dk_at dksX9_dread_0 4 rfl rfl)
theorem dX9_dread_7 : decode cX9_dread 7 = .ok (.iconst (-1), 1) := dk_2 (dk_at dksX9_dread_0 7 rfl rfl)
theorem dX9_dread_8 : decode cX9_dread 8 = .ok (.ireturn, 1) := dk_172 (dk_at dksX9_dread_0 8 rfl rfl)
theorem dX9_dread_9 : decode cX9_dread 9 = .ok (.bipush (-2), 2) := dk_16 254 (dk_at dksX9_dread_0 9 rfl rfl)
theorem dX9_dread_11 : decode cX9_dread 11 = .ok (.istore_n 2, 1) := dk_61 (dk_at dksX9_dread_0 11 rfl rfl)
theorem dX9_dread_12 : decode cX9_dread 12 = .ok (.iconst 0, 1) := dk_3 (dk_at dksX9_dread_0 12 rfl rfl)
theorem dX9_dread_13 : decode cX9_dread 13 = .ok (.istore_n 3, 1) := dk_62 (dk_at dksX9_dread_0 13 rfl rfl)
theorem dX9_dread_14 : decode cX9_dread 14 = .ok (.iconst 0, 1) := dk_3 (dk_at dksX9_dread_0 14 rfl rfl)
theorem dX9_dread_15 : decode cX9_dread 15 = .ok (.istore 4, 2) := dk_54 4 (dk_at dksX9_dread_0 15 rfl rfl)
theorem dX9_dread_17 : decode cX9_dread 17 = .ok (.iload 4, 2) := dk_21 4 (dk_at dksX9_dread_0 17 rfl rfl)
theorem dX9_dread_19 : decode cX9_dread 19 = .ok (.aload_n 0, 1) := dk_42 (dk_at dksX9_dread_0 19 rfl rfl)
theorem dX9_dread_20 : decode cX9_dread 20 = .ok (.getfield 30, 3) := dk_180 0 30 (dk_at dksX9_dread_0 20 rfl rfl)
theorem dX9_dread_23 : decode cX9_dread 23 = .ok (.iconst 0, 1) := dk_3 (dk_at dksX9_dread_0 23 rfl rfl)
theorem dX9_dread_24 : decode cX9_dread 24 = .ok (.iaload, 1) := dk_46 (dk_at dksX9_dread_1 0 rfl rfl)
theorem dX9_dread_25 : decode cX9_dread 25 = .ok (.if_icmp .ge 45, 3) := dk_162 0 45 (dk_at dksX9_dread_1 1 rfl rfl)
theorem dX9_dread_28 : decode cX9_dread 28 = .ok (.aload_n 0, 1) := dk_42 (dk_at dksX9_dread_1 4 rfl rfl)
theorem dX9_dread_29 : decode cX9_dread 29 = .ok (.iload 4, 2) := dk_21 4 (dk_at dksX9_dread_1 5 rfl rfl)
theorem dX9_dread_31 : decode cX9_dread 31 = .ok (.iload_n 1, 1) := dk_27 (dk_at dksX9_dread_1 7 rfl rfl)
theorem dX9_dread_32 : decode cX9_dread 32 = .ok (.invokevirtual 496, 3) := dk_182 1 240 (dk_at dksX9_dread_1 8 rfl rfl)
theorem dX9_dread_35 : decode cX9_dread 35 = .ok (.iload_n 2, 1) := dk_28 (dk_at dksX9_dread_1 11 rfl rfl)
theorem dX9_dread_36 : decode cX9_dread 36 = .ok (.ifCond .lt 17, 3) := dk_155 0 17 (dk_at dksX9_dread_1 12 rfl rfl)
theorem dX9_dread_39 : decode cX9_dread 39 = .ok (.aload_n 0, 1) := dk_42 (dk_at dksX9_dread_1 15 rfl rfl)
theorem dX9_dread_40 : decode cX9_dread 40 = .ok (.getfield 487, 3) := dk_180 1 231 (dk_at dksX9_dread_1 16 rfl rfl)
theorem dX9_dread_43 : decode cX9_dread 43 = .ok (.invokestatic 408, 3) := dk_184 1 152 (dk_at dksX9_dread_1 19 rfl rfl)
theorem dX9_dread_46 : decode cX9_dread 46 = .ok (.iload_n 3, 1) := dk_29 (dk_at dksX9_dread_1 22 rfl rfl)
theorem dX9_dread_47 : decode cX9_dread 47 = .ok (.if_icmp .gt 6, 3) := dk_163 0 6 (dk_at dksX9_dread_2 0 rfl rfl)
theorem dX9_dread_50 : decode cX9_dread 50 = .ok (.goto 14, 3) := dk_167 0 14 (dk_at dksX9_dread_2 3 rfl rfl)
theorem dX9_dread_53 : decode cX9_dread 53 = .ok (.iload 4, 2) := dk_21 4 (dk_at dksX9_dread_2 6 rfl rfl)
theorem dX9_dread_55 : decode cX9_dread 55 = .ok (.istore_n 2, 1) := dk_61 (dk_at dksX9_dread_2 8 rfl rfl)
theorem dX9_dread_56 : decode cX9_dread 56 = .ok (.aload_n 0, 1) := dk_42 (dk_at dksX9_dread_2 9 rfl rfl)
theorem dX9_dread_57 : decode cX9_dread 57 = .ok (.getfield 487, 3) := dk_180 1 231 (dk_at dksX9_dread_2 10 rfl rfl)
theorem dX9_dread_60 : decode cX9_dread 60 = .ok (.invokestatic 408, 3) := dk_184 1 152 (dk_at dksX9_dread_2 13 rfl rfl)
theorem dX9_dread_63 : decode cX9_dread 63 = .ok (.istore_n 3, 1) := dk_62 (dk_at dksX9_dread_2 16 rfl rfl)
theorem dX9_dread_64 : decode cX9_dread 64 = .ok (.iinc 4 1, 3) := dk_132 4 1 (dk_at dksX9_dread_2 17 rfl rfl)
theorem dX9_dread_67 : decode cX9_dread 67 = .ok (.goto (-50), 3) := dk_167 255 206 (dk_at dksX9_dread_2 20 rfl rfl)
theorem dX9_dread_70 : decode cX9_dread 70 = .ok (.iload_n 2, 1) := dk_28 (dk_at dksX9_dread_2 23 rfl rfl)
theorem dX9_dread_71 : decode cX9_dread 71 = .ok (.ireturn, 1) := dk_172 (dk_at dksX9_dread_3 0 rfl rfl)
abbrev cX9_year : ByteArray := prog_23_method_116_code
def yX9_year : MethodName := ⟨RX9, "year", "(I)I"⟩
def dkwX9_year_1 : List UInt8 := [180, 0, 112, 42, 180, 1, 24, 27, 79, 42, 89, 180, 1, 24, 4, 96, 181, 1, 24, 42, 180, 1, 24, 172]
abbrev dktX9_year_1 : List UInt8 := dkwX9_year_1 ++ []
def dkwX9_year_0 : List UInt8 := [42, 180, 1, 24, 16, 12, 159, 0, 13, 27, 3, 16, 99, 184, 1, 136, 154, 0, 5, 2, 172, 42]
abbrev dktX9_year_0 : List UInt8 := dkwX9_year_0 ++ dktX9_year_1
theorem dksX9_year_0 : cX9_year.data.toList.drop 0 = dktX9_year_0 := by decide +kernel
theorem dksX9_year_1 : cX9_year.data.toList.drop 22 = dktX9_year_1 := dk_seg dksX9_year_0 22 rfl rfl
theorem dX9_year_0 : decode cX9_year 0 = .ok (.aload_n 0, 1) := dk_42 (dk_at dksX9_year_0 0 rfl rfl)
theorem dX9_year_1 : decode cX9_year 1 = .ok (.getfield 280, 3) := dk_180 1 24 (dk_at dksX9_year_0 1 rfl rfl)
theorem dX9_year_4 : decode cX9_year 4 = .ok (.bipush 12, 2) := dk_16 12 (dk_at dksX9_year_0 4 rfl rfl)
theorem dX9_year_6 : decode cX9_year 6 = .ok (.if_icmp .eq 13, 3) := dk_159 0 13 (dk_at dksX9_year_0 6 rfl rfl)
theorem dX9_year_9 : decode cX9_year 9 = .ok (.iload_n 1, 1) := dk_27 (dk_at dksX9_year_0 9 rfl rfl)
theorem dX9_year_10 : decode cX9_year 10 = .ok (.iconst 0, 1) := dk_3 (dk_at dksX9_year_0 10 rfl rfl)
theorem dX9_year_11 : decode cX9_year 11 = .ok (.bipush 99, 2) := dk_16 99 (dk_at dksX9_year_0 11 rfl rfl)
theorem dX9_year_13 : decode cX9_year 13 = .ok (.invokestatic 392, 3) := dk_184 1 136 (dk_at dksX9_year_0 13 rfl rfl)
theorem dX9_year_16 : decode cX9_year 16 = .ok (.ifCond .ne 5, 3) := dk_154 0 5 (dk_at dksX9_year_0 16 rfl rfl)
theorem dX9_year_19 : decode cX9_year 19 = .ok (.iconst (-1), 1) := dk_2 (dk_at dksX9_year_0 19 rfl rfl)
theorem dX9_year_20 : decode cX9_year 20 = .ok (.ireturn, 1) := dk_172 (dk_at dksX9_year_0 20 rfl rfl)
theorem dX9_year_21 : decode cX9_year 21 = .ok (.aload_n 0, 1) := dk_42 (dk_at dksX9_year_0 21 rfl rfl)
theorem dX9_year_22 : decode cX9_year 22 = .ok (.getfield 112, 3) := dk_180 0 112 (dk_at dksX9_year_1 0 rfl rfl)
theorem dX9_year_25 : decode cX9_year 25 = .ok (.aload_n 0, 1) := dk_42 (dk_at dksX9_year_1 3 rfl rfl)
theorem dX9_year_26 : decode cX9_year 26 = .ok (.getfield 280, 3) := dk_180 1 24 (dk_at dksX9_year_1 4 rfl rfl)
theorem dX9_year_29 : decode cX9_year 29 = .ok (.iload_n 1, 1) := dk_27 (dk_at dksX9_year_1 7 rfl rfl)
theorem dX9_year_30 : decode cX9_year 30 = .ok (.iastore, 1) := dk_79 (dk_at dksX9_year_1 8 rfl rfl)
theorem dX9_year_31 : decode cX9_year 31 = .ok (.aload_n 0, 1) := dk_42 (dk_at dksX9_year_1 9 rfl rfl)
theorem dX9_year_32 : decode cX9_year 32 = .ok (.dup, 1) := dk_89 (dk_at dksX9_year_1 10 rfl rfl)
theorem dX9_year_33 : decode cX9_year 33 = .ok (.getfield 280, 3) := dk_180 1 24 (dk_at dksX9_year_1 11 rfl rfl)
theorem dX9_year_36 : decode cX9_year 36 = .ok (.iconst 1, 1) := dk_4 (dk_at dksX9_year_1 14 rfl rfl)
theorem dX9_year_37 : decode cX9_year 37 = .ok (.iadd, 1) := dk_96 (dk_at dksX9_year_1 15 rfl rfl)
theorem dX9_year_38 : decode cX9_year 38 = .ok (.putfield 280, 3) := dk_181 1 24 (dk_at dksX9_year_1 16 rfl rfl)
theorem dX9_year_41 : decode cX9_year 41 = .ok (.aload_n 0, 1) := dk_42 (dk_at dksX9_year_1 19 rfl rfl)
theorem dX9_year_42 : decode cX9_year 42 = .ok (.getfield 280, 3) := dk_180 1 24 (dk_at dksX9_year_1 20 rfl rfl)
theorem dX9_year_45 : decode cX9_year 45 = .ok (.ireturn, 1) := dk_172 (dk_at dksX9_year_1 23 rfl rfl)
abbrev cX9_clear : ByteArray := prog_23_method_117_code
def yX9_clear : MethodName := ⟨RX9, "clear", "()I"⟩
def dkwX9_clear_0 : List UInt8 := [42, 180, 1, 24, 60, 42, 3, 181, 1, 24, 27, 172]
abbrev dktX9_clear_0 : List UInt8 := dkwX9_clear_0 ++ []
theorem dksX9_clear_0 : cX9_clear.data.toList.drop 0 = dktX9_clear_0 := by decide +kernel
theorem dX9_clear_0 : decode cX9_clear 0 = .ok (.aload_n 0, 1) := dk_42 (dk_at dksX9_clear_0 0 rfl rfl)
theorem dX9_clear_1 : decode cX9_clear 1 = .ok (.getfield 280, 3) := dk_180 1 24 (dk_at dksX9_clear_0 1 rfl rfl)
theorem dX9_clear_4 : decode cX9_clear 4 = .ok (.istore_n 1, 1) := dk_60 (dk_at dksX9_clear_0 4 rfl rfl)
theorem dX9_clear_5 : decode cX9_clear 5 = .ok (.aload_n 0, 1) := dk_42 (dk_at dksX9_clear_0 5 rfl rfl)
theorem dX9_clear_6 : decode cX9_clear 6 = .ok (.iconst 0, 1) := dk_3 (dk_at dksX9_clear_0 6 rfl rfl)
theorem dX9_clear_7 : decode cX9_clear 7 = .ok (.putfield 280, 3) := dk_181 1 24 (dk_at dksX9_clear_0 7 rfl rfl)
theorem dX9_clear_10 : decode cX9_clear 10 = .ok (.iload_n 1, 1) := dk_27 (dk_at dksX9_clear_0 10 rfl rfl)
theorem dX9_clear_11 : decode cX9_clear 11 = .ok (.ireturn, 1) := dk_172 (dk_at dksX9_clear_0 11 rfl rfl)
abbrev cX9_posts : ByteArray := prog_23_method_122_code
def yX9_posts : MethodName := ⟨RX9, "posts", "(IIIII)I"⟩
def dkwX9_posts_1 : List UInt8 := [182, 1, 254, 42, 180, 0, 115, 27, 46, 172]
abbrev dktX9_posts_1 : List UInt8 := dkwX9_posts_1 ++ []
def dkwX9_posts_0 : List UInt8 := [27, 28, 29, 21, 4, 21, 5, 184, 1, 250, 154, 0, 5, 2, 172, 42, 28, 29, 21, 4, 21, 5]
abbrev dktX9_posts_0 : List UInt8 := dkwX9_posts_0 ++ dktX9_posts_1
theorem dksX9_posts_0 : cX9_posts.data.toList.drop 0 = dktX9_posts_0 := by decide +kernel
theorem dksX9_posts_1 : cX9_posts.data.toList.drop 22 = dktX9_posts_1 := dk_seg dksX9_posts_0 22 rfl rfl
theorem dX9_posts_0 : decode cX9_posts 0 = .ok (.iload_n 1, 1) := dk_27 (dk_at dksX9_posts_0 0 rfl rfl)
theorem dX9_posts_1 : decode cX9_posts 1 = .ok (.iload_n 2, 1) := dk_28 (dk_at dksX9_posts_0 1 rfl rfl)
theorem dX9_posts_2 : decode cX9_posts 2 = .ok (.iload_n 3, 1) := dk_29 (dk_at dksX9_posts_0 2 rfl rfl)
theorem dX9_posts_3 : decode cX9_posts 3 = .ok (.iload 4, 2) := dk_21 4 (dk_at dksX9_posts_0 3 rfl rfl)
theorem dX9_posts_5 : decode cX9_posts 5 = .ok (.iload 5, 2) := dk_21 5 (dk_at dksX9_posts_0 5 rfl rfl)
theorem dX9_posts_7 : decode cX9_posts 7 = .ok (.invokestatic 506, 3) := dk_184 1 250 (dk_at dksX9_posts_0 7 rfl rfl)
theorem dX9_posts_10 : decode cX9_posts 10 = .ok (.ifCond .ne 5, 3) := dk_154 0 5 (dk_at dksX9_posts_0 10 rfl rfl)
theorem dX9_posts_13 : decode cX9_posts 13 = .ok (.iconst (-1), 1) := dk_2 (dk_at dksX9_posts_0 13 rfl rfl)
theorem dX9_posts_14 : decode cX9_posts 14 = .ok (.ireturn, 1) := dk_172 (dk_at dksX9_posts_0 14 rfl rfl)
theorem dX9_posts_15 : decode cX9_posts 15 = .ok (.aload_n 0, 1) := dk_42 (dk_at dksX9_posts_0 15 rfl rfl)
theorem dX9_posts_16 : decode cX9_posts 16 = .ok (.iload_n 2, 1) := dk_28 (dk_at dksX9_posts_0 16 rfl rfl)
theorem dX9_posts_17 : decode cX9_posts 17 = .ok (.iload_n 3, 1) := dk_29 (dk_at dksX9_posts_0 17 rfl rfl)
theorem dX9_posts_18 : decode cX9_posts 18 = .ok (.iload 4, 2) := dk_21 4 (dk_at dksX9_posts_0 18 rfl rfl)
theorem dX9_posts_20 : decode cX9_posts 20 = .ok (.iload 5, 2) := dk_21 5 (dk_at dksX9_posts_0 20 rfl rfl)
theorem dX9_posts_22 : decode cX9_posts 22 = .ok (.invokevirtual 510, 3) := dk_182 1 254 (dk_at dksX9_posts_1 0 rfl rfl)
theorem dX9_posts_25 : decode cX9_posts 25 = .ok (.aload_n 0, 1) := dk_42 (dk_at dksX9_posts_1 3 rfl rfl)
theorem dX9_posts_26 : decode cX9_posts 26 = .ok (.getfield 115, 3) := dk_180 0 115 (dk_at dksX9_posts_1 4 rfl rfl)
theorem dX9_posts_29 : decode cX9_posts 29 = .ok (.iload_n 1, 1) := dk_27 (dk_at dksX9_posts_1 7 rfl rfl)
theorem dX9_posts_30 : decode cX9_posts 30 = .ok (.iaload, 1) := dk_46 (dk_at dksX9_posts_1 8 rfl rfl)
theorem dX9_posts_31 : decode cX9_posts 31 = .ok (.ireturn, 1) := dk_172 (dk_at dksX9_posts_1 9 rfl rfl)
abbrev cX9_isPosts : ByteArray := prog_23_method_121_code
def yX9_isPosts : MethodName := ⟨RX9, "isPosts", "(IIIII)Z"⟩
def dkwX9_isPosts_2 : List UInt8 := [153, 0, 7, 4, 167, 0, 4, 3, 172]
abbrev dktX9_isPosts_2 : List UInt8 := dkwX9_isPosts_2 ++ []
def dkwX9_isPosts_1 : List UInt8 := [184, 1, 136, 153, 0, 28, 29, 3, 16, 99, 184, 1, 136, 153, 0, 18, 21, 4, 3, 16, 99, 184, 1, 136]
abbrev dktX9_isPosts_1 : List UInt8 := dkwX9_isPosts_1 ++ dktX9_isPosts_2
def dkwX9_isPosts_0 : List UInt8 := [26, 3, 16, 99, 184, 1, 136, 153, 0, 48, 27, 3, 16, 99, 184, 1, 136, 153, 0, 38, 28, 3, 16, 99]
abbrev dktX9_isPosts_0 : List UInt8 := dkwX9_isPosts_0 ++ dktX9_isPosts_1
theorem dksX9_isPosts_0 : cX9_isPosts.data.toList.drop 0 = dktX9_isPosts_0 := by decide +kernel
theorem dksX9_isPosts_1 : cX9_isPosts.data.toList.drop 24 = dktX9_isPosts_1 := dk_seg dksX9_isPosts_0 24 rfl rfl
theorem dksX9_isPosts_2 : cX9_isPosts.data.toList.drop 48 = dktX9_isPosts_2 := dk_seg dksX9_isPosts_1 24 rfl rfl
theorem dX9_isPosts_0 : decode cX9_isPosts 0 = .ok (.iload_n 0, 1) := dk_26 (dk_at dksX9_isPosts_0 0 rfl rfl)
theorem dX9_isPosts_1 : decode cX9_isPosts 1 = .ok (.iconst 0, 1) := dk_3 (dk_at dksX9_isPosts_0 1 rfl rfl)
theorem dX9_isPosts_2 : decode cX9_isPosts 2 = .ok (.bipush 99, 2) := dk_16 99 (dk_at dksX9_isPosts_0 2 rfl rfl)
theorem dX9_isPosts_4 : decode cX9_isPosts 4 = .ok (.invokestatic 392, 3) := dk_184 1 136 (dk_at dksX9_isPosts_0 4 rfl rfl)
theorem dX9_isPosts_7 : decode cX9_isPosts 7 = .ok (.ifCond .eq 48, 3) := dk_153 0 48 (dk_at dksX9_isPosts_0 7 rfl rfl)
theorem dX9_isPosts_10 : decode cX9_isPosts 10 = .ok (.iload_n 1, 1) := dk_27 (dk_at dksX9_isPosts_0 10 rfl rfl)
theorem dX9_isPosts_11 : decode cX9_isPosts 11 = .ok (.iconst 0, 1) := dk_3 (dk_at dksX9_isPosts_0 11 rfl rfl)
theorem dX9_isPosts_12 : decode cX9_isPosts 12 = .ok (.bipush 99, 2) := dk_16 99 (dk_at dksX9_isPosts_0 12 rfl rfl)
theorem dX9_isPosts_14 : decode cX9_isPosts 14 = .ok (.invokestatic 392, 3) := dk_184 1 136 (dk_at dksX9_isPosts_0 14 rfl rfl)
theorem dX9_isPosts_17 : decode cX9_isPosts 17 = .ok (.ifCond .eq 38, 3) := dk_153 0 38 (dk_at dksX9_isPosts_0 17 rfl rfl)
theorem dX9_isPosts_20 : decode cX9_isPosts 20 = .ok (.iload_n 2, 1) := dk_28 (dk_at dksX9_isPosts_0 20 rfl rfl)
theorem dX9_isPosts_21 : decode cX9_isPosts 21 = .ok (.iconst 0, 1) := dk_3 (dk_at dksX9_isPosts_0 21 rfl rfl)
theorem dX9_isPosts_22 : decode cX9_isPosts 22 = .ok (.bipush 99, 2) := dk_16 99 (dk_at dksX9_isPosts_0 22 rfl rfl)
theorem dX9_isPosts_24 : decode cX9_isPosts 24 = .ok (.invokestatic 392, 3) := dk_184 1 136 (dk_at dksX9_isPosts_1 0 rfl rfl)
theorem dX9_isPosts_27 : decode cX9_isPosts 27 = .ok (.ifCond .eq 28, 3) := dk_153 0 28 (dk_at dksX9_isPosts_1 3 rfl rfl)
theorem dX9_isPosts_30 : decode cX9_isPosts 30 = .ok (.iload_n 3, 1) := dk_29 (dk_at dksX9_isPosts_1 6 rfl rfl)
theorem dX9_isPosts_31 : decode cX9_isPosts 31 = .ok (.iconst 0, 1) := dk_3 (dk_at dksX9_isPosts_1 7 rfl rfl)
theorem dX9_isPosts_32 : decode cX9_isPosts 32 = .ok (.bipush 99, 2) := dk_16 99 (dk_at dksX9_isPosts_1 8 rfl rfl)
theorem dX9_isPosts_34 : decode cX9_isPosts 34 = .ok (.invokestatic 392, 3) := dk_184 1 136 (dk_at dksX9_isPosts_1 10 rfl rfl)
theorem dX9_isPosts_37 : decode cX9_isPosts 37 = .ok (.ifCond .eq 18, 3) := dk_153 0 18 (dk_at dksX9_isPosts_1 13 rfl rfl)
theorem dX9_isPosts_40 : decode cX9_isPosts 40 = .ok (.iload 4, 2) := dk_21 4 (dk_at dksX9_isPosts_1 16 rfl rfl)
theorem dX9_isPosts_42 : decode cX9_isPosts 42 = .ok (.iconst 0, 1) := dk_3 (dk_at dksX9_isPosts_1 18 rfl rfl)
theorem dX9_isPosts_43 : decode cX9_isPosts 43 = .ok (.bipush 99, 2) := dk_16 99 (dk_at dksX9_isPosts_1 19 rfl rfl)
theorem dX9_isPosts_45 : decode cX9_isPosts 45 = .ok (.invokestatic 392, 3) := dk_184 1 136 (dk_at dksX9_isPosts_1 21 rfl rfl)
theorem dX9_isPosts_48 : decode cX9_isPosts 48 = .ok (.ifCond .eq 7, 3) := dk_153 0 7 (dk_at dksX9_isPosts_2 0 rfl rfl)
theorem dX9_isPosts_51 : decode cX9_isPosts 51 = .ok (.iconst 1, 1) := dk_4 (dk_at dksX9_isPosts_2 3 rfl rfl)
theorem dX9_isPosts_52 : decode cX9_isPosts 52 = .ok (.goto 4, 3) := dk_167 0 4 (dk_at dksX9_isPosts_2 4 rfl rfl)
theorem dX9_isPosts_55 : decode cX9_isPosts 55 = .ok (.iconst 0, 1) := dk_3 (dk_at dksX9_isPosts_2 7 rfl rfl)
theorem dX9_isPosts_56 : decode cX9_isPosts 56 = .ok (.ireturn, 1) := dk_172 (dk_at dksX9_isPosts_2 8 rfl rfl)
abbrev cX9_layPosts : ByteArray := prog_23_method_120_code
def yX9_layPosts : MethodName := ⟨RX9, "layPosts", "(IIII)V"⟩
def dkwX9_layPosts_6 : List UInt8 := [132, 5, 255, 167, 255, 150, 177]
abbrev dktX9_layPosts_6 : List UInt8 := dkwX9_layPosts_6 ++ []
def dkwX9_layPosts_5 : List UInt8 := [167, 255, 206, 42, 180, 0, 115, 16, 100, 21, 5, 104, 21, 6, 96, 21, 7, 79, 132, 6, 1, 167, 255, 164]
abbrev dktX9_layPosts_5 : List UInt8 := dkwX9_layPosts_5 ++ dktX9_layPosts_6
def dkwX9_layPosts_4 : List UInt8 := [180, 0, 115, 16, 100, 21, 5, 104, 16, 100, 96, 21, 8, 96, 46, 96, 184, 1, 186, 54, 7, 132, 8, 1]
abbrev dktX9_layPosts_4 : List UInt8 := dkwX9_layPosts_4 ++ dktX9_layPosts_5
def dkwX9_layPosts_3 : List UInt8 := [21, 5, 27, 182, 1, 243, 163, 0, 44, 21, 7, 21, 6, 21, 8, 28, 29, 21, 4, 184, 1, 246, 42]
abbrev dktX9_layPosts_3 : List UInt8 := dkwX9_layPosts_3 ++ dktX9_layPosts_4
def dkwX9_layPosts_2 : List UInt8 := [21, 6, 16, 100, 162, 0, 91, 19, 1, 185, 54, 7, 42, 180, 0, 112, 21, 5, 46, 54, 8, 21, 8, 42]
abbrev dktX9_layPosts_2 : List UInt8 := dkwX9_layPosts_2 ++ dktX9_layPosts_3
def dkwX9_layPosts_1 : List UInt8 := [3, 79, 132, 5, 1, 167, 255, 230, 42, 180, 1, 24, 4, 100, 54, 5, 21, 5, 155, 0, 107, 3, 54, 6]
abbrev dktX9_layPosts_1 : List UInt8 := dkwX9_layPosts_1 ++ dktX9_layPosts_2
def dkwX9_layPosts_0 : List UInt8 := [3, 54, 5, 21, 5, 16, 100, 162, 0, 25, 42, 180, 0, 115, 16, 100, 42, 180, 1, 24, 104, 21, 5, 96]
abbrev dktX9_layPosts_0 : List UInt8 := dkwX9_layPosts_0 ++ dktX9_layPosts_1
theorem dksX9_layPosts_0 : cX9_layPosts.data.toList.drop 0 = dktX9_layPosts_0 := by decide +kernel
theorem dksX9_layPosts_1 : cX9_layPosts.data.toList.drop 24 = dktX9_layPosts_1 := dk_seg dksX9_layPosts_0 24 rfl rfl
theorem dksX9_layPosts_2 : cX9_layPosts.data.toList.drop 48 = dktX9_layPosts_2 := dk_seg dksX9_layPosts_1 24 rfl rfl
theorem dksX9_layPosts_3 : cX9_layPosts.data.toList.drop 72 = dktX9_layPosts_3 := dk_seg dksX9_layPosts_2 24 rfl rfl
theorem dksX9_layPosts_4 : cX9_layPosts.data.toList.drop 95 = dktX9_layPosts_4 := dk_seg dksX9_layPosts_3 23 rfl rfl
theorem dksX9_layPosts_5 : cX9_layPosts.data.toList.drop 119 = dktX9_layPosts_5 := dk_seg dksX9_layPosts_4 24 rfl rfl
theorem dksX9_layPosts_6 : cX9_layPosts.data.toList.drop 143 = dktX9_layPosts_6 := dk_seg dksX9_layPosts_5 24 rfl rfl
theorem dX9_layPosts_0 : decode cX9_layPosts 0 = .ok (.iconst 0, 1) := dk_3 (dk_at dksX9_layPosts_0 0 rfl rfl)
theorem dX9_layPosts_1 : decode cX9_layPosts 1 = .ok (.istore 5, 2) := dk_54 5 (dk_at dksX9_layPosts_0 1 rfl rfl)
theorem dX9_layPosts_3 : decode cX9_layPosts 3 = .ok (.iload 5, 2) := dk_21 5 (dk_at dksX9_layPosts_0 3 rfl rfl)
theorem dX9_layPosts_5 : decode cX9_layPosts 5 = .ok (.bipush 100, 2) := dk_16 100 (dk_at dksX9_layPosts_0 5 rfl rfl)
theorem dX9_layPosts_7 : decode cX9_layPosts 7 = .ok (.if_icmp .ge 25, 3) := dk_162 0 25 (dk_at dksX9_layPosts_0 7 rfl rfl)
theorem dX9_layPosts_10 : decode cX9_layPosts 10 = .ok (.aload_n 0, 1) := dk_42 (dk_at dksX9_layPosts_0 10 rfl rfl)
theorem dX9_layPosts_11 : decode cX9_layPosts 11 = .ok (.getfield 115, 3) := dk_180 0 115 (dk_at dksX9_layPosts_0 11 rfl rfl)
theorem dX9_layPosts_14 : decode cX9_layPosts 14 = .ok (.bipush 100, 2) := dk_16 100 (dk_at dksX9_layPosts_0 14 rfl rfl)
theorem dX9_layPosts_16 : decode cX9_layPosts 16 = .ok (.aload_n 0, 1) := dk_42 (dk_at dksX9_layPosts_0 16 rfl rfl)
theorem dX9_layPosts_17 : decode cX9_layPosts 17 = .ok (.getfield 280, 3) := dk_180 1 24 (dk_at dksX9_layPosts_0 17 rfl rfl)
theorem dX9_layPosts_20 : decode cX9_layPosts 20 = .ok (.imul, 1) := dk_104 (dk_at dksX9_layPosts_0 20 rfl rfl)
theorem dX9_layPosts_21 : decode cX9_layPosts 21 = .ok (.iload 5, 2) := dk_21 5 (dk_at dksX9_layPosts_0 21 rfl rfl)
theorem dX9_layPosts_23 : decode cX9_layPosts 23 = .ok (.iadd, 1) := dk_96 (dk_at dksX9_layPosts_0 23 rfl rfl)
theorem dX9_layPosts_24 : decode cX9_layPosts 24 = .ok (.iconst 0, 1) := dk_3 (dk_at dksX9_layPosts_1 0 rfl rfl)
theorem dX9_layPosts_25 : decode cX9_layPosts 25 = .ok (.iastore, 1) := dk_79 (dk_at dksX9_layPosts_1 1 rfl rfl)
theorem dX9_layPosts_26 : decode cX9_layPosts 26 = .ok (.iinc 5 1, 3) := dk_132 5 1 (dk_at dksX9_layPosts_1 2 rfl rfl)
theorem dX9_layPosts_29 : decode cX9_layPosts 29 = .ok (.goto (-26), 3) := dk_167 255 230 (dk_at dksX9_layPosts_1 5 rfl rfl)
theorem dX9_layPosts_32 : decode cX9_layPosts 32 = .ok (.aload_n 0, 1) := dk_42 (dk_at dksX9_layPosts_1 8 rfl rfl)
theorem dX9_layPosts_33 : decode cX9_layPosts 33 = .ok (.getfield 280, 3) := dk_180 1 24 (dk_at dksX9_layPosts_1 9 rfl rfl)
theorem dX9_layPosts_36 : decode cX9_layPosts 36 = .ok (.iconst 1, 1) := dk_4 (dk_at dksX9_layPosts_1 12 rfl rfl)
theorem dX9_layPosts_37 : decode cX9_layPosts 37 = .ok (.isub, 1) := dk_100 (dk_at dksX9_layPosts_1 13 rfl rfl)
theorem dX9_layPosts_38 : decode cX9_layPosts 38 = .ok (.istore 5, 2) := dk_54 5 (dk_at dksX9_layPosts_1 14 rfl rfl)
theorem dX9_layPosts_40 : decode cX9_layPosts 40 = .ok (.iload 5, 2) := dk_21 5 (dk_at dksX9_layPosts_1 16 rfl rfl)
theorem dX9_layPosts_42 : decode cX9_layPosts 42 = .ok (.ifCond .lt 107, 3) := dk_155 0 107 (dk_at dksX9_layPosts_1 18 rfl rfl)
theorem dX9_layPosts_45 : decode cX9_layPosts 45 = .ok (.iconst 0, 1) := dk_3 (dk_at dksX9_layPosts_1 21 rfl rfl)
theorem dX9_layPosts_46 : decode cX9_layPosts 46 = .ok (.istore 6, 2) := dk_54 6 (dk_at dksX9_layPosts_1 22 rfl rfl)
theorem dX9_layPosts_48 : decode cX9_layPosts 48 = .ok (.iload 6, 2) := dk_21 6 (dk_at dksX9_layPosts_2 0 rfl rfl)
theorem dX9_layPosts_50 : decode cX9_layPosts 50 = .ok (.bipush 100, 2) := dk_16 100 (dk_at dksX9_layPosts_2 2 rfl rfl)
theorem dX9_layPosts_52 : decode cX9_layPosts 52 = .ok (.if_icmp .ge 91, 3) := dk_162 0 91 (dk_at dksX9_layPosts_2 4 rfl rfl)
theorem dX9_layPosts_55 : decode cX9_layPosts 55 = .ok (.ldc_w 441, 3) := dk_19 1 185 (dk_at dksX9_layPosts_2 7 rfl rfl)
theorem dX9_layPosts_58 : decode cX9_layPosts 58 = .ok (.istore 7, 2) := dk_54 7 (dk_at dksX9_layPosts_2 10 rfl rfl)
theorem dX9_layPosts_60 : decode cX9_layPosts 60 = .ok (.aload_n 0, 1) := dk_42 (dk_at dksX9_layPosts_2 12 rfl rfl)
theorem dX9_layPosts_61 : decode cX9_layPosts 61 = .ok (.getfield 112, 3) := dk_180 0 112 (dk_at dksX9_layPosts_2 13 rfl rfl)
theorem dX9_layPosts_64 : decode cX9_layPosts 64 = .ok (.iload 5, 2) := dk_21 5 (dk_at dksX9_layPosts_2 16 rfl rfl)
theorem dX9_layPosts_66 : decode cX9_layPosts 66 = .ok (.iaload, 1) := dk_46 (dk_at dksX9_layPosts_2 18 rfl rfl)
theorem dX9_layPosts_67 : decode cX9_layPosts 67 = .ok (.istore 8, 2) := dk_54 8 (dk_at dksX9_layPosts_2 19 rfl rfl)
theorem dX9_layPosts_69 : decode cX9_layPosts 69 = .ok (.iload 8, 2) := dk_21 8 (dk_at dksX9_layPosts_2 21 rfl rfl)
theorem dX9_layPosts_71 : decode cX9_layPosts 71 = .ok (.aload_n 0, 1) := dk_42 (dk_at dksX9_layPosts_2 23 rfl rfl)
theorem dX9_layPosts_72 : decode cX9_layPosts 72 = .ok (.iload 5, 2) := dk_21 5 (dk_at dksX9_layPosts_3 0 rfl rfl)
theorem dX9_layPosts_74 : decode cX9_layPosts 74 = .ok (.iload_n 1, 1) := dk_27 (dk_at dksX9_layPosts_3 2 rfl rfl)
theorem dX9_layPosts_75 : decode cX9_layPosts 75 = .ok (.invokevirtual 499, 3) := dk_182 1 243 (dk_at dksX9_layPosts_3 3 rfl rfl)
theorem dX9_layPosts_78 : decode cX9_layPosts 78 = .ok (.if_icmp .gt 44, 3) := dk_163 0 44 (dk_at dksX9_layPosts_3 6 rfl rfl)
theorem dX9_layPosts_81 : decode cX9_layPosts 81 = .ok (.iload 7, 2) := dk_21 7 (dk_at dksX9_layPosts_3 9 rfl rfl)
theorem dX9_layPosts_83 : decode cX9_layPosts 83 = .ok (.iload 6, 2) := dk_21 6 (dk_at dksX9_layPosts_3 11 rfl rfl)
theorem dX9_layPosts_85 : decode cX9_layPosts 85 = .ok (.iload 8, 2) := dk_21 8 (dk_at dksX9_layPosts_3 13 rfl rfl)
theorem dX9_layPosts_87 : decode cX9_layPosts 87 = .ok (.iload_n 2, 1) := dk_28 (dk_at dksX9_layPosts_3 15 rfl rfl)
theorem dX9_layPosts_88 : decode cX9_layPosts 88 = .ok (.iload_n 3, 1) := dk_29 (dk_at dksX9_layPosts_3 16 rfl rfl)
theorem dX9_layPosts_89 : decode cX9_layPosts 89 = .ok (.iload 4, 2) := dk_21 4 (dk_at dksX9_layPosts_3 17 rfl rfl)
theorem dX9_layPosts_91 : decode cX9_layPosts 91 = .ok (.invokestatic 502, 3) := dk_184 1 246 (dk_at dksX9_layPosts_3 19 rfl rfl)
theorem dX9_layPosts_94 : decode cX9_layPosts 94 = .ok (.aload_n 0, 1) := dk_42 (dk_at dksX9_layPosts_3 22 rfl rfl)
theorem dX9_layPosts_95 : decode cX9_layPosts 95 = .ok (.getfield 115, 3) := dk_180 0 115 (dk_at dksX9_layPosts_4 0 rfl rfl)
theorem dX9_layPosts_98 : decode cX9_layPosts 98 = .ok (.bipush 100, 2) := dk_16 100 (dk_at dksX9_layPosts_4 3 rfl rfl)
theorem dX9_layPosts_100 : decode cX9_layPosts 100 = .ok (.iload 5, 2) := dk_21 5 (dk_at dksX9_layPosts_4 5 rfl rfl)
theorem dX9_layPosts_102 : decode cX9_layPosts 102 = .ok (.imul, 1) := dk_104 (dk_at dksX9_layPosts_4 7 rfl rfl)
theorem dX9_layPosts_103 : decode cX9_layPosts 103 = .ok (.bipush 100, 2) := dk_16 100 (dk_at dksX9_layPosts_4 8 rfl rfl)
theorem dX9_layPosts_105 : decode cX9_layPosts 105 = .ok (.iadd, 1) := dk_96 (dk_at dksX9_layPosts_4 10 rfl rfl)
theorem dX9_layPosts_106 : decode cX9_layPosts 106 = .ok (.iload 8, 2) := dk_21 8 (dk_at dksX9_layPosts_4 11 rfl rfl)
theorem dX9_layPosts_108 : decode cX9_layPosts 108 = .ok (.iadd, 1) := dk_96 (dk_at dksX9_layPosts_4 13 rfl rfl)
theorem dX9_layPosts_109 : decode cX9_layPosts 109 = .ok (.iaload, 1) := dk_46 (dk_at dksX9_layPosts_4 14 rfl rfl)
theorem dX9_layPosts_110 : decode cX9_layPosts 110 = .ok (.iadd, 1) := dk_96 (dk_at dksX9_layPosts_4 15 rfl rfl)
theorem dX9_layPosts_111 : decode cX9_layPosts 111 = .ok (.invokestatic 442, 3) := dk_184 1 186 (dk_at dksX9_layPosts_4 16 rfl rfl)
theorem dX9_layPosts_114 : decode cX9_layPosts 114 = .ok (.istore 7, 2) := dk_54 7 (dk_at dksX9_layPosts_4 19 rfl rfl)
theorem dX9_layPosts_116 : decode cX9_layPosts 116 = .ok (.iinc 8 1, 3) := dk_132 8 1 (dk_at dksX9_layPosts_4 21 rfl rfl)
theorem dX9_layPosts_119 : decode cX9_layPosts 119 = .ok (.goto (-50), 3) := dk_167 255 206 (dk_at dksX9_layPosts_5 0 rfl rfl)
theorem dX9_layPosts_122 : decode cX9_layPosts 122 = .ok (.aload_n 0, 1) := dk_42 (dk_at dksX9_layPosts_5 3 rfl rfl)
theorem dX9_layPosts_123 : decode cX9_layPosts 123 = .ok (.getfield 115, 3) := dk_180 0 115 (dk_at dksX9_layPosts_5 4 rfl rfl)
theorem dX9_layPosts_126 : decode cX9_layPosts 126 = .ok (.bipush 100, 2) := dk_16 100 (dk_at dksX9_layPosts_5 7 rfl rfl)
theorem dX9_layPosts_128 : decode cX9_layPosts 128 = .ok (.iload 5, 2) := dk_21 5 (dk_at dksX9_layPosts_5 9 rfl rfl)
theorem dX9_layPosts_130 : decode cX9_layPosts 130 = .ok (.imul, 1) := dk_104 (dk_at dksX9_layPosts_5 11 rfl rfl)
theorem dX9_layPosts_131 : decode cX9_layPosts 131 = .ok (.iload 6, 2) := dk_21 6 (dk_at dksX9_layPosts_5 12 rfl rfl)
theorem dX9_layPosts_133 : decode cX9_layPosts 133 = .ok (.iadd, 1) := dk_96 (dk_at dksX9_layPosts_5 14 rfl rfl)
theorem dX9_layPosts_134 : decode cX9_layPosts 134 = .ok (.iload 7, 2) := dk_21 7 (dk_at dksX9_layPosts_5 15 rfl rfl)
theorem dX9_layPosts_136 : decode cX9_layPosts 136 = .ok (.iastore, 1) := dk_79 (dk_at dksX9_layPosts_5 17 rfl rfl)
theorem dX9_layPosts_137 : decode cX9_layPosts 137 = .ok (.iinc 6 1, 3) := dk_132 6 1 (dk_at dksX9_layPosts_5 18 rfl rfl)
theorem dX9_layPosts_140 : decode cX9_layPosts 140 = .ok (.goto (-92), 3) := dk_167 255 164 (dk_at dksX9_layPosts_5 21 rfl rfl)
theorem dX9_layPosts_143 : decode cX9_layPosts 143 = .ok (.iinc 5 (-1), 3) := dk_132 5 255 (dk_at dksX9_layPosts_6 0 rfl rfl)
theorem dX9_layPosts_146 : decode cX9_layPosts 146 = .ok (.goto (-106), 3) := dk_167 255 150 (dk_at dksX9_layPosts_6 3 rfl rfl)
theorem dX9_layPosts_149 : decode cX9_layPosts 149 = .ok (.return_, 1) := dk_177 (dk_at dksX9_layPosts_6 6 rfl rfl)
abbrev cX9_mostOf : ByteArray := prog_23_method_119_code
def yX9_mostOf : MethodName := ⟨RX9, "mostOf", "(II)I"⟩
def dkwX9_mostOf_0 : List UInt8 := [16, 99, 42, 180, 0, 112, 27, 46, 28, 96, 184, 1, 186, 172]
abbrev dktX9_mostOf_0 : List UInt8 := dkwX9_mostOf_0 ++ []
theorem dksX9_mostOf_0 : cX9_mostOf.data.toList.drop 0 = dktX9_mostOf_0 := by decide +kernel
theorem dX9_mostOf_0 : decode cX9_mostOf 0 = .ok (.bipush 99, 2) := dk_16 99 (dk_at dksX9_mostOf_0 0 rfl rfl)
theorem dX9_mostOf_2 : decode cX9_mostOf 2 = .ok (.aload_n 0, 1) := dk_42 (dk_at dksX9_mostOf_0 2 rfl rfl)
theorem dX9_mostOf_3 : decode cX9_mostOf 3 = .ok (.getfield 112, 3) := dk_180 0 112 (dk_at dksX9_mostOf_0 3 rfl rfl)
theorem dX9_mostOf_6 : decode cX9_mostOf 6 = .ok (.iload_n 1, 1) := dk_27 (dk_at dksX9_mostOf_0 6 rfl rfl)
theorem dX9_mostOf_7 : decode cX9_mostOf 7 = .ok (.iaload, 1) := dk_46 (dk_at dksX9_mostOf_0 7 rfl rfl)
theorem dX9_mostOf_8 : decode cX9_mostOf 8 = .ok (.iload_n 2, 1) := dk_28 (dk_at dksX9_mostOf_0 8 rfl rfl)
theorem dX9_mostOf_9 : decode cX9_mostOf 9 = .ok (.iadd, 1) := dk_96 (dk_at dksX9_mostOf_0 9 rfl rfl)
theorem dX9_mostOf_10 : decode cX9_mostOf 10 = .ok (.invokestatic 442, 3) := dk_184 1 186 (dk_at dksX9_mostOf_0 10 rfl rfl)
theorem dX9_mostOf_13 : decode cX9_mostOf 13 = .ok (.ireturn, 1) := dk_172 (dk_at dksX9_mostOf_0 13 rfl rfl)
abbrev cX9_stepCost : ByteArray := prog_23_method_118_code
def yX9_stepCost : MethodName := ⟨RX9, "stepCost", "(IIIII)I"⟩
def dkwX9_stepCost_1 : List UInt8 := [27, 100, 104, 96, 172]
abbrev dktX9_stepCost_1 : List UInt8 := dkwX9_stepCost_1 ++ []
def dkwX9_stepCost_0 : List UInt8 := [26, 27, 160, 0, 5, 3, 172, 21, 4, 27, 26, 164, 0, 11, 28, 27, 26, 100, 104, 167, 0, 8, 29, 26]
abbrev dktX9_stepCost_0 : List UInt8 := dkwX9_stepCost_0 ++ dktX9_stepCost_1
theorem dksX9_stepCost_0 : cX9_stepCost.data.toList.drop 0 = dktX9_stepCost_0 := by decide +kernel
theorem dksX9_stepCost_1 : cX9_stepCost.data.toList.drop 24 = dktX9_stepCost_1 := dk_seg dksX9_stepCost_0 24 rfl rfl
theorem dX9_stepCost_0 : decode cX9_stepCost 0 = .ok (.iload_n 0, 1) := dk_26 (dk_at dksX9_stepCost_0 0 rfl rfl)
theorem dX9_stepCost_1 : decode cX9_stepCost 1 = .ok (.iload_n 1, 1) := dk_27 (dk_at dksX9_stepCost_0 1 rfl rfl)
theorem dX9_stepCost_2 : decode cX9_stepCost 2 = .ok (.if_icmp .ne 5, 3) := dk_160 0 5 (dk_at dksX9_stepCost_0 2 rfl rfl)
theorem dX9_stepCost_5 : decode cX9_stepCost 5 = .ok (.iconst 0, 1) := dk_3 (dk_at dksX9_stepCost_0 5 rfl rfl)
theorem dX9_stepCost_6 : decode cX9_stepCost 6 = .ok (.ireturn, 1) := dk_172 (dk_at dksX9_stepCost_0 6 rfl rfl)
theorem dX9_stepCost_7 : decode cX9_stepCost 7 = .ok (.iload 4, 2) := dk_21 4 (dk_at dksX9_stepCost_0 7 rfl rfl)
theorem dX9_stepCost_9 : decode cX9_stepCost 9 = .ok (.iload_n 1, 1) := dk_27 (dk_at dksX9_stepCost_0 9 rfl rfl)
theorem dX9_stepCost_10 : decode cX9_stepCost 10 = .ok (.iload_n 0, 1) := dk_26 (dk_at dksX9_stepCost_0 10 rfl rfl)
theorem dX9_stepCost_11 : decode cX9_stepCost 11 = .ok (.if_icmp .le 11, 3) := dk_164 0 11 (dk_at dksX9_stepCost_0 11 rfl rfl)
theorem dX9_stepCost_14 : decode cX9_stepCost 14 = .ok (.iload_n 2, 1) := dk_28 (dk_at dksX9_stepCost_0 14 rfl rfl)
theorem dX9_stepCost_15 : decode cX9_stepCost 15 = .ok (.iload_n 1, 1) := dk_27 (dk_at dksX9_stepCost_0 15 rfl rfl)
theorem dX9_stepCost_16 : decode cX9_stepCost 16 = .ok (.iload_n 0, 1) := dk_26 (dk_at dksX9_stepCost_0 16 rfl rfl)
theorem dX9_stepCost_17 : decode cX9_stepCost 17 = .ok (.isub, 1) := dk_100 (dk_at dksX9_stepCost_0 17 rfl rfl)
theorem dX9_stepCost_18 : decode cX9_stepCost 18 = .ok (.imul, 1) := dk_104 (dk_at dksX9_stepCost_0 18 rfl rfl)
theorem dX9_stepCost_19 : decode cX9_stepCost 19 = .ok (.goto 8, 3) := dk_167 0 8 (dk_at dksX9_stepCost_0 19 rfl rfl)
theorem dX9_stepCost_22 : decode cX9_stepCost 22 = .ok (.iload_n 3, 1) := dk_29 (dk_at dksX9_stepCost_0 22 rfl rfl)
theorem dX9_stepCost_23 : decode cX9_stepCost 23 = .ok (.iload_n 0, 1) := dk_26 (dk_at dksX9_stepCost_0 23 rfl rfl)
theorem dX9_stepCost_24 : decode cX9_stepCost 24 = .ok (.iload_n 1, 1) := dk_27 (dk_at dksX9_stepCost_1 0 rfl rfl)
theorem dX9_stepCost_25 : decode cX9_stepCost 25 = .ok (.isub, 1) := dk_100 (dk_at dksX9_stepCost_1 1 rfl rfl)
theorem dX9_stepCost_26 : decode cX9_stepCost 26 = .ok (.imul, 1) := dk_104 (dk_at dksX9_stepCost_1 2 rfl rfl)
theorem dX9_stepCost_27 : decode cX9_stepCost 27 = .ok (.iadd, 1) := dk_96 (dk_at dksX9_stepCost_1 3 rfl rfl)
theorem dX9_stepCost_28 : decode cX9_stepCost 28 = .ok (.ireturn, 1) := dk_172 (dk_at dksX9_stepCost_1 4 rfl rfl)
abbrev cX9_postAt : ByteArray := prog_23_method_123_code
def yX9_postAt : MethodName := ⟨RX9, "postAt", "(IIIIII)I"⟩
def dkwX9_postAt_5 : List UInt8 := [132, 8, 1, 167, 255, 182, 21, 7, 172]
abbrev dktX9_postAt_5 : List UInt8 := dkwX9_postAt_5 ++ []
def dkwX9_postAt_4 : List UInt8 := [16, 100, 21, 8, 104, 21, 7, 96, 46, 159, 0, 9, 132, 9, 1, 167, 255, 208, 21, 9, 54, 7]
abbrev dktX9_postAt_4 : List UInt8 := dkwX9_postAt_4 ++ dktX9_postAt_5
def dkwX9_postAt_3 : List UInt8 := [184, 1, 246, 42, 180, 0, 115, 16, 100, 21, 8, 104, 16, 100, 96, 21, 9, 96, 46, 96, 42, 180, 0, 115]
abbrev dktX9_postAt_3 : List UInt8 := dkwX9_postAt_3 ++ dktX9_postAt_4
def dkwX9_postAt_2 : List UInt8 := [21, 6, 163, 0, 73, 42, 180, 0, 112, 21, 8, 46, 54, 9, 21, 7, 21, 9, 29, 21, 4, 21, 5]
abbrev dktX9_postAt_2 : List UInt8 := dkwX9_postAt_2 ++ dktX9_postAt_3
def dkwX9_postAt_1 : List UInt8 := [161, 0, 5, 2, 172, 42, 28, 29, 21, 4, 21, 5, 182, 1, 254, 27, 54, 7, 3, 54, 8, 21, 8]
abbrev dktX9_postAt_1 : List UInt8 := dkwX9_postAt_1 ++ dktX9_postAt_2
def dkwX9_postAt_0 : List UInt8 := [27, 28, 29, 21, 4, 21, 5, 184, 1, 250, 153, 0, 17, 21, 6, 155, 0, 12, 21, 6, 42, 180, 1, 24]
abbrev dktX9_postAt_0 : List UInt8 := dkwX9_postAt_0 ++ dktX9_postAt_1
theorem dksX9_postAt_0 : cX9_postAt.data.toList.drop 0 = dktX9_postAt_0 := by decide +kernel
theorem dksX9_postAt_1 : cX9_postAt.data.toList.drop 24 = dktX9_postAt_1 := dk_seg dksX9_postAt_0 24 rfl rfl
theorem dksX9_postAt_2 : cX9_postAt.data.toList.drop 47 = dktX9_postAt_2 := dk_seg dksX9_postAt_1 23 rfl rfl
theorem dksX9_postAt_3 : cX9_postAt.data.toList.drop 70 = dktX9_postAt_3 := dk_seg dksX9_postAt_2 23 rfl rfl
theorem dksX9_postAt_4 : cX9_postAt.data.toList.drop 94 = dktX9_postAt_4 := dk_seg dksX9_postAt_3 24 rfl rfl
theorem dksX9_postAt_5 : cX9_postAt.data.toList.drop 116 = dktX9_postAt_5 := dk_seg dksX9_postAt_4 22 rfl rfl
theorem dX9_postAt_0 : decode cX9_postAt 0 = .ok (.iload_n 1, 1) := dk_27 (dk_at dksX9_postAt_0 0 rfl rfl)
theorem dX9_postAt_1 : decode cX9_postAt 1 = .ok (.iload_n 2, 1) := dk_28 (dk_at dksX9_postAt_0 1 rfl rfl)
theorem dX9_postAt_2 : decode cX9_postAt 2 = .ok (.iload_n 3, 1) := dk_29 (dk_at dksX9_postAt_0 2 rfl rfl)
theorem dX9_postAt_3 : decode cX9_postAt 3 = .ok (.iload 4, 2) := dk_21 4 (dk_at dksX9_postAt_0 3 rfl rfl)
theorem dX9_postAt_5 : decode cX9_postAt 5 = .ok (.iload 5, 2) := dk_21 5 (dk_at dksX9_postAt_0 5 rfl rfl)
theorem dX9_postAt_7 : decode cX9_postAt 7 = .ok (.invokestatic 506, 3) := dk_184 1 250 (dk_at dksX9_postAt_0 7 rfl rfl)
theorem dX9_postAt_10 : decode cX9_postAt 10 = .ok (.ifCond .eq 17, 3) := dk_153 0 17 (dk_at dksX9_postAt_0 10 rfl rfl)
theorem dX9_postAt_13 : decode cX9_postAt 13 = .ok (.iload 6, 2) := dk_21 6 (dk_at dksX9_postAt_0 13 rfl rfl)
theorem dX9_postAt_15 : decode cX9_postAt 15 = .ok (.ifCond .lt 12, 3) := dk_155 0 12 (dk_at dksX9_postAt_0 15 rfl rfl)
theorem dX9_postAt_18 : decode cX9_postAt 18 = .ok (.iload 6, 2) := dk_21 6 (dk_at dksX9_postAt_0 18 rfl rfl)
theorem dX9_postAt_20 : decode cX9_postAt 20 = .ok (.aload_n 0, 1) := dk_42 (dk_at dksX9_postAt_0 20 rfl rfl)
theorem dX9_postAt_21 : decode cX9_postAt 21 = .ok (.getfield 280, 3) := dk_180 1 24 (dk_at dksX9_postAt_0 21 rfl rfl)
theorem dX9_postAt_24 : decode cX9_postAt 24 = .ok (.if_icmp .lt 5, 3) := dk_161 0 5 (dk_at dksX9_postAt_1 0 rfl rfl)
theorem dX9_postAt_27 : decode cX9_postAt 27 = .ok (.iconst (-1), 1) := dk_2 (dk_at dksX9_postAt_1 3 rfl rfl)
theorem dX9_postAt_28 : decode cX9_postAt 28 = .ok (.ireturn, 1) := dk_172 (dk_at dksX9_postAt_1 4 rfl rfl)
theorem dX9_postAt_29 : decode cX9_postAt 29 = .ok (.aload_n 0, 1) := dk_42 (dk_at dksX9_postAt_1 5 rfl rfl)
theorem dX9_postAt_30 : decode cX9_postAt 30 = .ok (.iload_n 2, 1) := dk_28 (dk_at dksX9_postAt_1 6 rfl rfl)
theorem dX9_postAt_31 : decode cX9_postAt 31 = .ok (.iload_n 3, 1) := dk_29 (dk_at dksX9_postAt_1 7 rfl rfl)
theorem dX9_postAt_32 : decode cX9_postAt 32 = .ok (.iload 4, 2) := dk_21 4 (dk_at dksX9_postAt_1 8 rfl rfl)
theorem dX9_postAt_34 : decode cX9_postAt 34 = .ok (.iload 5, 2) := dk_21 5 (dk_at dksX9_postAt_1 10 rfl rfl)
theorem dX9_postAt_36 : decode cX9_postAt 36 = .ok (.invokevirtual 510, 3) := dk_182 1 254 (dk_at dksX9_postAt_1 12 rfl rfl)
theorem dX9_postAt_39 : decode cX9_postAt 39 = .ok (.iload_n 1, 1) := dk_27 (dk_at dksX9_postAt_1 15 rfl rfl)
theorem dX9_postAt_40 : decode cX9_postAt 40 = .ok (.istore 7, 2) := dk_54 7 (dk_at dksX9_postAt_1 16 rfl rfl)
theorem dX9_postAt_42 : decode cX9_postAt 42 = .ok (.iconst 0, 1) := dk_3 (dk_at dksX9_postAt_1 18 rfl rfl)
theorem dX9_postAt_43 : decode cX9_postAt 43 = .ok (.istore 8, 2) := dk_54 8 (dk_at dksX9_postAt_1 19 rfl rfl)
theorem dX9_postAt_45 : decode cX9_postAt 45 = .ok (.iload 8, 2) := dk_21 8 (dk_at dksX9_postAt_1 21 rfl rfl)
theorem dX9_postAt_47 : decode cX9_postAt 47 = .ok (.iload 6, 2) := dk_21 6 (dk_at dksX9_postAt_2 0 rfl rfl)
theorem dX9_postAt_49 : decode cX9_postAt 49 = .ok (.if_icmp .gt 73, 3) := dk_163 0 73 (dk_at dksX9_postAt_2 2 rfl rfl)
theorem dX9_postAt_52 : decode cX9_postAt 52 = .ok (.aload_n 0, 1) := dk_42 (dk_at dksX9_postAt_2 5 rfl rfl)
theorem dX9_postAt_53 : decode cX9_postAt 53 = .ok (.getfield 112, 3) := dk_180 0 112 (dk_at dksX9_postAt_2 6 rfl rfl)
theorem dX9_postAt_56 : decode cX9_postAt 56 = .ok (.iload 8, 2) := dk_21 8 (dk_at dksX9_postAt_2 9 rfl rfl)
theorem dX9_postAt_58 : decode cX9_postAt 58 = .ok (.iaload, 1) := dk_46 (dk_at dksX9_postAt_2 11 rfl rfl)
theorem dX9_postAt_59 : decode cX9_postAt 59 = .ok (.istore 9, 2) := dk_54 9 (dk_at dksX9_postAt_2 12 rfl rfl)
theorem dX9_postAt_61 : decode cX9_postAt 61 = .ok (.iload 7, 2) := dk_21 7 (dk_at dksX9_postAt_2 14 rfl rfl)
theorem dX9_postAt_63 : decode cX9_postAt 63 = .ok (.iload 9, 2) := dk_21 9 (dk_at dksX9_postAt_2 16 rfl rfl)
theorem dX9_postAt_65 : decode cX9_postAt 65 = .ok (.iload_n 3, 1) := dk_29 (dk_at dksX9_postAt_2 18 rfl rfl)
theorem dX9_postAt_66 : decode cX9_postAt 66 = .ok (.iload 4, 2) := dk_21 4 (dk_at dksX9_postAt_2 19 rfl rfl)
theorem dX9_postAt_68 : decode cX9_postAt 68 = .ok (.iload 5, 2) := dk_21 5 (dk_at dksX9_postAt_2 21 rfl rfl)
theorem dX9_postAt_70 : decode cX9_postAt 70 = .ok (.invokestatic 502, 3) := dk_184 1 246 (dk_at dksX9_postAt_3 0 rfl rfl)
theorem dX9_postAt_73 : decode cX9_postAt 73 = .ok (.aload_n 0, 1) := dk_42 (dk_at dksX9_postAt_3 3 rfl rfl)
theorem dX9_postAt_74 : decode cX9_postAt 74 = .ok (.getfield 115, 3) := dk_180 0 115 (dk_at dksX9_postAt_3 4 rfl rfl)
theorem dX9_postAt_77 : decode cX9_postAt 77 = .ok (.bipush 100, 2) := dk_16 100 (dk_at dksX9_postAt_3 7 rfl rfl)
theorem dX9_postAt_79 : decode cX9_postAt 79 = .ok (.iload 8, 2) := dk_21 8 (dk_at dksX9_postAt_3 9 rfl rfl)
theorem dX9_postAt_81 : decode cX9_postAt 81 = .ok (.imul, 1) := dk_104 (dk_at dksX9_postAt_3 11 rfl rfl)
theorem dX9_postAt_82 : decode cX9_postAt 82 = .ok (.bipush 100, 2) := dk_16 100 (dk_at dksX9_postAt_3 12 rfl rfl)
theorem dX9_postAt_84 : decode cX9_postAt 84 = .ok (.iadd, 1) := dk_96 (dk_at dksX9_postAt_3 14 rfl rfl)
theorem dX9_postAt_85 : decode cX9_postAt 85 = .ok (.iload 9, 2) := dk_21 9 (dk_at dksX9_postAt_3 15 rfl rfl)
theorem dX9_postAt_87 : decode cX9_postAt 87 = .ok (.iadd, 1) := dk_96 (dk_at dksX9_postAt_3 17 rfl rfl)
theorem dX9_postAt_88 : decode cX9_postAt 88 = .ok (.iaload, 1) := dk_46 (dk_at dksX9_postAt_3 18 rfl rfl)
theorem dX9_postAt_89 : decode cX9_postAt 89 = .ok (.iadd, 1) := dk_96 (dk_at dksX9_postAt_3 19 rfl rfl)
theorem dX9_postAt_90 : decode cX9_postAt 90 = .ok (.aload_n 0, 1) := dk_42 (dk_at dksX9_postAt_3 20 rfl rfl)
theorem dX9_postAt_91 : decode cX9_postAt 91 = .ok (.getfield 115, 3) := dk_180 0 115 (dk_at dksX9_postAt_3 21 rfl rfl)
theorem dX9_postAt_94 : decode cX9_postAt 94 = .ok (.bipush 100, 2) := dk_16 100 (dk_at dksX9_postAt_4 0 rfl rfl)
theorem dX9_postAt_96 : decode cX9_postAt 96 = .ok (.iload 8, 2) := dk_21 8 (dk_at dksX9_postAt_4 2 rfl rfl)
theorem dX9_postAt_98 : decode cX9_postAt 98 = .ok (.imul, 1) := dk_104 (dk_at dksX9_postAt_4 4 rfl rfl)
theorem dX9_postAt_99 : decode cX9_postAt 99 = .ok (.iload 7, 2) := dk_21 7 (dk_at dksX9_postAt_4 5 rfl rfl)
theorem dX9_postAt_101 : decode cX9_postAt 101 = .ok (.iadd, 1) := dk_96 (dk_at dksX9_postAt_4 7 rfl rfl)
theorem dX9_postAt_102 : decode cX9_postAt 102 = .ok (.iaload, 1) := dk_46 (dk_at dksX9_postAt_4 8 rfl rfl)
theorem dX9_postAt_103 : decode cX9_postAt 103 = .ok (.if_icmp .eq 9, 3) := dk_159 0 9 (dk_at dksX9_postAt_4 9 rfl rfl)
theorem dX9_postAt_106 : decode cX9_postAt 106 = .ok (.iinc 9 1, 3) := dk_132 9 1 (dk_at dksX9_postAt_4 12 rfl rfl)
theorem dX9_postAt_109 : decode cX9_postAt 109 = .ok (.goto (-48), 3) := dk_167 255 208 (dk_at dksX9_postAt_4 15 rfl rfl)
theorem dX9_postAt_112 : decode cX9_postAt 112 = .ok (.iload 9, 2) := dk_21 9 (dk_at dksX9_postAt_4 18 rfl rfl)
theorem dX9_postAt_114 : decode cX9_postAt 114 = .ok (.istore 7, 2) := dk_54 7 (dk_at dksX9_postAt_4 20 rfl rfl)
theorem dX9_postAt_116 : decode cX9_postAt 116 = .ok (.iinc 8 1, 3) := dk_132 8 1 (dk_at dksX9_postAt_5 0 rfl rfl)
theorem dX9_postAt_119 : decode cX9_postAt 119 = .ok (.goto (-74), 3) := dk_167 255 182 (dk_at dksX9_postAt_5 3 rfl rfl)
theorem dX9_postAt_122 : decode cX9_postAt 122 = .ok (.iload 7, 2) := dk_21 7 (dk_at dksX9_postAt_5 6 rfl rfl)
theorem dX9_postAt_124 : decode cX9_postAt 124 = .ok (.ireturn, 1) := dk_172 (dk_at dksX9_postAt_5 8 rfl rfl)
abbrev cX9_vote : ByteArray := prog_23_method_125_code
def yX9_vote : MethodName := ⟨RX9, "vote", "(III)I"⟩
def dkwX9_vote_1 : List UInt8 := [42, 3, 27, 28, 29, 182, 2, 2, 167, 0, 4, 2, 172]
abbrev dktX9_vote_1 : List UInt8 := dkwX9_vote_1 ++ []
def dkwX9_vote_0 : List UInt8 := [42, 27, 182, 1, 121, 153, 0, 30, 42, 28, 182, 1, 133, 153, 0, 22, 42, 29, 182, 1, 121, 153, 0, 14]
abbrev dktX9_vote_0 : List UInt8 := dkwX9_vote_0 ++ dktX9_vote_1
theorem dksX9_vote_0 : cX9_vote.data.toList.drop 0 = dktX9_vote_0 := by decide +kernel
theorem dksX9_vote_1 : cX9_vote.data.toList.drop 24 = dktX9_vote_1 := dk_seg dksX9_vote_0 24 rfl rfl
theorem dX9_vote_0 : decode cX9_vote 0 = .ok (.aload_n 0, 1) := dk_42 (dk_at dksX9_vote_0 0 rfl rfl)
theorem dX9_vote_1 : decode cX9_vote 1 = .ok (.iload_n 1, 1) := dk_27 (dk_at dksX9_vote_0 1 rfl rfl)
theorem dX9_vote_2 : decode cX9_vote 2 = .ok (.invokevirtual 377, 3) := dk_182 1 121 (dk_at dksX9_vote_0 2 rfl rfl)
theorem dX9_vote_5 : decode cX9_vote 5 = .ok (.ifCond .eq 30, 3) := dk_153 0 30 (dk_at dksX9_vote_0 5 rfl rfl)
theorem dX9_vote_8 : decode cX9_vote 8 = .ok (.aload_n 0, 1) := dk_42 (dk_at dksX9_vote_0 8 rfl rfl)
theorem dX9_vote_9 : decode cX9_vote 9 = .ok (.iload_n 2, 1) := dk_28 (dk_at dksX9_vote_0 9 rfl rfl)
theorem dX9_vote_10 : decode cX9_vote 10 = .ok (.invokevirtual 389, 3) := dk_182 1 133 (dk_at dksX9_vote_0 10 rfl rfl)
theorem dX9_vote_13 : decode cX9_vote 13 = .ok (.ifCond .eq 22, 3) := dk_153 0 22 (dk_at dksX9_vote_0 13 rfl rfl)
theorem dX9_vote_16 : decode cX9_vote 16 = .ok (.aload_n 0, 1) := dk_42 (dk_at dksX9_vote_0 16 rfl rfl)
theorem dX9_vote_17 : decode cX9_vote 17 = .ok (.iload_n 3, 1) := dk_29 (dk_at dksX9_vote_0 17 rfl rfl)
theorem dX9_vote_18 : decode cX9_vote 18 = .ok (.invokevirtual 377, 3) := dk_182 1 121 (dk_at dksX9_vote_0 18 rfl rfl)
theorem dX9_vote_21 : decode cX9_vote 21 = .ok (.ifCond .eq 14, 3) := dk_153 0 14 (dk_at dksX9_vote_0 21 rfl rfl)
theorem dX9_vote_24 : decode cX9_vote 24 = .ok (.aload_n 0, 1) := dk_42 (dk_at dksX9_vote_1 0 rfl rfl)
theorem dX9_vote_25 : decode cX9_vote 25 = .ok (.iconst 0, 1) := dk_3 (dk_at dksX9_vote_1 1 rfl rfl)
theorem dX9_vote_26 : decode cX9_vote 26 = .ok (.iload_n 1, 1) := dk_27 (dk_at dksX9_vote_1 2 rfl rfl)
theorem dX9_vote_27 : decode cX9_vote 27 = .ok (.iload_n 2, 1) := dk_28 (dk_at dksX9_vote_1 3 rfl rfl)
theorem dX9_vote_28 : decode cX9_vote 28 = .ok (.iload_n 3, 1) := dk_29 (dk_at dksX9_vote_1 4 rfl rfl)
theorem dX9_vote_29 : decode cX9_vote 29 = .ok (.invokevirtual 514, 3) := dk_182 2 2 (dk_at dksX9_vote_1 5 rfl rfl)
theorem dX9_vote_32 : decode cX9_vote 32 = .ok (.goto 4, 3) := dk_167 0 4 (dk_at dksX9_vote_1 8 rfl rfl)
theorem dX9_vote_35 : decode cX9_vote 35 = .ok (.iconst (-1), 1) := dk_2 (dk_at dksX9_vote_1 11 rfl rfl)
theorem dX9_vote_36 : decode cX9_vote 36 = .ok (.ireturn, 1) := dk_172 (dk_at dksX9_vote_1 12 rfl rfl)
abbrev cX9_log : ByteArray := prog_23_method_124_code
def yX9_log : MethodName := ⟨RX9, "log", "(IIII)I"⟩
def dkwX9_log_3 : List UInt8 := [5, 92, 46, 4, 96, 79, 42, 180, 0, 33, 5, 46, 4, 100, 172]
abbrev dktX9_log_3 : List UInt8 := dkwX9_log_3 ++ []
def dkwX9_log_2 : List UInt8 := [180, 0, 33, 21, 5, 5, 96, 29, 79, 42, 180, 0, 33, 21, 5, 6, 96, 21, 4, 79, 42, 180, 0, 33]
abbrev dktX9_log_2 : List UInt8 := dkwX9_log_2 ++ dktX9_log_3
def dkwX9_log_1 : List UInt8 := [96, 54, 5, 42, 180, 0, 33, 21, 5, 27, 79, 42, 180, 0, 33, 21, 5, 4, 96, 28, 79, 42]
abbrev dktX9_log_1 : List UInt8 := dkwX9_log_1 ++ dktX9_log_2
def dkwX9_log_0 : List UInt8 := [42, 180, 0, 33, 5, 46, 16, 60, 160, 0, 5, 2, 172, 17, 0, 180, 7, 42, 180, 0, 33, 5, 46, 104]
abbrev dktX9_log_0 : List UInt8 := dkwX9_log_0 ++ dktX9_log_1
theorem dksX9_log_0 : cX9_log.data.toList.drop 0 = dktX9_log_0 := by decide +kernel
theorem dksX9_log_1 : cX9_log.data.toList.drop 24 = dktX9_log_1 := dk_seg dksX9_log_0 24 rfl rfl
theorem dksX9_log_2 : cX9_log.data.toList.drop 46 = dktX9_log_2 := dk_seg dksX9_log_1 22 rfl rfl
theorem dksX9_log_3 : cX9_log.data.toList.drop 70 = dktX9_log_3 := dk_seg dksX9_log_2 24 rfl rfl
theorem dX9_log_0 : decode cX9_log 0 = .ok (.aload_n 0, 1) := dk_42 (dk_at dksX9_log_0 0 rfl rfl)
theorem dX9_log_1 : decode cX9_log 1 = .ok (.getfield 33, 3) := dk_180 0 33 (dk_at dksX9_log_0 1 rfl rfl)
theorem dX9_log_4 : decode cX9_log 4 = .ok (.iconst 2, 1) := dk_5 (dk_at dksX9_log_0 4 rfl rfl)
theorem dX9_log_5 : decode cX9_log 5 = .ok (.iaload, 1) := dk_46 (dk_at dksX9_log_0 5 rfl rfl)
theorem dX9_log_6 : decode cX9_log 6 = .ok (.bipush 60, 2) := dk_16 60 (dk_at dksX9_log_0 6 rfl rfl)
theorem dX9_log_8 : decode cX9_log 8 = .ok (.if_icmp .ne 5, 3) := dk_160 0 5 (dk_at dksX9_log_0 8 rfl rfl)
theorem dX9_log_11 : decode cX9_log 11 = .ok (.iconst (-1), 1) := dk_2 (dk_at dksX9_log_0 11 rfl rfl)
theorem dX9_log_12 : decode cX9_log 12 = .ok (.ireturn, 1) := dk_172 (dk_at dksX9_log_0 12 rfl rfl)
theorem dX9_log_13 : decode cX9_log 13 = .ok (.sipush 180, 3) := dk_17 0 180 (dk_at dksX9_log_0 13 rfl rfl)
theorem dX9_log_16 : decode cX9_log 16 = .ok (.iconst 4, 1) := dk_7 (dk_at dksX9_log_0 16 rfl rfl)
theorem dX9_log_17 : decode cX9_log 17 = .ok (.aload_n 0, 1) := dk_42 (dk_at dksX9_log_0 17 rfl rfl)
theorem dX9_log_18 : decode cX9_log 18 = .ok (.getfield 33, 3) := dk_180 0 33 (dk_at dksX9_log_0 18 rfl rfl)
theorem dX9_log_21 : decode cX9_log 21 = .ok (.iconst 2, 1) := dk_5 (dk_at dksX9_log_0 21 rfl rfl)
theorem dX9_log_22 : decode cX9_log 22 = .ok (.iaload, 1) := dk_46 (dk_at dksX9_log_0 22 rfl rfl)
theorem dX9_log_23 : decode cX9_log 23 = .ok (.imul, 1) := dk_104 (dk_at dksX9_log_0 23 rfl rfl)
theorem dX9_log_24 : decode cX9_log 24 = .ok (.iadd, 1) := dk_96 (dk_at dksX9_log_1 0 rfl rfl)
theorem dX9_log_25 : decode cX9_log 25 = .ok (.istore 5, 2) := dk_54 5 (dk_at dksX9_log_1 1 rfl rfl)
theorem dX9_log_27 : decode cX9_log 27 = .ok (.aload_n 0, 1) := dk_42 (dk_at dksX9_log_1 3 rfl rfl)
theorem dX9_log_28 : decode cX9_log 28 = .ok (.getfield 33, 3) := dk_180 0 33 (dk_at dksX9_log_1 4 rfl rfl)
theorem dX9_log_31 : decode cX9_log 31 = .ok (.iload 5, 2) := dk_21 5 (dk_at dksX9_log_1 7 rfl rfl)
theorem dX9_log_33 : decode cX9_log 33 = .ok (.iload_n 1, 1) := dk_27 (dk_at dksX9_log_1 9 rfl rfl)
theorem dX9_log_34 : decode cX9_log 34 = .ok (.iastore, 1) := dk_79 (dk_at dksX9_log_1 10 rfl rfl)
theorem dX9_log_35 : decode cX9_log 35 = .ok (.aload_n 0, 1) := dk_42 (dk_at dksX9_log_1 11 rfl rfl)
theorem dX9_log_36 : decode cX9_log 36 = .ok (.getfield 33, 3) := dk_180 0 33 (dk_at dksX9_log_1 12 rfl rfl)
theorem dX9_log_39 : decode cX9_log 39 = .ok (.iload 5, 2) := dk_21 5 (dk_at dksX9_log_1 15 rfl rfl)
theorem dX9_log_41 : decode cX9_log 41 = .ok (.iconst 1, 1) := dk_4 (dk_at dksX9_log_1 17 rfl rfl)
theorem dX9_log_42 : decode cX9_log 42 = .ok (.iadd, 1) := dk_96 (dk_at dksX9_log_1 18 rfl rfl)
theorem dX9_log_43 : decode cX9_log 43 = .ok (.iload_n 2, 1) := dk_28 (dk_at dksX9_log_1 19 rfl rfl)
theorem dX9_log_44 : decode cX9_log 44 = .ok (.iastore, 1) := dk_79 (dk_at dksX9_log_1 20 rfl rfl)
theorem dX9_log_45 : decode cX9_log 45 = .ok (.aload_n 0, 1) := dk_42 (dk_at dksX9_log_1 21 rfl rfl)
theorem dX9_log_46 : decode cX9_log 46 = .ok (.getfield 33, 3) := dk_180 0 33 (dk_at dksX9_log_2 0 rfl rfl)
theorem dX9_log_49 : decode cX9_log 49 = .ok (.iload 5, 2) := dk_21 5 (dk_at dksX9_log_2 3 rfl rfl)
theorem dX9_log_51 : decode cX9_log 51 = .ok (.iconst 2, 1) := dk_5 (dk_at dksX9_log_2 5 rfl rfl)
theorem dX9_log_52 : decode cX9_log 52 = .ok (.iadd, 1) := dk_96 (dk_at dksX9_log_2 6 rfl rfl)
theorem dX9_log_53 : decode cX9_log 53 = .ok (.iload_n 3, 1) := dk_29 (dk_at dksX9_log_2 7 rfl rfl)
theorem dX9_log_54 : decode cX9_log 54 = .ok (.iastore, 1) := dk_79 (dk_at dksX9_log_2 8 rfl rfl)
theorem dX9_log_55 : decode cX9_log 55 = .ok (.aload_n 0, 1) := dk_42 (dk_at dksX9_log_2 9 rfl rfl)
theorem dX9_log_56 : decode cX9_log 56 = .ok (.getfield 33, 3) := dk_180 0 33 (dk_at dksX9_log_2 10 rfl rfl)
theorem dX9_log_59 : decode cX9_log 59 = .ok (.iload 5, 2) := dk_21 5 (dk_at dksX9_log_2 13 rfl rfl)
theorem dX9_log_61 : decode cX9_log 61 = .ok (.iconst 3, 1) := dk_6 (dk_at dksX9_log_2 15 rfl rfl)
theorem dX9_log_62 : decode cX9_log 62 = .ok (.iadd, 1) := dk_96 (dk_at dksX9_log_2 16 rfl rfl)
theorem dX9_log_63 : decode cX9_log 63 = .ok (.iload 4, 2) := dk_21 4 (dk_at dksX9_log_2 17 rfl rfl)
theorem dX9_log_65 : decode cX9_log 65 = .ok (.iastore, 1) := dk_79 (dk_at dksX9_log_2 19 rfl rfl)
theorem dX9_log_66 : decode cX9_log 66 = .ok (.aload_n 0, 1) := dk_42 (dk_at dksX9_log_2 20 rfl rfl)
theorem dX9_log_67 : decode cX9_log 67 = .ok (.getfield 33, 3) := dk_180 0 33 (dk_at dksX9_log_2 21 rfl rfl)
theorem dX9_log_70 : decode cX9_log 70 = .ok (.iconst 2, 1) := dk_5 (dk_at dksX9_log_3 0 rfl rfl)
theorem dX9_log_71 : decode cX9_log 71 = .ok (.dup2, 1) := dk_92 (dk_at dksX9_log_3 1 rfl rfl)
theorem dX9_log_72 : decode cX9_log 72 = .ok (.iaload, 1) := dk_46 (dk_at dksX9_log_3 2 rfl rfl)
theorem dX9_log_73 : decode cX9_log 73 = .ok (.iconst 1, 1) := dk_4 (dk_at dksX9_log_3 3 rfl rfl)
theorem dX9_log_74 : decode cX9_log 74 = .ok (.iadd, 1) := dk_96 (dk_at dksX9_log_3 4 rfl rfl)
theorem dX9_log_75 : decode cX9_log 75 = .ok (.iastore, 1) := dk_79 (dk_at dksX9_log_3 5 rfl rfl)
theorem dX9_log_76 : decode cX9_log 76 = .ok (.aload_n 0, 1) := dk_42 (dk_at dksX9_log_3 6 rfl rfl)
theorem dX9_log_77 : decode cX9_log 77 = .ok (.getfield 33, 3) := dk_180 0 33 (dk_at dksX9_log_3 7 rfl rfl)
theorem dX9_log_80 : decode cX9_log 80 = .ok (.iconst 2, 1) := dk_5 (dk_at dksX9_log_3 10 rfl rfl)
theorem dX9_log_81 : decode cX9_log 81 = .ok (.iaload, 1) := dk_46 (dk_at dksX9_log_3 11 rfl rfl)
theorem dX9_log_82 : decode cX9_log 82 = .ok (.iconst 1, 1) := dk_4 (dk_at dksX9_log_3 12 rfl rfl)
theorem dX9_log_83 : decode cX9_log 83 = .ok (.isub, 1) := dk_100 (dk_at dksX9_log_3 13 rfl rfl)
theorem dX9_log_84 : decode cX9_log 84 = .ok (.ireturn, 1) := dk_172 (dk_at dksX9_log_3 14 rfl rfl)
abbrev cX9_mark : ByteArray := prog_23_method_126_code
def yX9_mark : MethodName := ⟨RX9, "mark", "(III)I"⟩
def dkwX9_mark_1 : List UInt8 := [184, 1, 136, 153, 0, 14, 42, 4, 27, 28, 29, 182, 2, 2, 167, 0, 4, 2, 172]
abbrev dktX9_mark_1 : List UInt8 := dkwX9_mark_1 ++ []
def dkwX9_mark_0 : List UInt8 := [42, 27, 182, 1, 121, 153, 0, 34, 28, 3, 16, 99, 184, 1, 136, 153, 0, 24, 29, 3, 16, 99]
abbrev dktX9_mark_0 : List UInt8 := dkwX9_mark_0 ++ dktX9_mark_1
theorem dksX9_mark_0 : cX9_mark.data.toList.drop 0 = dktX9_mark_0 := by decide +kernel
theorem dksX9_mark_1 : cX9_mark.data.toList.drop 22 = dktX9_mark_1 := dk_seg dksX9_mark_0 22 rfl rfl
theorem dX9_mark_0 : decode cX9_mark 0 = .ok (.aload_n 0, 1) := dk_42 (dk_at dksX9_mark_0 0 rfl rfl)
theorem dX9_mark_1 : decode cX9_mark 1 = .ok (.iload_n 1, 1) := dk_27 (dk_at dksX9_mark_0 1 rfl rfl)
theorem dX9_mark_2 : decode cX9_mark 2 = .ok (.invokevirtual 377, 3) := dk_182 1 121 (dk_at dksX9_mark_0 2 rfl rfl)
theorem dX9_mark_5 : decode cX9_mark 5 = .ok (.ifCond .eq 34, 3) := dk_153 0 34 (dk_at dksX9_mark_0 5 rfl rfl)
theorem dX9_mark_8 : decode cX9_mark 8 = .ok (.iload_n 2, 1) := dk_28 (dk_at dksX9_mark_0 8 rfl rfl)
theorem dX9_mark_9 : decode cX9_mark 9 = .ok (.iconst 0, 1) := dk_3 (dk_at dksX9_mark_0 9 rfl rfl)
theorem dX9_mark_10 : decode cX9_mark 10 = .ok (.bipush 99, 2) := dk_16 99 (dk_at dksX9_mark_0 10 rfl rfl)
theorem dX9_mark_12 : decode cX9_mark 12 = .ok (.invokestatic 392, 3) := dk_184 1 136 (dk_at dksX9_mark_0 12 rfl rfl)
theorem dX9_mark_15 : decode cX9_mark 15 = .ok (.ifCond .eq 24, 3) := dk_153 0 24 (dk_at dksX9_mark_0 15 rfl rfl)
theorem dX9_mark_18 : decode cX9_mark 18 = .ok (.iload_n 3, 1) := dk_29 (dk_at dksX9_mark_0 18 rfl rfl)
theorem dX9_mark_19 : decode cX9_mark 19 = .ok (.iconst 0, 1) := dk_3 (dk_at dksX9_mark_0 19 rfl rfl)
theorem dX9_mark_20 : decode cX9_mark 20 = .ok (.bipush 99, 2) := dk_16 99 (dk_at dksX9_mark_0 20 rfl rfl)
theorem dX9_mark_22 : decode cX9_mark 22 = .ok (.invokestatic 392, 3) := dk_184 1 136 (dk_at dksX9_mark_1 0 rfl rfl)
theorem dX9_mark_25 : decode cX9_mark 25 = .ok (.ifCond .eq 14, 3) := dk_153 0 14 (dk_at dksX9_mark_1 3 rfl rfl)
theorem dX9_mark_28 : decode cX9_mark 28 = .ok (.aload_n 0, 1) := dk_42 (dk_at dksX9_mark_1 6 rfl rfl)
theorem dX9_mark_29 : decode cX9_mark 29 = .ok (.iconst 1, 1) := dk_4 (dk_at dksX9_mark_1 7 rfl rfl)
theorem dX9_mark_30 : decode cX9_mark 30 = .ok (.iload_n 1, 1) := dk_27 (dk_at dksX9_mark_1 8 rfl rfl)
theorem dX9_mark_31 : decode cX9_mark 31 = .ok (.iload_n 2, 1) := dk_28 (dk_at dksX9_mark_1 9 rfl rfl)
theorem dX9_mark_32 : decode cX9_mark 32 = .ok (.iload_n 3, 1) := dk_29 (dk_at dksX9_mark_1 10 rfl rfl)
theorem dX9_mark_33 : decode cX9_mark 33 = .ok (.invokevirtual 514, 3) := dk_182 2 2 (dk_at dksX9_mark_1 11 rfl rfl)
theorem dX9_mark_36 : decode cX9_mark 36 = .ok (.goto 4, 3) := dk_167 0 4 (dk_at dksX9_mark_1 14 rfl rfl)
theorem dX9_mark_39 : decode cX9_mark 39 = .ok (.iconst (-1), 1) := dk_2 (dk_at dksX9_mark_1 17 rfl rfl)
theorem dX9_mark_40 : decode cX9_mark 40 = .ok (.ireturn, 1) := dk_172 (dk_at dksX9_mark_1 18 rfl rfl)
abbrev cX9_annul : ByteArray := prog_23_method_127_code
def yX9_annul : MethodName := ⟨RX9, "annul", "(I)I"⟩
def dkwX9_annul_1 : List UInt8 := [27, 104, 96, 46, 5, 159, 0, 14, 42, 5, 27, 3, 3, 182, 2, 2, 167, 0, 4, 2, 172]
abbrev dktX9_annul_1 : List UInt8 := dkwX9_annul_1 ++ []
def dkwX9_annul_0 : List UInt8 := [27, 3, 42, 180, 0, 33, 5, 46, 4, 100, 184, 1, 136, 153, 0, 30, 42, 180, 0, 33, 17, 0, 180, 7]
abbrev dktX9_annul_0 : List UInt8 := dkwX9_annul_0 ++ dktX9_annul_1
theorem dksX9_annul_0 : cX9_annul.data.toList.drop 0 = dktX9_annul_0 := by decide +kernel
theorem dksX9_annul_1 : cX9_annul.data.toList.drop 24 = dktX9_annul_1 := dk_seg dksX9_annul_0 24 rfl rfl
theorem dX9_annul_0 : decode cX9_annul 0 = .ok (.iload_n 1, 1) := dk_27 (dk_at dksX9_annul_0 0 rfl rfl)
theorem dX9_annul_1 : decode cX9_annul 1 = .ok (.iconst 0, 1) := dk_3 (dk_at dksX9_annul_0 1 rfl rfl)
theorem dX9_annul_2 : decode cX9_annul 2 = .ok (.aload_n 0, 1) := dk_42 (dk_at dksX9_annul_0 2 rfl rfl)
theorem dX9_annul_3 : decode cX9_annul 3 = .ok (.getfield 33, 3) := dk_180 0 33 (dk_at dksX9_annul_0 3 rfl rfl)
theorem dX9_annul_6 : decode cX9_annul 6 = .ok (.iconst 2, 1) := dk_5 (dk_at dksX9_annul_0 6 rfl rfl)
theorem dX9_annul_7 : decode cX9_annul 7 = .ok (.iaload, 1) := dk_46 (dk_at dksX9_annul_0 7 rfl rfl)
theorem dX9_annul_8 : decode cX9_annul 8 = .ok (.iconst 1, 1) := dk_4 (dk_at dksX9_annul_0 8 rfl rfl)
theorem dX9_annul_9 : decode cX9_annul 9 = .ok (.isub, 1) := dk_100 (dk_at dksX9_annul_0 9 rfl rfl)
theorem dX9_annul_10 : decode cX9_annul 10 = .ok (.invokestatic 392, 3) := dk_184 1 136 (dk_at dksX9_annul_0 10 rfl rfl)
theorem dX9_annul_13 : decode cX9_annul 13 = .ok (.ifCond .eq 30, 3) := dk_153 0 30 (dk_at dksX9_annul_0 13 rfl rfl)
theorem dX9_annul_16 : decode cX9_annul 16 = .ok (.aload_n 0, 1) := dk_42 (dk_at dksX9_annul_0 16 rfl rfl)
theorem dX9_annul_17 : decode cX9_annul 17 = .ok (.getfield 33, 3) := dk_180 0 33 (dk_at dksX9_annul_0 17 rfl rfl)
theorem dX9_annul_20 : decode cX9_annul 20 = .ok (.sipush 180, 3) := dk_17 0 180 (dk_at dksX9_annul_0 20 rfl rfl)
theorem dX9_annul_23 : decode cX9_annul 23 = .ok (.iconst 4, 1) := dk_7 (dk_at dksX9_annul_0 23 rfl rfl)
theorem dX9_annul_24 : decode cX9_annul 24 = .ok (.iload_n 1, 1) := dk_27 (dk_at dksX9_annul_1 0 rfl rfl)
theorem dX9_annul_25 : decode cX9_annul 25 = .ok (.imul, 1) := dk_104 (dk_at dksX9_annul_1 1 rfl rfl)
theorem dX9_annul_26 : decode cX9_annul 26 = .ok (.iadd, 1) := dk_96 (dk_at dksX9_annul_1 2 rfl rfl)
theorem dX9_annul_27 : decode cX9_annul 27 = .ok (.iaload, 1) := dk_46 (dk_at dksX9_annul_1 3 rfl rfl)
theorem dX9_annul_28 : decode cX9_annul 28 = .ok (.iconst 2, 1) := dk_5 (dk_at dksX9_annul_1 4 rfl rfl)
theorem dX9_annul_29 : decode cX9_annul 29 = .ok (.if_icmp .eq 14, 3) := dk_159 0 14 (dk_at dksX9_annul_1 5 rfl rfl)
theorem dX9_annul_32 : decode cX9_annul 32 = .ok (.aload_n 0, 1) := dk_42 (dk_at dksX9_annul_1 8 rfl rfl)
theorem dX9_annul_33 : decode cX9_annul 33 = .ok (.iconst 2, 1) := dk_5 (dk_at dksX9_annul_1 9 rfl rfl)
theorem dX9_annul_34 : decode cX9_annul 34 = .ok (.iload_n 1, 1) := dk_27 (dk_at dksX9_annul_1 10 rfl rfl)
theorem dX9_annul_35 : decode cX9_annul 35 = .ok (.iconst 0, 1) := dk_3 (dk_at dksX9_annul_1 11 rfl rfl)
theorem dX9_annul_36 : decode cX9_annul 36 = .ok (.iconst 0, 1) := dk_3 (dk_at dksX9_annul_1 12 rfl rfl)
theorem dX9_annul_37 : decode cX9_annul 37 = .ok (.invokevirtual 514, 3) := dk_182 2 2 (dk_at dksX9_annul_1 13 rfl rfl)
theorem dX9_annul_40 : decode cX9_annul 40 = .ok (.goto 4, 3) := dk_167 0 4 (dk_at dksX9_annul_1 16 rfl rfl)
theorem dX9_annul_43 : decode cX9_annul 43 = .ok (.iconst (-1), 1) := dk_2 (dk_at dksX9_annul_1 19 rfl rfl)
theorem dX9_annul_44 : decode cX9_annul 44 = .ok (.ireturn, 1) := dk_172 (dk_at dksX9_annul_1 20 rfl rfl)
abbrev cX9_votes : ByteArray := prog_23_method_132_code
def yX9_votes : MethodName := ⟨RX9, "votes", "(III)I"⟩
def dkwX9_votes_1 : List UInt8 := [42, 27, 28, 29, 182, 2, 14, 167, 0, 4, 2, 172]
abbrev dktX9_votes_1 : List UInt8 := dkwX9_votes_1 ++ []
def dkwX9_votes_0 : List UInt8 := [42, 27, 182, 1, 133, 153, 0, 29, 42, 28, 182, 1, 121, 153, 0, 21, 42, 29, 182, 2, 11, 153, 0, 13]
abbrev dktX9_votes_0 : List UInt8 := dkwX9_votes_0 ++ dktX9_votes_1
theorem dksX9_votes_0 : cX9_votes.data.toList.drop 0 = dktX9_votes_0 := by decide +kernel
theorem dksX9_votes_1 : cX9_votes.data.toList.drop 24 = dktX9_votes_1 := dk_seg dksX9_votes_0 24 rfl rfl
theorem dX9_votes_0 : decode cX9_votes 0 = .ok (.aload_n 0, 1) := dk_42 (dk_at dksX9_votes_0 0 rfl rfl)
theorem dX9_votes_1 : decode cX9_votes 1 = .ok (.iload_n 1, 1) := dk_27 (dk_at dksX9_votes_0 1 rfl rfl)
theorem dX9_votes_2 : decode cX9_votes 2 = .ok (.invokevirtual 389, 3) := dk_182 1 133 (dk_at dksX9_votes_0 2 rfl rfl)
theorem dX9_votes_5 : decode cX9_votes 5 = .ok (.ifCond .eq 29, 3) := dk_153 0 29 (dk_at dksX9_votes_0 5 rfl rfl)
theorem dX9_votes_8 : decode cX9_votes 8 = .ok (.aload_n 0, 1) := dk_42 (dk_at dksX9_votes_0 8 rfl rfl)
theorem dX9_votes_9 : decode cX9_votes 9 = .ok (.iload_n 2, 1) := dk_28 (dk_at dksX9_votes_0 9 rfl rfl)
theorem dX9_votes_10 : decode cX9_votes 10 = .ok (.invokevirtual 377, 3) := dk_182 1 121 (dk_at dksX9_votes_0 10 rfl rfl)
theorem dX9_votes_13 : decode cX9_votes 13 = .ok (.ifCond .eq 21, 3) := dk_153 0 21 (dk_at dksX9_votes_0 13 rfl rfl)
theorem dX9_votes_16 : decode cX9_votes 16 = .ok (.aload_n 0, 1) := dk_42 (dk_at dksX9_votes_0 16 rfl rfl)
theorem dX9_votes_17 : decode cX9_votes 17 = .ok (.iload_n 3, 1) := dk_29 (dk_at dksX9_votes_0 17 rfl rfl)
theorem dX9_votes_18 : decode cX9_votes 18 = .ok (.invokevirtual 523, 3) := dk_182 2 11 (dk_at dksX9_votes_0 18 rfl rfl)
theorem dX9_votes_21 : decode cX9_votes 21 = .ok (.ifCond .eq 13, 3) := dk_153 0 13 (dk_at dksX9_votes_0 21 rfl rfl)
theorem dX9_votes_24 : decode cX9_votes 24 = .ok (.aload_n 0, 1) := dk_42 (dk_at dksX9_votes_1 0 rfl rfl)
theorem dX9_votes_25 : decode cX9_votes 25 = .ok (.iload_n 1, 1) := dk_27 (dk_at dksX9_votes_1 1 rfl rfl)
theorem dX9_votes_26 : decode cX9_votes 26 = .ok (.iload_n 2, 1) := dk_28 (dk_at dksX9_votes_1 2 rfl rfl)
theorem dX9_votes_27 : decode cX9_votes 27 = .ok (.iload_n 3, 1) := dk_29 (dk_at dksX9_votes_1 3 rfl rfl)
theorem dX9_votes_28 : decode cX9_votes 28 = .ok (.invokevirtual 526, 3) := dk_182 2 14 (dk_at dksX9_votes_1 4 rfl rfl)
theorem dX9_votes_31 : decode cX9_votes 31 = .ok (.goto 4, 3) := dk_167 0 4 (dk_at dksX9_votes_1 7 rfl rfl)
theorem dX9_votes_34 : decode cX9_votes 34 = .ok (.iconst (-1), 1) := dk_2 (dk_at dksX9_votes_1 10 rfl rfl)
theorem dX9_votes_35 : decode cX9_votes 35 = .ok (.ireturn, 1) := dk_172 (dk_at dksX9_votes_1 11 rfl rfl)
abbrev cX9_isKnown : ByteArray := prog_23_method_128_code
def yX9_isKnown : MethodName := ⟨RX9, "isKnown", "(I)Z"⟩
def dkwX9_isKnown_0 : List UInt8 := [27, 155, 0, 17, 27, 42, 180, 0, 33, 5, 46, 163, 0, 7, 4, 167, 0, 4, 3, 172]
abbrev dktX9_isKnown_0 : List UInt8 := dkwX9_isKnown_0 ++ []
theorem dksX9_isKnown_0 : cX9_isKnown.data.toList.drop 0 = dktX9_isKnown_0 := by decide +kernel
theorem dX9_isKnown_0 : decode cX9_isKnown 0 = .ok (.iload_n 1, 1) := dk_27 (dk_at dksX9_isKnown_0 0 rfl rfl)
theorem dX9_isKnown_1 : decode cX9_isKnown 1 = .ok (.ifCond .lt 17, 3) := dk_155 0 17 (dk_at dksX9_isKnown_0 1 rfl rfl)
theorem dX9_isKnown_4 : decode cX9_isKnown 4 = .ok (.iload_n 1, 1) := dk_27 (dk_at dksX9_isKnown_0 4 rfl rfl)
theorem dX9_isKnown_5 : decode cX9_isKnown 5 = .ok (.aload_n 0, 1) := dk_42 (dk_at dksX9_isKnown_0 5 rfl rfl)
theorem dX9_isKnown_6 : decode cX9_isKnown 6 = .ok (.getfield 33, 3) := dk_180 0 33 (dk_at dksX9_isKnown_0 6 rfl rfl)
theorem dX9_isKnown_9 : decode cX9_isKnown 9 = .ok (.iconst 2, 1) := dk_5 (dk_at dksX9_isKnown_0 9 rfl rfl)
theorem dX9_isKnown_10 : decode cX9_isKnown 10 = .ok (.iaload, 1) := dk_46 (dk_at dksX9_isKnown_0 10 rfl rfl)
theorem dX9_isKnown_11 : decode cX9_isKnown 11 = .ok (.if_icmp .gt 7, 3) := dk_163 0 7 (dk_at dksX9_isKnown_0 11 rfl rfl)
theorem dX9_isKnown_14 : decode cX9_isKnown 14 = .ok (.iconst 1, 1) := dk_4 (dk_at dksX9_isKnown_0 14 rfl rfl)
theorem dX9_isKnown_15 : decode cX9_isKnown 15 = .ok (.goto 4, 3) := dk_167 0 4 (dk_at dksX9_isKnown_0 15 rfl rfl)
theorem dX9_isKnown_18 : decode cX9_isKnown 18 = .ok (.iconst 0, 1) := dk_3 (dk_at dksX9_isKnown_0 18 rfl rfl)
theorem dX9_isKnown_19 : decode cX9_isKnown 19 = .ok (.ireturn, 1) := dk_172 (dk_at dksX9_isKnown_0 19 rfl rfl)
abbrev cX9_votesOf : ByteArray := prog_23_method_131_code
def yX9_votesOf : MethodName := ⟨RX9, "votesOf", "(III)I"⟩
def dkwX9_votesOf_1 : List UInt8 := [182, 2, 8, 28, 160, 0, 7, 4, 167, 0, 4, 3, 96, 54, 4, 132, 5, 1, 167, 255, 220, 21, 4, 172]
abbrev dktX9_votesOf_1 : List UInt8 := dkwX9_votesOf_1 ++ []
def dkwX9_votesOf_0 : List UInt8 := [3, 54, 4, 3, 54, 5, 21, 5, 42, 180, 0, 30, 3, 46, 162, 0, 31, 21, 4, 42, 21, 5, 27, 29]
abbrev dktX9_votesOf_0 : List UInt8 := dkwX9_votesOf_0 ++ dktX9_votesOf_1
theorem dksX9_votesOf_0 : cX9_votesOf.data.toList.drop 0 = dktX9_votesOf_0 := by decide +kernel
theorem dksX9_votesOf_1 : cX9_votesOf.data.toList.drop 24 = dktX9_votesOf_1 := dk_seg dksX9_votesOf_0 24 rfl rfl
theorem dX9_votesOf_0 : decode cX9_votesOf 0 = .ok (.iconst 0, 1) := dk_3 (dk_at dksX9_votesOf_0 0 rfl rfl)
theorem dX9_votesOf_1 : decode cX9_votesOf 1 = .ok (.istore 4, 2) := dk_54 4 (dk_at dksX9_votesOf_0 1 rfl rfl)
theorem dX9_votesOf_3 : decode cX9_votesOf 3 = .ok (.iconst 0, 1) := dk_3 (dk_at dksX9_votesOf_0 3 rfl rfl)
theorem dX9_votesOf_4 : decode cX9_votesOf 4 = .ok (.istore 5, 2) := dk_54 5 (dk_at dksX9_votesOf_0 4 rfl rfl)
theorem dX9_votesOf_6 : decode cX9_votesOf 6 = .ok (.iload 5, 2) := dk_21 5 (dk_at dksX9_votesOf_0 6 rfl rfl)
theorem dX9_votesOf_8 : decode cX9_votesOf 8 = .ok (.aload_n 0, 1) := dk_42 (dk_at dksX9_votesOf_0 8 rfl rfl)
theorem dX9_votesOf_9 : decode cX9_votesOf 9 = .ok (.getfield 30, 3) := dk_180 0 30 (dk_at dksX9_votesOf_0 9 rfl rfl)
theorem dX9_votesOf_12 : decode cX9_votesOf 12 = .ok (.iconst 0, 1) := dk_3 (dk_at dksX9_votesOf_0 12 rfl rfl)
theorem dX9_votesOf_13 : decode cX9_votesOf 13 = .ok (.iaload, 1) := dk_46 (dk_at dksX9_votesOf_0 13 rfl rfl)
theorem dX9_votesOf_14 : decode cX9_votesOf 14 = .ok (.if_icmp .ge 31, 3) := dk_162 0 31 (dk_at dksX9_votesOf_0 14 rfl rfl)
theorem dX9_votesOf_17 : decode cX9_votesOf 17 = .ok (.iload 4, 2) := dk_21 4 (dk_at dksX9_votesOf_0 17 rfl rfl)
theorem dX9_votesOf_19 : decode cX9_votesOf 19 = .ok (.aload_n 0, 1) := dk_42 (dk_at dksX9_votesOf_0 19 rfl rfl)
theorem dX9_votesOf_20 : decode cX9_votesOf 20 = .ok (.iload 5, 2) := dk_21 5 (dk_at dksX9_votesOf_0 20 rfl rfl)
theorem dX9_votesOf_22 : decode cX9_votesOf 22 = .ok (.iload_n 1, 1) := dk_27 (dk_at dksX9_votesOf_0 22 rfl rfl)
theorem dX9_votesOf_23 : decode cX9_votesOf 23 = .ok (.iload_n 3, 1) := dk_29 (dk_at dksX9_votesOf_0 23 rfl rfl)
theorem dX9_votesOf_24 : decode cX9_votesOf 24 = .ok (.invokevirtual 520, 3) := dk_182 2 8 (dk_at dksX9_votesOf_1 0 rfl rfl)
theorem dX9_votesOf_27 : decode cX9_votesOf 27 = .ok (.iload_n 2, 1) := dk_28 (dk_at dksX9_votesOf_1 3 rfl rfl)
theorem dX9_votesOf_28 : decode cX9_votesOf 28 = .ok (.if_icmp .ne 7, 3) := dk_160 0 7 (dk_at dksX9_votesOf_1 4 rfl rfl)
theorem dX9_votesOf_31 : decode cX9_votesOf 31 = .ok (.iconst 1, 1) := dk_4 (dk_at dksX9_votesOf_1 7 rfl rfl)
theorem dX9_votesOf_32 : decode cX9_votesOf 32 = .ok (.goto 4, 3) := dk_167 0 4 (dk_at dksX9_votesOf_1 8 rfl rfl)
theorem dX9_votesOf_35 : decode cX9_votesOf 35 = .ok (.iconst 0, 1) := dk_3 (dk_at dksX9_votesOf_1 11 rfl rfl)
theorem dX9_votesOf_36 : decode cX9_votesOf 36 = .ok (.iadd, 1) := dk_96 (dk_at dksX9_votesOf_1 12 rfl rfl)
theorem dX9_votesOf_37 : decode cX9_votesOf 37 = .ok (.istore 4, 2) := dk_54 4 (dk_at dksX9_votesOf_1 13 rfl rfl)
theorem dX9_votesOf_39 : decode cX9_votesOf 39 = .ok (.iinc 5 1, 3) := dk_132 5 1 (dk_at dksX9_votesOf_1 15 rfl rfl)
theorem dX9_votesOf_42 : decode cX9_votesOf 42 = .ok (.goto (-36), 3) := dk_167 255 220 (dk_at dksX9_votesOf_1 18 rfl rfl)
theorem dX9_votesOf_45 : decode cX9_votesOf 45 = .ok (.iload 4, 2) := dk_21 4 (dk_at dksX9_votesOf_1 21 rfl rfl)
theorem dX9_votesOf_47 : decode cX9_votesOf 47 = .ok (.ireturn, 1) := dk_172 (dk_at dksX9_votesOf_1 23 rfl rfl)
abbrev cX9_voteOf : ByteArray := prog_23_method_130_code
def yX9_voteOf : MethodName := ⟨RX9, "voteOf", "(III)I"⟩
def dkwX9_voteOf_3 : List UInt8 := [21, 5, 6, 96, 46, 172, 132, 4, 255, 167, 255, 182, 2, 172]
abbrev dktX9_voteOf_3 : List UInt8 := dkwX9_voteOf_3 ++ []
def dkwX9_voteOf_2 : List UInt8 := [21, 5, 5, 96, 46, 28, 160, 0, 23, 42, 21, 4, 29, 182, 2, 5, 153, 0, 13, 42, 180, 0, 33]
abbrev dktX9_voteOf_2 : List UInt8 := dkwX9_voteOf_2 ++ dktX9_voteOf_3
def dkwX9_voteOf_1 : List UInt8 := [21, 5, 46, 154, 0, 49, 42, 180, 0, 33, 21, 5, 4, 96, 46, 27, 160, 0, 36, 42, 180, 0, 33]
abbrev dktX9_voteOf_1 : List UInt8 := dkwX9_voteOf_1 ++ dktX9_voteOf_2
def dkwX9_voteOf_0 : List UInt8 := [29, 4, 100, 54, 4, 21, 4, 155, 0, 75, 17, 0, 180, 7, 21, 4, 104, 96, 54, 5, 42, 180, 0, 33]
abbrev dktX9_voteOf_0 : List UInt8 := dkwX9_voteOf_0 ++ dktX9_voteOf_1
theorem dksX9_voteOf_0 : cX9_voteOf.data.toList.drop 0 = dktX9_voteOf_0 := by decide +kernel
theorem dksX9_voteOf_1 : cX9_voteOf.data.toList.drop 24 = dktX9_voteOf_1 := dk_seg dksX9_voteOf_0 24 rfl rfl
theorem dksX9_voteOf_2 : cX9_voteOf.data.toList.drop 47 = dktX9_voteOf_2 := dk_seg dksX9_voteOf_1 23 rfl rfl
theorem dksX9_voteOf_3 : cX9_voteOf.data.toList.drop 70 = dktX9_voteOf_3 := dk_seg dksX9_voteOf_2 23 rfl rfl
theorem dX9_voteOf_0 : decode cX9_voteOf 0 = .ok (.iload_n 3, 1) := dk_29 (dk_at dksX9_voteOf_0 0 rfl rfl)
theorem dX9_voteOf_1 : decode cX9_voteOf 1 = .ok (.iconst 1, 1) := dk_4 (dk_at dksX9_voteOf_0 1 rfl rfl)
theorem dX9_voteOf_2 : decode cX9_voteOf 2 = .ok (.isub, 1) := dk_100 (dk_at dksX9_voteOf_0 2 rfl rfl)
theorem dX9_voteOf_3 : decode cX9_voteOf 3 = .ok (.istore 4, 2) := dk_54 4 (dk_at dksX9_voteOf_0 3 rfl rfl)
theorem dX9_voteOf_5 : decode cX9_voteOf 5 = .ok (.iload 4, 2) := dk_21 4 (dk_at dksX9_voteOf_0 5 rfl rfl)
theorem dX9_voteOf_7 : decode cX9_voteOf 7 = .ok (.ifCond .lt 75, 3) := dk_155 0 75 (dk_at dksX9_voteOf_0 7 rfl rfl)
theorem dX9_voteOf_10 : decode cX9_voteOf 10 = .ok (.sipush 180, 3) := dk_17 0 180 (dk_at dksX9_voteOf_0 10 rfl rfl)
theorem dX9_voteOf_13 : decode cX9_voteOf 13 = .ok (.iconst 4, 1) := dk_7 (dk_at dksX9_voteOf_0 13 rfl rfl)
theorem dX9_voteOf_14 : decode cX9_voteOf 14 = .ok (.iload 4, 2) := dk_21 4 (dk_at dksX9_voteOf_0 14 rfl rfl)
theorem dX9_voteOf_16 : decode cX9_voteOf 16 = .ok (.imul, 1) := dk_104 (dk_at dksX9_voteOf_0 16 rfl rfl)
theorem dX9_voteOf_17 : decode cX9_voteOf 17 = .ok (.iadd, 1) := dk_96 (dk_at dksX9_voteOf_0 17 rfl rfl)
theorem dX9_voteOf_18 : decode cX9_voteOf 18 = .ok (.istore 5, 2) := dk_54 5 (dk_at dksX9_voteOf_0 18 rfl rfl)
theorem dX9_voteOf_20 : decode cX9_voteOf 20 = .ok (.aload_n 0, 1) := dk_42 (dk_at dksX9_voteOf_0 20 rfl rfl)
theorem dX9_voteOf_21 : decode cX9_voteOf 21 = .ok (.getfield 33, 3) := dk_180 0 33 (dk_at dksX9_voteOf_0 21 rfl rfl)
theorem dX9_voteOf_24 : decode cX9_voteOf 24 = .ok (.iload 5, 2) := dk_21 5 (dk_at dksX9_voteOf_1 0 rfl rfl)
theorem dX9_voteOf_26 : decode cX9_voteOf 26 = .ok (.iaload, 1) := dk_46 (dk_at dksX9_voteOf_1 2 rfl rfl)
theorem dX9_voteOf_27 : decode cX9_voteOf 27 = .ok (.ifCond .ne 49, 3) := dk_154 0 49 (dk_at dksX9_voteOf_1 3 rfl rfl)
theorem dX9_voteOf_30 : decode cX9_voteOf 30 = .ok (.aload_n 0, 1) := dk_42 (dk_at dksX9_voteOf_1 6 rfl rfl)
theorem dX9_voteOf_31 : decode cX9_voteOf 31 = .ok (.getfield 33, 3) := dk_180 0 33 (dk_at dksX9_voteOf_1 7 rfl rfl)
theorem dX9_voteOf_34 : decode cX9_voteOf 34 = .ok (.iload 5, 2) := dk_21 5 (dk_at dksX9_voteOf_1 10 rfl rfl)
theorem dX9_voteOf_36 : decode cX9_voteOf 36 = .ok (.iconst 1, 1) := dk_4 (dk_at dksX9_voteOf_1 12 rfl rfl)
theorem dX9_voteOf_37 : decode cX9_voteOf 37 = .ok (.iadd, 1) := dk_96 (dk_at dksX9_voteOf_1 13 rfl rfl)
theorem dX9_voteOf_38 : decode cX9_voteOf 38 = .ok (.iaload, 1) := dk_46 (dk_at dksX9_voteOf_1 14 rfl rfl)
theorem dX9_voteOf_39 : decode cX9_voteOf 39 = .ok (.iload_n 1, 1) := dk_27 (dk_at dksX9_voteOf_1 15 rfl rfl)
theorem dX9_voteOf_40 : decode cX9_voteOf 40 = .ok (.if_icmp .ne 36, 3) := dk_160 0 36 (dk_at dksX9_voteOf_1 16 rfl rfl)
theorem dX9_voteOf_43 : decode cX9_voteOf 43 = .ok (.aload_n 0, 1) := dk_42 (dk_at dksX9_voteOf_1 19 rfl rfl)
theorem dX9_voteOf_44 : decode cX9_voteOf 44 = .ok (.getfield 33, 3) := dk_180 0 33 (dk_at dksX9_voteOf_1 20 rfl rfl)
theorem dX9_voteOf_47 : decode cX9_voteOf 47 = .ok (.iload 5, 2) := dk_21 5 (dk_at dksX9_voteOf_2 0 rfl rfl)
theorem dX9_voteOf_49 : decode cX9_voteOf 49 = .ok (.iconst 2, 1) := dk_5 (dk_at dksX9_voteOf_2 2 rfl rfl)
theorem dX9_voteOf_50 : decode cX9_voteOf 50 = .ok (.iadd, 1) := dk_96 (dk_at dksX9_voteOf_2 3 rfl rfl)
theorem dX9_voteOf_51 : decode cX9_voteOf 51 = .ok (.iaload, 1) := dk_46 (dk_at dksX9_voteOf_2 4 rfl rfl)
theorem dX9_voteOf_52 : decode cX9_voteOf 52 = .ok (.iload_n 2, 1) := dk_28 (dk_at dksX9_voteOf_2 5 rfl rfl)
theorem dX9_voteOf_53 : decode cX9_voteOf 53 = .ok (.if_icmp .ne 23, 3) := dk_160 0 23 (dk_at dksX9_voteOf_2 6 rfl rfl)
theorem dX9_voteOf_56 : decode cX9_voteOf 56 = .ok (.aload_n 0, 1) := dk_42 (dk_at dksX9_voteOf_2 9 rfl rfl)
theorem dX9_voteOf_57 : decode cX9_voteOf 57 = .ok (.iload 4, 2) := dk_21 4 (dk_at dksX9_voteOf_2 10 rfl rfl)
theorem dX9_voteOf_59 : decode cX9_voteOf 59 = .ok (.iload_n 3, 1) := dk_29 (dk_at dksX9_voteOf_2 12 rfl rfl)
theorem dX9_voteOf_60 : decode cX9_voteOf 60 = .ok (.invokevirtual 517, 3) := dk_182 2 5 (dk_at dksX9_voteOf_2 13 rfl rfl)
theorem dX9_voteOf_63 : decode cX9_voteOf 63 = .ok (.ifCond .eq 13, 3) := dk_153 0 13 (dk_at dksX9_voteOf_2 16 rfl rfl)
theorem dX9_voteOf_66 : decode cX9_voteOf 66 = .ok (.aload_n 0, 1) := dk_42 (dk_at dksX9_voteOf_2 19 rfl rfl)
theorem dX9_voteOf_67 : decode cX9_voteOf 67 = .ok (.getfield 33, 3) := dk_180 0 33 (dk_at dksX9_voteOf_2 20 rfl rfl)
theorem dX9_voteOf_70 : decode cX9_voteOf 70 = .ok (.iload 5, 2) := dk_21 5 (dk_at dksX9_voteOf_3 0 rfl rfl)
theorem dX9_voteOf_72 : decode cX9_voteOf 72 = .ok (.iconst 3, 1) := dk_6 (dk_at dksX9_voteOf_3 2 rfl rfl)
theorem dX9_voteOf_73 : decode cX9_voteOf 73 = .ok (.iadd, 1) := dk_96 (dk_at dksX9_voteOf_3 3 rfl rfl)
theorem dX9_voteOf_74 : decode cX9_voteOf 74 = .ok (.iaload, 1) := dk_46 (dk_at dksX9_voteOf_3 4 rfl rfl)
theorem dX9_voteOf_75 : decode cX9_voteOf 75 = .ok (.ireturn, 1) := dk_172 (dk_at dksX9_voteOf_3 5 rfl rfl)
theorem dX9_voteOf_76 : decode cX9_voteOf 76 = .ok (.iinc 4 (-1), 3) := dk_132 4 255 (dk_at dksX9_voteOf_3 6 rfl rfl)
theorem dX9_voteOf_79 : decode cX9_voteOf 79 = .ok (.goto (-74), 3) := dk_167 255 182 (dk_at dksX9_voteOf_3 9 rfl rfl)
theorem dX9_voteOf_82 : decode cX9_voteOf 82 = .ok (.iconst (-1), 1) := dk_2 (dk_at dksX9_voteOf_3 12 rfl rfl)
theorem dX9_voteOf_83 : decode cX9_voteOf 83 = .ok (.ireturn, 1) := dk_172 (dk_at dksX9_voteOf_3 13 rfl rfl)
abbrev cX9_isLive : ByteArray := prog_23_method_129_code
def yX9_isLive : MethodName := ⟨RX9, "isLive", "(II)Z"⟩
def dkwX9_isLive_2 : List UInt8 := [132, 3, 1, 167, 255, 212, 4, 172]
abbrev dktX9_isLive_2 : List UInt8 := dkwX9_isLive_2 ++ []
def dkwX9_isLive_1 : List UInt8 := [160, 0, 23, 42, 180, 0, 33, 17, 0, 180, 7, 29, 104, 96, 4, 96, 46, 27, 160, 0, 5, 3, 172]
abbrev dktX9_isLive_1 : List UInt8 := dkwX9_isLive_1 ++ dktX9_isLive_2
def dkwX9_isLive_0 : List UInt8 := [27, 4, 96, 62, 29, 28, 162, 0, 45, 42, 180, 0, 33, 17, 0, 180, 7, 29, 104, 96, 46, 5]
abbrev dktX9_isLive_0 : List UInt8 := dkwX9_isLive_0 ++ dktX9_isLive_1
theorem dksX9_isLive_0 : cX9_isLive.data.toList.drop 0 = dktX9_isLive_0 := by decide +kernel
theorem dksX9_isLive_1 : cX9_isLive.data.toList.drop 22 = dktX9_isLive_1 := dk_seg dksX9_isLive_0 22 rfl rfl
theorem dksX9_isLive_2 : cX9_isLive.data.toList.drop 45 = dktX9_isLive_2 := dk_seg dksX9_isLive_1 23 rfl rfl
theorem dX9_isLive_0 : decode cX9_isLive 0 = .ok (.iload_n 1, 1) := dk_27 (dk_at dksX9_isLive_0 0 rfl rfl)
theorem dX9_isLive_1 : decode cX9_isLive 1 = .ok (.iconst 1, 1) := dk_4 (dk_at dksX9_isLive_0 1 rfl rfl)
theorem dX9_isLive_2 : decode cX9_isLive 2 = .ok (.iadd, 1) := dk_96 (dk_at dksX9_isLive_0 2 rfl rfl)
theorem dX9_isLive_3 : decode cX9_isLive 3 = .ok (.istore_n 3, 1) := dk_62 (dk_at dksX9_isLive_0 3 rfl rfl)
theorem dX9_isLive_4 : decode cX9_isLive 4 = .ok (.iload_n 3, 1) := dk_29 (dk_at dksX9_isLive_0 4 rfl rfl)
theorem dX9_isLive_5 : decode cX9_isLive 5 = .ok (.iload_n 2, 1) := dk_28 (dk_at dksX9_isLive_0 5 rfl rfl)
theorem dX9_isLive_6 : decode cX9_isLive 6 = .ok (.if_icmp .ge 45, 3) := dk_162 0 45 (dk_at dksX9_isLive_0 6 rfl rfl)
theorem dX9_isLive_9 : decode cX9_isLive 9 = .ok (.aload_n 0, 1) := dk_42 (dk_at dksX9_isLive_0 9 rfl rfl)
theorem dX9_isLive_10 : decode cX9_isLive 10 = .ok (.getfield 33, 3) := dk_180 0 33 (dk_at dksX9_isLive_0 10 rfl rfl)
theorem dX9_isLive_13 : decode cX9_isLive 13 = .ok (.sipush 180, 3) := dk_17 0 180 (dk_at dksX9_isLive_0 13 rfl rfl)
theorem dX9_isLive_16 : decode cX9_isLive 16 = .ok (.iconst 4, 1) := dk_7 (dk_at dksX9_isLive_0 16 rfl rfl)
theorem dX9_isLive_17 : decode cX9_isLive 17 = .ok (.iload_n 3, 1) := dk_29 (dk_at dksX9_isLive_0 17 rfl rfl)
theorem dX9_isLive_18 : decode cX9_isLive 18 = .ok (.imul, 1) := dk_104 (dk_at dksX9_isLive_0 18 rfl rfl)
theorem dX9_isLive_19 : decode cX9_isLive 19 = .ok (.iadd, 1) := dk_96 (dk_at dksX9_isLive_0 19 rfl rfl)
theorem dX9_isLive_20 : decode cX9_isLive 20 = .ok (.iaload, 1) := dk_46 (dk_at dksX9_isLive_0 20 rfl rfl)
theorem dX9_isLive_21 : decode cX9_isLive 21 = .ok (.iconst 2, 1) := dk_5 (dk_at dksX9_isLive_0 21 rfl rfl)
theorem dX9_isLive_22 : decode cX9_isLive 22 = .ok (.if_icmp .ne 23, 3) := dk_160 0 23 (dk_at dksX9_isLive_1 0 rfl rfl)
theorem dX9_isLive_25 : decode cX9_isLive 25 = .ok (.aload_n 0, 1) := dk_42 (dk_at dksX9_isLive_1 3 rfl rfl)
theorem dX9_isLive_26 : decode cX9_isLive 26 = .ok (.getfield 33, 3) := dk_180 0 33 (dk_at dksX9_isLive_1 4 rfl rfl)
theorem dX9_isLive_29 : decode cX9_isLive 29 = .ok (.sipush 180, 3) := dk_17 0 180 (dk_at dksX9_isLive_1 7 rfl rfl)
theorem dX9_isLive_32 : decode cX9_isLive 32 = .ok (.iconst 4, 1) := dk_7 (dk_at dksX9_isLive_1 10 rfl rfl)
theorem dX9_isLive_33 : decode cX9_isLive 33 = .ok (.iload_n 3, 1) := dk_29 (dk_at dksX9_isLive_1 11 rfl rfl)
theorem dX9_isLive_34 : decode cX9_isLive 34 = .ok (.imul, 1) := dk_104 (dk_at dksX9_isLive_1 12 rfl rfl)
theorem dX9_isLive_35 : decode cX9_isLive 35 = .ok (.iadd, 1) := dk_96 (dk_at dksX9_isLive_1 13 rfl rfl)
theorem dX9_isLive_36 : decode cX9_isLive 36 = .ok (.iconst 1, 1) := dk_4 (dk_at dksX9_isLive_1 14 rfl rfl)
theorem dX9_isLive_37 : decode cX9_isLive 37 = .ok (.iadd, 1) := dk_96 (dk_at dksX9_isLive_1 15 rfl rfl)
theorem dX9_isLive_38 : decode cX9_isLive 38 = .ok (.iaload, 1) := dk_46 (dk_at dksX9_isLive_1 16 rfl rfl)
theorem dX9_isLive_39 : decode cX9_isLive 39 = .ok (.iload_n 1, 1) := dk_27 (dk_at dksX9_isLive_1 17 rfl rfl)
theorem dX9_isLive_40 : decode cX9_isLive 40 = .ok (.if_icmp .ne 5, 3) := dk_160 0 5 (dk_at dksX9_isLive_1 18 rfl rfl)
theorem dX9_isLive_43 : decode cX9_isLive 43 = .ok (.iconst 0, 1) := dk_3 (dk_at dksX9_isLive_1 21 rfl rfl)
theorem dX9_isLive_44 : decode cX9_isLive 44 = .ok (.ireturn, 1) := dk_172 (dk_at dksX9_isLive_1 22 rfl rfl)
theorem dX9_isLive_45 : decode cX9_isLive 45 = .ok (.iinc 3 1, 3) := dk_132 3 1 (dk_at dksX9_isLive_2 0 rfl rfl)
theorem dX9_isLive_48 : decode cX9_isLive 48 = .ok (.goto (-44), 3) := dk_167 255 212 (dk_at dksX9_isLive_2 3 rfl rfl)
theorem dX9_isLive_51 : decode cX9_isLive 51 = .ok (.iconst 1, 1) := dk_4 (dk_at dksX9_isLive_2 6 rfl rfl)
theorem dX9_isLive_52 : decode cX9_isLive 52 = .ok (.ireturn, 1) := dk_172 (dk_at dksX9_isLive_2 7 rfl rfl)
abbrev cX9_winner : ByteArray := prog_23_method_133_code
def yX9_winner : MethodName := ⟨RX9, "winner", "(II)I"⟩
def dkwX9_winner_4 : List UInt8 := [132, 5, 1, 167, 255, 185, 29, 172]
abbrev dktX9_winner_4 : List UInt8 := dkwX9_winner_4 ++ []
def dkwX9_winner_3 : List UInt8 := [21, 5, 182, 1, 124, 42, 29, 182, 1, 124, 163, 0, 6, 167, 0, 10, 21, 5, 62, 21, 6, 54, 4]
abbrev dktX9_winner_3 : List UInt8 := dkwX9_winner_3 ++ dktX9_winner_4
def dkwX9_winner_2 : List UInt8 := [21, 6, 21, 4, 161, 0, 43, 21, 6, 153, 0, 38, 21, 6, 21, 4, 160, 0, 24, 29, 155, 0, 20, 42]
abbrev dktX9_winner_2 : List UInt8 := dkwX9_winner_2 ++ dktX9_winner_3
def dkwX9_winner_1 : List UInt8 := [3, 54, 5, 21, 5, 42, 180, 0, 30, 3, 46, 162, 0, 66, 42, 27, 21, 5, 28, 182, 2, 14, 54, 6]
abbrev dktX9_winner_1 : List UInt8 := dkwX9_winner_1 ++ dktX9_winner_2
def dkwX9_winner_0 : List UInt8 := [42, 27, 182, 1, 133, 153, 0, 11, 42, 28, 182, 2, 11, 154, 0, 5, 2, 172, 16, 254, 62, 3, 54, 4]
abbrev dktX9_winner_0 : List UInt8 := dkwX9_winner_0 ++ dktX9_winner_1
theorem dksX9_winner_0 : cX9_winner.data.toList.drop 0 = dktX9_winner_0 := by decide +kernel
theorem dksX9_winner_1 : cX9_winner.data.toList.drop 24 = dktX9_winner_1 := dk_seg dksX9_winner_0 24 rfl rfl
theorem dksX9_winner_2 : cX9_winner.data.toList.drop 48 = dktX9_winner_2 := dk_seg dksX9_winner_1 24 rfl rfl
theorem dksX9_winner_3 : cX9_winner.data.toList.drop 72 = dktX9_winner_3 := dk_seg dksX9_winner_2 24 rfl rfl
theorem dksX9_winner_4 : cX9_winner.data.toList.drop 95 = dktX9_winner_4 := dk_seg dksX9_winner_3 23 rfl rfl
theorem dX9_winner_0 : decode cX9_winner 0 = .ok (.aload_n 0, 1) := dk_42 (dk_at dksX9_winner_0 0 rfl rfl)
theorem dX9_winner_1 : decode cX9_winner 1 = .ok (.iload_n 1, 1) := dk_27 (dk_at dksX9_winner_0 1 rfl rfl)
theorem dX9_winner_2 : decode cX9_winner 2 = .ok (.invokevirtual 389, 3) := dk_182 1 133 (dk_at dksX9_winner_0 2 rfl rfl)
theorem dX9_winner_5 : decode cX9_winner 5 = .ok (.ifCond .eq 11, 3) := dk_153 0 11 (dk_at dksX9_winner_0 5 rfl rfl)
theorem dX9_winner_8 : decode cX9_winner 8 = .ok (.aload_n 0, 1) := dk_42 (dk_at dksX9_winner_0 8 rfl rfl)
theorem dX9_winner_9 : decode cX9_winner 9 = .ok (.iload_n 2, 1) := dk_28 (dk_at dksX9_winner_0 9 rfl rfl)
theorem dX9_winner_10 : decode cX9_winner 10 = .ok (.invokevirtual 523, 3) := dk_182 2 11 (dk_at dksX9_winner_0 10 rfl rfl)
theorem dX9_winner_13 : decode cX9_winner 13 = .ok (.ifCond .ne 5, 3) := dk_154 0 5 (dk_at dksX9_winner_0 13 rfl rfl)
theorem dX9_winner_16 : decode cX9_winner 16 = .ok (.iconst (-1), 1) := dk_2 (dk_at dksX9_winner_0 16 rfl rfl)
theorem dX9_winner_17 : decode cX9_winner 17 = .ok (.ireturn, 1) := dk_172 (dk_at dksX9_winner_0 17 rfl rfl)
theorem dX9_winner_18 : decode cX9_winner 18 = .ok (.bipush (-2), 2) := dk_16 254 (dk_at dksX9_winner_0 18 rfl rfl)
theorem dX9_winner_20 : decode cX9_winner 20 = .ok (.istore_n 3, 1) := dk_62 (dk_at dksX9_winner_0 20 rfl rfl)
theorem dX9_winner_21 : decode cX9_winner 21 = .ok (.iconst 0, 1) := dk_3 (dk_at dksX9_winner_0 21 rfl rfl)
theorem dX9_winner_22 : decode cX9_winner 22 = .ok (.istore 4, 2) := dk_54 4 (dk_at dksX9_winner_0 22 rfl rfl)
theorem dX9_winner_24 : decode cX9_winner 24 = .ok (.iconst 0, 1) := dk_3 (dk_at dksX9_winner_1 0 rfl rfl)
theorem dX9_winner_25 : decode cX9_winner 25 = .ok (.istore 5, 2) := dk_54 5 (dk_at dksX9_winner_1 1 rfl rfl)
theorem dX9_winner_27 : decode cX9_winner 27 = .ok (.iload 5, 2) := dk_21 5 (dk_at dksX9_winner_1 3 rfl rfl)
theorem dX9_winner_29 : decode cX9_winner 29 = .ok (.aload_n 0, 1) := dk_42 (dk_at dksX9_winner_1 5 rfl rfl)
theorem dX9_winner_30 : decode cX9_winner 30 = .ok (.getfield 30, 3) := dk_180 0 30 (dk_at dksX9_winner_1 6 rfl rfl)
theorem dX9_winner_33 : decode cX9_winner 33 = .ok (.iconst 0, 1) := dk_3 (dk_at dksX9_winner_1 9 rfl rfl)
theorem dX9_winner_34 : decode cX9_winner 34 = .ok (.iaload, 1) := dk_46 (dk_at dksX9_winner_1 10 rfl rfl)
theorem dX9_winner_35 : decode cX9_winner 35 = .ok (.if_icmp .ge 66, 3) := dk_162 0 66 (dk_at dksX9_winner_1 11 rfl rfl)
theorem dX9_winner_38 : decode cX9_winner 38 = .ok (.aload_n 0, 1) := dk_42 (dk_at dksX9_winner_1 14 rfl rfl)
theorem dX9_winner_39 : decode cX9_winner 39 = .ok (.iload_n 1, 1) := dk_27 (dk_at dksX9_winner_1 15 rfl rfl)
theorem dX9_winner_40 : decode cX9_winner 40 = .ok (.iload 5, 2) := dk_21 5 (dk_at dksX9_winner_1 16 rfl rfl)
theorem dX9_winner_42 : decode cX9_winner 42 = .ok (.iload_n 2, 1) := dk_28 (dk_at dksX9_winner_1 18 rfl rfl)
theorem dX9_winner_43 : decode cX9_winner 43 = .ok (.invokevirtual 526, 3) := dk_182 2 14 (dk_at dksX9_winner_1 19 rfl rfl)
theorem dX9_winner_46 : decode cX9_winner 46 = .ok (.istore 6, 2) := dk_54 6 (dk_at dksX9_winner_1 22 rfl rfl)
theorem dX9_winner_48 : decode cX9_winner 48 = .ok (.iload 6, 2) := dk_21 6 (dk_at dksX9_winner_2 0 rfl rfl)
theorem dX9_winner_50 : decode cX9_winner 50 = .ok (.iload 4, 2) := dk_21 4 (dk_at dksX9_winner_2 2 rfl rfl)
theorem dX9_winner_52 : decode cX9_winner 52 = .ok (.if_icmp .lt 43, 3) := dk_161 0 43 (dk_at dksX9_winner_2 4 rfl rfl)
theorem dX9_winner_55 : decode cX9_winner 55 = .ok (.iload 6, 2) := dk_21 6 (dk_at dksX9_winner_2 7 rfl rfl)
theorem dX9_winner_57 : decode cX9_winner 57 = .ok (.ifCond .eq 38, 3) := dk_153 0 38 (dk_at dksX9_winner_2 9 rfl rfl)
theorem dX9_winner_60 : decode cX9_winner 60 = .ok (.iload 6, 2) := dk_21 6 (dk_at dksX9_winner_2 12 rfl rfl)
theorem dX9_winner_62 : decode cX9_winner 62 = .ok (.iload 4, 2) := dk_21 4 (dk_at dksX9_winner_2 14 rfl rfl)
theorem dX9_winner_64 : decode cX9_winner 64 = .ok (.if_icmp .ne 24, 3) := dk_160 0 24 (dk_at dksX9_winner_2 16 rfl rfl)
theorem dX9_winner_67 : decode cX9_winner 67 = .ok (.iload_n 3, 1) := dk_29 (dk_at dksX9_winner_2 19 rfl rfl)
theorem dX9_winner_68 : decode cX9_winner 68 = .ok (.ifCond .lt 20, 3) := dk_155 0 20 (dk_at dksX9_winner_2 20 rfl rfl)
theorem dX9_winner_71 : decode cX9_winner 71 = .ok (.aload_n 0, 1) := dk_42 (dk_at dksX9_winner_2 23 rfl rfl)
theorem dX9_winner_72 : decode cX9_winner 72 = .ok (.iload 5, 2) := dk_21 5 (dk_at dksX9_winner_3 0 rfl rfl)
theorem dX9_winner_74 : decode cX9_winner 74 = .ok (.invokevirtual 380, 3) := dk_182 1 124 (dk_at dksX9_winner_3 2 rfl rfl)
theorem dX9_winner_77 : decode cX9_winner 77 = .ok (.aload_n 0, 1) := dk_42 (dk_at dksX9_winner_3 5 rfl rfl)
theorem dX9_winner_78 : decode cX9_winner 78 = .ok (.iload_n 3, 1) := dk_29 (dk_at dksX9_winner_3 6 rfl rfl)
theorem dX9_winner_79 : decode cX9_winner 79 = .ok (.invokevirtual 380, 3) := dk_182 1 124 (dk_at dksX9_winner_3 7 rfl rfl)
theorem dX9_winner_82 : decode cX9_winner 82 = .ok (.if_icmp .gt 6, 3) := dk_163 0 6 (dk_at dksX9_winner_3 10 rfl rfl)
theorem dX9_winner_85 : decode cX9_winner 85 = .ok (.goto 10, 3) := dk_167 0 10 (dk_at dksX9_winner_3 13 rfl rfl)
theorem dX9_winner_88 : decode cX9_winner 88 = .ok (.iload 5, 2) := dk_21 5 (dk_at dksX9_winner_3 16 rfl rfl)
theorem dX9_winner_90 : decode cX9_winner 90 = .ok (.istore_n 3, 1) := dk_62 (dk_at dksX9_winner_3 18 rfl rfl)
theorem dX9_winner_91 : decode cX9_winner 91 = .ok (.iload 6, 2) := dk_21 6 (dk_at dksX9_winner_3 19 rfl rfl)
theorem dX9_winner_93 : decode cX9_winner 93 = .ok (.istore 4, 2) := dk_54 4 (dk_at dksX9_winner_3 21 rfl rfl)
theorem dX9_winner_95 : decode cX9_winner 95 = .ok (.iinc 5 1, 3) := dk_132 5 1 (dk_at dksX9_winner_4 0 rfl rfl)
theorem dX9_winner_98 : decode cX9_winner 98 = .ok (.goto (-71), 3) := dk_167 255 185 (dk_at dksX9_winner_4 3 rfl rfl)
theorem dX9_winner_101 : decode cX9_winner 101 = .ok (.iload_n 3, 1) := dk_29 (dk_at dksX9_winner_4 6 rfl rfl)
theorem dX9_winner_102 : decode cX9_winner 102 = .ok (.ireturn, 1) := dk_172 (dk_at dksX9_winner_4 7 rfl rfl)
abbrev cX9_ends : ByteArray := prog_23_method_135_code
def yX9_ends : MethodName := ⟨RX9, "ends", "(IIII)I"⟩
def dkwX9_ends_13 : List UInt8 := [21, 6, 164, 0, 8, 16, 254, 167, 0, 11, 16, 100, 21, 5, 104, 21, 6, 96, 172]
abbrev dktX9_ends_13 : List UInt8 := dkwX9_ends_13 ++ []
def dkwX9_ends_12 : List UInt8 := [184, 2, 17, 104, 164, 0, 6, 16, 254, 172, 132, 10, 1, 167, 255, 151, 132, 7, 1, 167, 255, 8, 21, 5]
abbrev dktX9_ends_12 : List UInt8 := dkwX9_ends_12 ++ dktX9_ends_13
def dkwX9_ends_11 : List UInt8 := [184, 2, 17, 29, 42, 180, 0, 33, 21, 11, 5, 96, 46, 42, 180, 0, 33, 21, 8, 5, 96, 46]
abbrev dktX9_ends_11 : List UInt8 := dkwX9_ends_11 ++ dktX9_ends_12
def dkwX9_ends_10 : List UInt8 := [182, 2, 5, 153, 0, 53, 42, 180, 0, 33, 21, 11, 6, 96, 46, 42, 180, 0, 33, 21, 8, 6, 96, 46]
abbrev dktX9_ends_10 : List UInt8 := dkwX9_ends_10 ++ dktX9_ends_11
def dkwX9_ends_9 : List UInt8 := [4, 160, 0, 77, 42, 180, 0, 33, 21, 11, 4, 96, 46, 27, 160, 0, 64, 42, 21, 10, 21, 4]
abbrev dktX9_ends_9 : List UInt8 := dkwX9_ends_9 ++ dktX9_ends_10
def dkwX9_ends_8 : List UInt8 := [21, 10, 21, 7, 162, 0, 104, 17, 0, 180, 7, 21, 10, 104, 96, 54, 11, 42, 180, 0, 33, 21, 11, 46]
abbrev dktX9_ends_8 : List UInt8 := dkwX9_ends_8 ++ dktX9_ends_9
def dkwX9_ends_7 : List UInt8 := [96, 21, 6, 162, 0, 17, 42, 180, 0, 33, 21, 8, 6, 96, 46, 21, 9, 96, 54, 6, 3, 54, 10]
abbrev dktX9_ends_7 : List UInt8 := dkwX9_ends_7 ++ dktX9_ends_8
def dkwX9_ends_6 : List UInt8 := [180, 0, 33, 21, 8, 6, 96, 46, 21, 9, 100, 54, 5, 42, 180, 0, 33, 21, 8, 6, 96, 46, 21, 9]
abbrev dktX9_ends_6 : List UInt8 := dkwX9_ends_6 ++ dktX9_ends_7
def dkwX9_ends_5 : List UInt8 := [184, 2, 17, 104, 54, 9, 42, 180, 0, 33, 21, 8, 6, 96, 46, 21, 9, 100, 21, 5, 164, 0, 17, 42]
abbrev dktX9_ends_5 : List UInt8 := dkwX9_ends_5 ++ dktX9_ends_6
def dkwX9_ends_4 : List UInt8 := [21, 4, 182, 2, 5, 154, 0, 6, 167, 0, 193, 29, 42, 180, 0, 33, 21, 8, 5, 96, 46, 28]
abbrev dktX9_ends_4 : List UInt8 := dkwX9_ends_4 ++ dktX9_ends_5
def dkwX9_ends_3 : List UInt8 := [21, 8, 46, 4, 160, 0, 220, 42, 180, 0, 33, 21, 8, 4, 96, 46, 27, 160, 0, 207, 42, 21, 7]
abbrev dktX9_ends_3 : List UInt8 := dkwX9_ends_3 ++ dktX9_ends_4
def dkwX9_ends_2 : List UInt8 := [3, 54, 7, 21, 7, 21, 4, 162, 0, 247, 17, 0, 180, 7, 21, 7, 104, 96, 54, 8, 42, 180, 0, 33]
abbrev dktX9_ends_2 : List UInt8 := dkwX9_ends_2 ++ dktX9_ends_3
def dkwX9_ends_1 : List UInt8 := [184, 1, 136, 153, 0, 12, 42, 21, 4, 182, 2, 11, 154, 0, 5, 2, 172, 3, 54, 5, 16, 99, 54, 6]
abbrev dktX9_ends_1 : List UInt8 := dkwX9_ends_1 ++ dktX9_ends_2
def dkwX9_ends_0 : List UInt8 := [42, 27, 182, 1, 121, 153, 0, 32, 28, 3, 16, 99, 184, 1, 136, 153, 0, 22, 29, 3, 16, 99]
abbrev dktX9_ends_0 : List UInt8 := dkwX9_ends_0 ++ dktX9_ends_1
theorem dksX9_ends_0 : cX9_ends.data.toList.drop 0 = dktX9_ends_0 := by decide +kernel
theorem dksX9_ends_1 : cX9_ends.data.toList.drop 22 = dktX9_ends_1 := dk_seg dksX9_ends_0 22 rfl rfl
theorem dksX9_ends_2 : cX9_ends.data.toList.drop 46 = dktX9_ends_2 := dk_seg dksX9_ends_1 24 rfl rfl
theorem dksX9_ends_3 : cX9_ends.data.toList.drop 70 = dktX9_ends_3 := dk_seg dksX9_ends_2 24 rfl rfl
theorem dksX9_ends_4 : cX9_ends.data.toList.drop 93 = dktX9_ends_4 := dk_seg dksX9_ends_3 23 rfl rfl
theorem dksX9_ends_5 : cX9_ends.data.toList.drop 115 = dktX9_ends_5 := dk_seg dksX9_ends_4 22 rfl rfl
theorem dksX9_ends_6 : cX9_ends.data.toList.drop 139 = dktX9_ends_6 := dk_seg dksX9_ends_5 24 rfl rfl
theorem dksX9_ends_7 : cX9_ends.data.toList.drop 163 = dktX9_ends_7 := dk_seg dksX9_ends_6 24 rfl rfl
theorem dksX9_ends_8 : cX9_ends.data.toList.drop 186 = dktX9_ends_8 := dk_seg dksX9_ends_7 23 rfl rfl
theorem dksX9_ends_9 : cX9_ends.data.toList.drop 210 = dktX9_ends_9 := dk_seg dksX9_ends_8 24 rfl rfl
theorem dksX9_ends_10 : cX9_ends.data.toList.drop 232 = dktX9_ends_10 := dk_seg dksX9_ends_9 22 rfl rfl
theorem dksX9_ends_11 : cX9_ends.data.toList.drop 256 = dktX9_ends_11 := dk_seg dksX9_ends_10 24 rfl rfl
theorem dksX9_ends_12 : cX9_ends.data.toList.drop 278 = dktX9_ends_12 := dk_seg dksX9_ends_11 22 rfl rfl
theorem dksX9_ends_13 : cX9_ends.data.toList.drop 302 = dktX9_ends_13 := dk_seg dksX9_ends_12 24 rfl rfl
theorem dX9_ends_0 : decode cX9_ends 0 = .ok (.aload_n 0, 1) := dk_42 (dk_at dksX9_ends_0 0 rfl rfl)
theorem dX9_ends_1 : decode cX9_ends 1 = .ok (.iload_n 1, 1) := dk_27 (dk_at dksX9_ends_0 1 rfl rfl)
theorem dX9_ends_2 : decode cX9_ends 2 = .ok (.invokevirtual 377, 3) := dk_182 1 121 (dk_at dksX9_ends_0 2 rfl rfl)
theorem dX9_ends_5 : decode cX9_ends 5 = .ok (.ifCond .eq 32, 3) := dk_153 0 32 (dk_at dksX9_ends_0 5 rfl rfl)
theorem dX9_ends_8 : decode cX9_ends 8 = .ok (.iload_n 2, 1) := dk_28 (dk_at dksX9_ends_0 8 rfl rfl)
theorem dX9_ends_9 : decode cX9_ends 9 = .ok (.iconst 0, 1) := dk_3 (dk_at dksX9_ends_0 9 rfl rfl)
theorem dX9_ends_10 : decode cX9_ends 10 = .ok (.bipush 99, 2) := dk_16 99 (dk_at dksX9_ends_0 10 rfl rfl)
theorem dX9_ends_12 : decode cX9_ends 12 = .ok (.invokestatic 392, 3) := dk_184 1 136 (dk_at dksX9_ends_0 12 rfl rfl)
theorem dX9_ends_15 : decode cX9_ends 15 = .ok (.ifCond .eq 22, 3) := dk_153 0 22 (dk_at dksX9_ends_0 15 rfl rfl)
theorem dX9_ends_18 : decode cX9_ends 18 = .ok (.iload_n 3, 1) := dk_29 (dk_at dksX9_ends_0 18 rfl rfl)
theorem dX9_ends_19 : decode cX9_ends 19 = .ok (.iconst 0, 1) := dk_3 (dk_at dksX9_ends_0 19 rfl rfl)
theorem dX9_ends_20 : decode cX9_ends 20 = .ok (.bipush 99, 2) := dk_16 99 (dk_at dksX9_ends_0 20 rfl rfl)
theorem dX9_ends_22 : decode cX9_ends 22 = .ok (.invokestatic 392, 3) := dk_184 1 136 (dk_at dksX9_ends_1 0 rfl rfl)
theorem dX9_ends_25 : decode cX9_ends 25 = .ok (.ifCond .eq 12, 3) := dk_153 0 12 (dk_at dksX9_ends_1 3 rfl rfl)
theorem dX9_ends_28 : decode cX9_ends 28 = .ok (.aload_n 0, 1) := dk_42 (dk_at dksX9_ends_1 6 rfl rfl)
theorem dX9_ends_29 : decode cX9_ends 29 = .ok (.iload 4, 2) := dk_21 4 (dk_at dksX9_ends_1 7 rfl rfl)
theorem dX9_ends_31 : decode cX9_ends 31 = .ok (.invokevirtual 523, 3) := dk_182 2 11 (dk_at dksX9_ends_1 9 rfl rfl)
theorem dX9_ends_34 : decode cX9_ends 34 = .ok (.ifCond .ne 5, 3) := dk_154 0 5 (dk_at dksX9_ends_1 12 rfl rfl)
theorem dX9_ends_37 : decode cX9_ends 37 = .ok (.iconst (-1), 1) := dk_2 (dk_at dksX9_ends_1 15 rfl rfl)
theorem dX9_ends_38 : decode cX9_ends 38 = .ok (.ireturn, 1) := dk_172 (dk_at dksX9_ends_1 16 rfl rfl)
theorem dX9_ends_39 : decode cX9_ends 39 = .ok (.iconst 0, 1) := dk_3 (dk_at dksX9_ends_1 17 rfl rfl)
theorem dX9_ends_40 : decode cX9_ends 40 = .ok (.istore 5, 2) := dk_54 5 (dk_at dksX9_ends_1 18 rfl rfl)
theorem dX9_ends_42 : decode cX9_ends 42 = .ok (.bipush 99, 2) := dk_16 99 (dk_at dksX9_ends_1 20 rfl rfl)
theorem dX9_ends_44 : decode cX9_ends 44 = .ok (.istore 6, 2) := dk_54 6 (dk_at dksX9_ends_1 22 rfl rfl)
theorem dX9_ends_46 : decode cX9_ends 46 = .ok (.iconst 0, 1) := dk_3 (dk_at dksX9_ends_2 0 rfl rfl)
theorem dX9_ends_47 : decode cX9_ends 47 = .ok (.istore 7, 2) := dk_54 7 (dk_at dksX9_ends_2 1 rfl rfl)
theorem dX9_ends_49 : decode cX9_ends 49 = .ok (.iload 7, 2) := dk_21 7 (dk_at dksX9_ends_2 3 rfl rfl)
theorem dX9_ends_51 : decode cX9_ends 51 = .ok (.iload 4, 2) := dk_21 4 (dk_at dksX9_ends_2 5 rfl rfl)
theorem dX9_ends_53 : decode cX9_ends 53 = .ok (.if_icmp .ge 247, 3) := dk_162 0 247 (dk_at dksX9_ends_2 7 rfl rfl)
theorem dX9_ends_56 : decode cX9_ends 56 = .ok (.sipush 180, 3) := dk_17 0 180 (dk_at dksX9_ends_2 10 rfl rfl)
theorem dX9_ends_59 : decode cX9_ends 59 = .ok (.iconst 4, 1) := dk_7 (dk_at dksX9_ends_2 13 rfl rfl)
theorem dX9_ends_60 : decode cX9_ends 60 = .ok (.iload 7, 2) := dk_21 7 (dk_at dksX9_ends_2 14 rfl rfl)
theorem dX9_ends_62 : decode cX9_ends 62 = .ok (.imul, 1) := dk_104 (dk_at dksX9_ends_2 16 rfl rfl)
theorem dX9_ends_63 : decode cX9_ends 63 = .ok (.iadd, 1) := dk_96 (dk_at dksX9_ends_2 17 rfl rfl)
theorem dX9_ends_64 : decode cX9_ends 64 = .ok (.istore 8, 2) := dk_54 8 (dk_at dksX9_ends_2 18 rfl rfl)
theorem dX9_ends_66 : decode cX9_ends 66 = .ok (.aload_n 0, 1) := dk_42 (dk_at dksX9_ends_2 20 rfl rfl)
theorem dX9_ends_67 : decode cX9_ends 67 = .ok (.getfield 33, 3) := dk_180 0 33 (dk_at dksX9_ends_2 21 rfl rfl)
theorem dX9_ends_70 : decode cX9_ends 70 = .ok (.iload 8, 2) := dk_21 8 (dk_at dksX9_ends_3 0 rfl rfl)
theorem dX9_ends_72 : decode cX9_ends 72 = .ok (.iaload, 1) := dk_46 (dk_at dksX9_ends_3 2 rfl rfl)
theorem dX9_ends_73 : decode cX9_ends 73 = .ok (.iconst 1, 1) := dk_4 (dk_at dksX9_ends_3 3 rfl rfl)
theorem dX9_ends_74 : decode cX9_ends 74 = .ok (.if_icmp .ne 220, 3) := dk_160 0 220 (dk_at dksX9_ends_3 4 rfl rfl)
theorem dX9_ends_77 : decode cX9_ends 77 = .ok (.aload_n 0, 1) := dk_42 (dk_at dksX9_ends_3 7 rfl rfl)
theorem dX9_ends_78 : decode cX9_ends 78 = .ok (.getfield 33, 3) := dk_180 0 33 (dk_at dksX9_ends_3 8 rfl rfl)
theorem dX9_ends_81 : decode cX9_ends 81 = .ok (.iload 8, 2) := dk_21 8 (dk_at dksX9_ends_3 11 rfl rfl)
theorem dX9_ends_83 : decode cX9_ends 83 = .ok (.iconst 1, 1) := dk_4 (dk_at dksX9_ends_3 13 rfl rfl)
theorem dX9_ends_84 : decode cX9_ends 84 = .ok (.iadd, 1) := dk_96 (dk_at dksX9_ends_3 14 rfl rfl)
theorem dX9_ends_85 : decode cX9_ends 85 = .ok (.iaload, 1) := dk_46 (dk_at dksX9_ends_3 15 rfl rfl)
theorem dX9_ends_86 : decode cX9_ends 86 = .ok (.iload_n 1, 1) := dk_27 (dk_at dksX9_ends_3 16 rfl rfl)
theorem dX9_ends_87 : decode cX9_ends 87 = .ok (.if_icmp .ne 207, 3) := dk_160 0 207 (dk_at dksX9_ends_3 17 rfl rfl)
theorem dX9_ends_90 : decode cX9_ends 90 = .ok (.aload_n 0, 1) := dk_42 (dk_at dksX9_ends_3 20 rfl rfl)
theorem dX9_ends_91 : decode cX9_ends 91 = .ok (.iload 7, 2) := dk_21 7 (dk_at dksX9_ends_3 21 rfl rfl)
theorem dX9_ends_93 : decode cX9_ends 93 = .ok (.iload 4, 2) := dk_21 4 (dk_at dksX9_ends_4 0 rfl rfl)
theorem dX9_ends_95 : decode cX9_ends 95 = .ok (.invokevirtual 517, 3) := dk_182 2 5 (dk_at dksX9_ends_4 2 rfl rfl)
theorem dX9_ends_98 : decode cX9_ends 98 = .ok (.ifCond .ne 6, 3) := dk_154 0 6 (dk_at dksX9_ends_4 5 rfl rfl)
theorem dX9_ends_101 : decode cX9_ends 101 = .ok (.goto 193, 3) := dk_167 0 193 (dk_at dksX9_ends_4 8 rfl rfl)
theorem dX9_ends_104 : decode cX9_ends 104 = .ok (.iload_n 3, 1) := dk_29 (dk_at dksX9_ends_4 11 rfl rfl)
theorem dX9_ends_105 : decode cX9_ends 105 = .ok (.aload_n 0, 1) := dk_42 (dk_at dksX9_ends_4 12 rfl rfl)
theorem dX9_ends_106 : decode cX9_ends 106 = .ok (.getfield 33, 3) := dk_180 0 33 (dk_at dksX9_ends_4 13 rfl rfl)
theorem dX9_ends_109 : decode cX9_ends 109 = .ok (.iload 8, 2) := dk_21 8 (dk_at dksX9_ends_4 16 rfl rfl)
theorem dX9_ends_111 : decode cX9_ends 111 = .ok (.iconst 2, 1) := dk_5 (dk_at dksX9_ends_4 18 rfl rfl)
theorem dX9_ends_112 : decode cX9_ends 112 = .ok (.iadd, 1) := dk_96 (dk_at dksX9_ends_4 19 rfl rfl)
theorem dX9_ends_113 : decode cX9_ends 113 = .ok (.iaload, 1) := dk_46 (dk_at dksX9_ends_4 20 rfl rfl)
theorem dX9_ends_114 : decode cX9_ends 114 = .ok (.iload_n 2, 1) := dk_28 (dk_at dksX9_ends_4 21 rfl rfl)
theorem dX9_ends_115 : decode cX9_ends 115 = .ok (.invokestatic 529, 3) := dk_184 2 17 (dk_at dksX9_ends_5 0 rfl rfl)
theorem dX9_ends_118 : decode cX9_ends 118 = .ok (.imul, 1) := dk_104 (dk_at dksX9_ends_5 3 rfl rfl)
theorem dX9_ends_119 : decode cX9_ends 119 = .ok (.istore 9, 2) := dk_54 9 (dk_at dksX9_ends_5 4 rfl rfl)
theorem dX9_ends_121 : decode cX9_ends 121 = .ok (.aload_n 0, 1) := dk_42 (dk_at dksX9_ends_5 6 rfl rfl)
theorem dX9_ends_122 : decode cX9_ends 122 = .ok (.getfield 33, 3) := dk_180 0 33 (dk_at dksX9_ends_5 7 rfl rfl)
theorem dX9_ends_125 : decode cX9_ends 125 = .ok (.iload 8, 2) := dk_21 8 (dk_at dksX9_ends_5 10 rfl rfl)
theorem dX9_ends_127 : decode cX9_ends 127 = .ok (.iconst 3, 1) := dk_6 (dk_at dksX9_ends_5 12 rfl rfl)
theorem dX9_ends_128 : decode cX9_ends 128 = .ok (.iadd, 1) := dk_96 (dk_at dksX9_ends_5 13 rfl rfl)
theorem dX9_ends_129 : decode cX9_ends 129 = .ok (.iaload, 1) := dk_46 (dk_at dksX9_ends_5 14 rfl rfl)
theorem dX9_ends_130 : decode cX9_ends 130 = .ok (.iload 9, 2) := dk_21 9 (dk_at dksX9_ends_5 15 rfl rfl)
theorem dX9_ends_132 : decode cX9_ends 132 = .ok (.isub, 1) := dk_100 (dk_at dksX9_ends_5 17 rfl rfl)
theorem dX9_ends_133 : decode cX9_ends 133 = .ok (.iload 5, 2) := dk_21 5 (dk_at dksX9_ends_5 18 rfl rfl)
theorem dX9_ends_135 : decode cX9_ends 135 = .ok (.if_icmp .le 17, 3) := dk_164 0 17 (dk_at dksX9_ends_5 20 rfl rfl)
theorem dX9_ends_138 : decode cX9_ends 138 = .ok (.aload_n 0, 1) := dk_42 (dk_at dksX9_ends_5 23 rfl rfl)
theorem dX9_ends_139 : decode cX9_ends 139 = .ok (.getfield 33, 3) := dk_180 0 33 (dk_at dksX9_ends_6 0 rfl rfl)
theorem dX9_ends_142 : decode cX9_ends 142 = .ok (.iload 8, 2) := dk_21 8 (dk_at dksX9_ends_6 3 rfl rfl)
theorem dX9_ends_144 : decode cX9_ends 144 = .ok (.iconst 3, 1) := dk_6 (dk_at dksX9_ends_6 5 rfl rfl)
theorem dX9_ends_145 : decode cX9_ends 145 = .ok (.iadd, 1) := dk_96 (dk_at dksX9_ends_6 6 rfl rfl)
theorem dX9_ends_146 : decode cX9_ends 146 = .ok (.iaload, 1) := dk_46 (dk_at dksX9_ends_6 7 rfl rfl)
theorem dX9_ends_147 : decode cX9_ends 147 = .ok (.iload 9, 2) := dk_21 9 (dk_at dksX9_ends_6 8 rfl rfl)
theorem dX9_ends_149 : decode cX9_ends 149 = .ok (.isub, 1) := dk_100 (dk_at dksX9_ends_6 10 rfl rfl)
theorem dX9_ends_150 : decode cX9_ends 150 = .ok (.istore 5, 2) := dk_54 5 (dk_at dksX9_ends_6 11 rfl rfl)
theorem dX9_ends_152 : decode cX9_ends 152 = .ok (.aload_n 0, 1) := dk_42 (dk_at dksX9_ends_6 13 rfl rfl)
theorem dX9_ends_153 : decode cX9_ends 153 = .ok (.getfield 33, 3) := dk_180 0 33 (dk_at dksX9_ends_6 14 rfl rfl)
theorem dX9_ends_156 : decode cX9_ends 156 = .ok (.iload 8, 2) := dk_21 8 (dk_at dksX9_ends_6 17 rfl rfl)
theorem dX9_ends_158 : decode cX9_ends 158 = .ok (.iconst 3, 1) := dk_6 (dk_at dksX9_ends_6 19 rfl rfl)
theorem dX9_ends_159 : decode cX9_ends 159 = .ok (.iadd, 1) := dk_96 (dk_at dksX9_ends_6 20 rfl rfl)
theorem dX9_ends_160 : decode cX9_ends 160 = .ok (.iaload, 1) := dk_46 (dk_at dksX9_ends_6 21 rfl rfl)
theorem dX9_ends_161 : decode cX9_ends 161 = .ok (.iload 9, 2) := dk_21 9 (dk_at dksX9_ends_6 22 rfl rfl)
theorem dX9_ends_163 : decode cX9_ends 163 = .ok (.iadd, 1) := dk_96 (dk_at dksX9_ends_7 0 rfl rfl)
theorem dX9_ends_164 : decode cX9_ends 164 = .ok (.iload 6, 2) := dk_21 6 (dk_at dksX9_ends_7 1 rfl rfl)
theorem dX9_ends_166 : decode cX9_ends 166 = .ok (.if_icmp .ge 17, 3) := dk_162 0 17 (dk_at dksX9_ends_7 3 rfl rfl)
theorem dX9_ends_169 : decode cX9_ends 169 = .ok (.aload_n 0, 1) := dk_42 (dk_at dksX9_ends_7 6 rfl rfl)
theorem dX9_ends_170 : decode cX9_ends 170 = .ok (.getfield 33, 3) := dk_180 0 33 (dk_at dksX9_ends_7 7 rfl rfl)
theorem dX9_ends_173 : decode cX9_ends 173 = .ok (.iload 8, 2) := dk_21 8 (dk_at dksX9_ends_7 10 rfl rfl)
theorem dX9_ends_175 : decode cX9_ends 175 = .ok (.iconst 3, 1) := dk_6 (dk_at dksX9_ends_7 12 rfl rfl)
theorem dX9_ends_176 : decode cX9_ends 176 = .ok (.iadd, 1) := dk_96 (dk_at dksX9_ends_7 13 rfl rfl)
theorem dX9_ends_177 : decode cX9_ends 177 = .ok (.iaload, 1) := dk_46 (dk_at dksX9_ends_7 14 rfl rfl)
theorem dX9_ends_178 : decode cX9_ends 178 = .ok (.iload 9, 2) := dk_21 9 (dk_at dksX9_ends_7 15 rfl rfl)
theorem dX9_ends_180 : decode cX9_ends 180 = .ok (.iadd, 1) := dk_96 (dk_at dksX9_ends_7 17 rfl rfl)
theorem dX9_ends_181 : decode cX9_ends 181 = .ok (.istore 6, 2) := dk_54 6 (dk_at dksX9_ends_7 18 rfl rfl)
theorem dX9_ends_183 : decode cX9_ends 183 = .ok (.iconst 0, 1) := dk_3 (dk_at dksX9_ends_7 20 rfl rfl)
theorem dX9_ends_184 : decode cX9_ends 184 = .ok (.istore 10, 2) := dk_54 10 (dk_at dksX9_ends_7 21 rfl rfl)
theorem dX9_ends_186 : decode cX9_ends 186 = .ok (.iload 10, 2) := dk_21 10 (dk_at dksX9_ends_8 0 rfl rfl)
theorem dX9_ends_188 : decode cX9_ends 188 = .ok (.iload 7, 2) := dk_21 7 (dk_at dksX9_ends_8 2 rfl rfl)
theorem dX9_ends_190 : decode cX9_ends 190 = .ok (.if_icmp .ge 104, 3) := dk_162 0 104 (dk_at dksX9_ends_8 4 rfl rfl)
theorem dX9_ends_193 : decode cX9_ends 193 = .ok (.sipush 180, 3) := dk_17 0 180 (dk_at dksX9_ends_8 7 rfl rfl)
theorem dX9_ends_196 : decode cX9_ends 196 = .ok (.iconst 4, 1) := dk_7 (dk_at dksX9_ends_8 10 rfl rfl)
theorem dX9_ends_197 : decode cX9_ends 197 = .ok (.iload 10, 2) := dk_21 10 (dk_at dksX9_ends_8 11 rfl rfl)
theorem dX9_ends_199 : decode cX9_ends 199 = .ok (.imul, 1) := dk_104 (dk_at dksX9_ends_8 13 rfl rfl)
theorem dX9_ends_200 : decode cX9_ends 200 = .ok (.iadd, 1) := dk_96 (dk_at dksX9_ends_8 14 rfl rfl)
theorem dX9_ends_201 : decode cX9_ends 201 = .ok (.istore 11, 2) := dk_54 11 (dk_at dksX9_ends_8 15 rfl rfl)
theorem dX9_ends_203 : decode cX9_ends 203 = .ok (.aload_n 0, 1) := dk_42 (dk_at dksX9_ends_8 17 rfl rfl)
theorem dX9_ends_204 : decode cX9_ends 204 = .ok (.getfield 33, 3) := dk_180 0 33 (dk_at dksX9_ends_8 18 rfl rfl)
theorem dX9_ends_207 : decode cX9_ends 207 = .ok (.iload 11, 2) := dk_21 11 (dk_at dksX9_ends_8 21 rfl rfl)
theorem dX9_ends_209 : decode cX9_ends 209 = .ok (.iaload, 1) := dk_46 (dk_at dksX9_ends_8 23 rfl rfl)
theorem dX9_ends_210 : decode cX9_ends 210 = .ok (.iconst 1, 1) := dk_4 (dk_at dksX9_ends_9 0 rfl rfl)
theorem dX9_ends_211 : decode cX9_ends 211 = .ok (.if_icmp .ne 77, 3) := dk_160 0 77 (dk_at dksX9_ends_9 1 rfl rfl)
theorem dX9_ends_214 : decode cX9_ends 214 = .ok (.aload_n 0, 1) := dk_42 (dk_at dksX9_ends_9 4 rfl rfl)
theorem dX9_ends_215 : decode cX9_ends 215 = .ok (.getfield 33, 3) := dk_180 0 33 (dk_at dksX9_ends_9 5 rfl rfl)
theorem dX9_ends_218 : decode cX9_ends 218 = .ok (.iload 11, 2) := dk_21 11 (dk_at dksX9_ends_9 8 rfl rfl)
theorem dX9_ends_220 : decode cX9_ends 220 = .ok (.iconst 1, 1) := dk_4 (dk_at dksX9_ends_9 10 rfl rfl)
theorem dX9_ends_221 : decode cX9_ends 221 = .ok (.iadd, 1) := dk_96 (dk_at dksX9_ends_9 11 rfl rfl)
theorem dX9_ends_222 : decode cX9_ends 222 = .ok (.iaload, 1) := dk_46 (dk_at dksX9_ends_9 12 rfl rfl)
theorem dX9_ends_223 : decode cX9_ends 223 = .ok (.iload_n 1, 1) := dk_27 (dk_at dksX9_ends_9 13 rfl rfl)
theorem dX9_ends_224 : decode cX9_ends 224 = .ok (.if_icmp .ne 64, 3) := dk_160 0 64 (dk_at dksX9_ends_9 14 rfl rfl)
theorem dX9_ends_227 : decode cX9_ends 227 = .ok (.aload_n 0, 1) := dk_42 (dk_at dksX9_ends_9 17 rfl rfl)
theorem dX9_ends_228 : decode cX9_ends 228 = .ok (.iload 10, 2) := dk_21 10 (dk_at dksX9_ends_9 18 rfl rfl)
theorem dX9_ends_230 : decode cX9_ends 230 = .ok (.iload 4, 2) := dk_21 4 (dk_at dksX9_ends_9 20 rfl rfl)
theorem dX9_ends_232 : decode cX9_ends 232 = .ok (.invokevirtual 517, 3) := dk_182 2 5 (dk_at dksX9_ends_10 0 rfl rfl)
theorem dX9_ends_235 : decode cX9_ends 235 = .ok (.ifCond .eq 53, 3) := dk_153 0 53 (dk_at dksX9_ends_10 3 rfl rfl)
theorem dX9_ends_238 : decode cX9_ends 238 = .ok (.aload_n 0, 1) := dk_42 (dk_at dksX9_ends_10 6 rfl rfl)
theorem dX9_ends_239 : decode cX9_ends 239 = .ok (.getfield 33, 3) := dk_180 0 33 (dk_at dksX9_ends_10 7 rfl rfl)
theorem dX9_ends_242 : decode cX9_ends 242 = .ok (.iload 11, 2) := dk_21 11 (dk_at dksX9_ends_10 10 rfl rfl)
theorem dX9_ends_244 : decode cX9_ends 244 = .ok (.iconst 3, 1) := dk_6 (dk_at dksX9_ends_10 12 rfl rfl)
theorem dX9_ends_245 : decode cX9_ends 245 = .ok (.iadd, 1) := dk_96 (dk_at dksX9_ends_10 13 rfl rfl)
theorem dX9_ends_246 : decode cX9_ends 246 = .ok (.iaload, 1) := dk_46 (dk_at dksX9_ends_10 14 rfl rfl)
theorem dX9_ends_247 : decode cX9_ends 247 = .ok (.aload_n 0, 1) := dk_42 (dk_at dksX9_ends_10 15 rfl rfl)
theorem dX9_ends_248 : decode cX9_ends 248 = .ok (.getfield 33, 3) := dk_180 0 33 (dk_at dksX9_ends_10 16 rfl rfl)
theorem dX9_ends_251 : decode cX9_ends 251 = .ok (.iload 8, 2) := dk_21 8 (dk_at dksX9_ends_10 19 rfl rfl)
theorem dX9_ends_253 : decode cX9_ends 253 = .ok (.iconst 3, 1) := dk_6 (dk_at dksX9_ends_10 21 rfl rfl)
theorem dX9_ends_254 : decode cX9_ends 254 = .ok (.iadd, 1) := dk_96 (dk_at dksX9_ends_10 22 rfl rfl)
theorem dX9_ends_255 : decode cX9_ends 255 = .ok (.iaload, 1) := dk_46 (dk_at dksX9_ends_10 23 rfl rfl)
theorem dX9_ends_256 : decode cX9_ends 256 = .ok (.invokestatic 529, 3) := dk_184 2 17 (dk_at dksX9_ends_11 0 rfl rfl)
theorem dX9_ends_259 : decode cX9_ends 259 = .ok (.iload_n 3, 1) := dk_29 (dk_at dksX9_ends_11 3 rfl rfl)
theorem dX9_ends_260 : decode cX9_ends 260 = .ok (.aload_n 0, 1) := dk_42 (dk_at dksX9_ends_11 4 rfl rfl)
theorem dX9_ends_261 : decode cX9_ends 261 = .ok (.getfield 33, 3) := dk_180 0 33 (dk_at dksX9_ends_11 5 rfl rfl)
theorem dX9_ends_264 : decode cX9_ends 264 = .ok (.iload 11, 2) := dk_21 11 (dk_at dksX9_ends_11 8 rfl rfl)
theorem dX9_ends_266 : decode cX9_ends 266 = .ok (.iconst 2, 1) := dk_5 (dk_at dksX9_ends_11 10 rfl rfl)
theorem dX9_ends_267 : decode cX9_ends 267 = .ok (.iadd, 1) := dk_96 (dk_at dksX9_ends_11 11 rfl rfl)
theorem dX9_ends_268 : decode cX9_ends 268 = .ok (.iaload, 1) := dk_46 (dk_at dksX9_ends_11 12 rfl rfl)
theorem dX9_ends_269 : decode cX9_ends 269 = .ok (.aload_n 0, 1) := dk_42 (dk_at dksX9_ends_11 13 rfl rfl)
theorem dX9_ends_270 : decode cX9_ends 270 = .ok (.getfield 33, 3) := dk_180 0 33 (dk_at dksX9_ends_11 14 rfl rfl)
theorem dX9_ends_273 : decode cX9_ends 273 = .ok (.iload 8, 2) := dk_21 8 (dk_at dksX9_ends_11 17 rfl rfl)
theorem dX9_ends_275 : decode cX9_ends 275 = .ok (.iconst 2, 1) := dk_5 (dk_at dksX9_ends_11 19 rfl rfl)
theorem dX9_ends_276 : decode cX9_ends 276 = .ok (.iadd, 1) := dk_96 (dk_at dksX9_ends_11 20 rfl rfl)
theorem dX9_ends_277 : decode cX9_ends 277 = .ok (.iaload, 1) := dk_46 (dk_at dksX9_ends_11 21 rfl rfl)
theorem dX9_ends_278 : decode cX9_ends 278 = .ok (.invokestatic 529, 3) := dk_184 2 17 (dk_at dksX9_ends_12 0 rfl rfl)
theorem dX9_ends_281 : decode cX9_ends 281 = .ok (.imul, 1) := dk_104 (dk_at dksX9_ends_12 3 rfl rfl)
theorem dX9_ends_282 : decode cX9_ends 282 = .ok (.if_icmp .le 6, 3) := dk_164 0 6 (dk_at dksX9_ends_12 4 rfl rfl)
theorem dX9_ends_285 : decode cX9_ends 285 = .ok (.bipush (-2), 2) := dk_16 254 (dk_at dksX9_ends_12 7 rfl rfl)
theorem dX9_ends_287 : decode cX9_ends 287 = .ok (.ireturn, 1) := dk_172 (dk_at dksX9_ends_12 9 rfl rfl)
theorem dX9_ends_288 : decode cX9_ends 288 = .ok (.iinc 10 1, 3) := dk_132 10 1 (dk_at dksX9_ends_12 10 rfl rfl)
theorem dX9_ends_291 : decode cX9_ends 291 = .ok (.goto (-105), 3) := dk_167 255 151 (dk_at dksX9_ends_12 13 rfl rfl)
theorem dX9_ends_294 : decode cX9_ends 294 = .ok (.iinc 7 1, 3) := dk_132 7 1 (dk_at dksX9_ends_12 16 rfl rfl)
theorem dX9_ends_297 : decode cX9_ends 297 = .ok (.goto (-248), 3) := dk_167 255 8 (dk_at dksX9_ends_12 19 rfl rfl)
theorem dX9_ends_300 : decode cX9_ends 300 = .ok (.iload 5, 2) := dk_21 5 (dk_at dksX9_ends_12 22 rfl rfl)
theorem dX9_ends_302 : decode cX9_ends 302 = .ok (.iload 6, 2) := dk_21 6 (dk_at dksX9_ends_13 0 rfl rfl)
theorem dX9_ends_304 : decode cX9_ends 304 = .ok (.if_icmp .le 8, 3) := dk_164 0 8 (dk_at dksX9_ends_13 2 rfl rfl)
theorem dX9_ends_307 : decode cX9_ends 307 = .ok (.bipush (-2), 2) := dk_16 254 (dk_at dksX9_ends_13 5 rfl rfl)
theorem dX9_ends_309 : decode cX9_ends 309 = .ok (.goto 11, 3) := dk_167 0 11 (dk_at dksX9_ends_13 7 rfl rfl)
theorem dX9_ends_312 : decode cX9_ends 312 = .ok (.bipush 100, 2) := dk_16 100 (dk_at dksX9_ends_13 10 rfl rfl)
theorem dX9_ends_314 : decode cX9_ends 314 = .ok (.iload 5, 2) := dk_21 5 (dk_at dksX9_ends_13 12 rfl rfl)
theorem dX9_ends_316 : decode cX9_ends 316 = .ok (.imul, 1) := dk_104 (dk_at dksX9_ends_13 14 rfl rfl)
theorem dX9_ends_317 : decode cX9_ends 317 = .ok (.iload 6, 2) := dk_21 6 (dk_at dksX9_ends_13 15 rfl rfl)
theorem dX9_ends_319 : decode cX9_ends 319 = .ok (.iadd, 1) := dk_96 (dk_at dksX9_ends_13 17 rfl rfl)
theorem dX9_ends_320 : decode cX9_ends 320 = .ok (.ireturn, 1) := dk_172 (dk_at dksX9_ends_13 18 rfl rfl)
abbrev cX9_apart : ByteArray := prog_23_method_134_code
def yX9_apart : MethodName := ⟨RX9, "apart", "(II)I"⟩
def dkwX9_apart_0 : List UInt8 := [26, 27, 164, 0, 9, 26, 27, 100, 167, 0, 6, 27, 26, 100, 172]
abbrev dktX9_apart_0 : List UInt8 := dkwX9_apart_0 ++ []
theorem dksX9_apart_0 : cX9_apart.data.toList.drop 0 = dktX9_apart_0 := by decide +kernel
theorem dX9_apart_0 : decode cX9_apart 0 = .ok (.iload_n 0, 1) := dk_26 (dk_at dksX9_apart_0 0 rfl rfl)
theorem dX9_apart_1 : decode cX9_apart 1 = .ok (.iload_n 1, 1) := dk_27 (dk_at dksX9_apart_0 1 rfl rfl)
theorem dX9_apart_2 : decode cX9_apart 2 = .ok (.if_icmp .le 9, 3) := dk_164 0 9 (dk_at dksX9_apart_0 2 rfl rfl)
theorem dX9_apart_5 : decode cX9_apart 5 = .ok (.iload_n 0, 1) := dk_26 (dk_at dksX9_apart_0 5 rfl rfl)
theorem dX9_apart_6 : decode cX9_apart 6 = .ok (.iload_n 1, 1) := dk_27 (dk_at dksX9_apart_0 6 rfl rfl)
theorem dX9_apart_7 : decode cX9_apart 7 = .ok (.isub, 1) := dk_100 (dk_at dksX9_apart_0 7 rfl rfl)
theorem dX9_apart_8 : decode cX9_apart 8 = .ok (.goto 6, 3) := dk_167 0 6 (dk_at dksX9_apart_0 8 rfl rfl)
theorem dX9_apart_11 : decode cX9_apart 11 = .ok (.iload_n 1, 1) := dk_27 (dk_at dksX9_apart_0 11 rfl rfl)
theorem dX9_apart_12 : decode cX9_apart 12 = .ok (.iload_n 0, 1) := dk_26 (dk_at dksX9_apart_0 12 rfl rfl)
theorem dX9_apart_13 : decode cX9_apart 13 = .ok (.isub, 1) := dk_100 (dk_at dksX9_apart_0 13 rfl rfl)
theorem dX9_apart_14 : decode cX9_apart 14 = .ok (.ireturn, 1) := dk_172 (dk_at dksX9_apart_0 14 rfl rfl)
abbrev cX9_years : ByteArray := prog_23_method_139_code
def yX9_years : MethodName := ⟨RX9, "years", "(II)I"⟩
def dkwX9_years_2 : List UInt8 := [162, 0, 19, 29, 42, 27, 21, 4, 182, 2, 27, 96, 62, 132, 4, 1, 167, 255, 237, 29, 172]
abbrev dktX9_years_2 : List UInt8 := dkwX9_years_2 ++ []
def dkwX9_years_1 : List UInt8 := [153, 0, 12, 42, 180, 0, 30, 4, 46, 154, 0, 5, 3, 172, 3, 62, 3, 54, 4, 21, 4, 28]
abbrev dktX9_years_1 : List UInt8 := dkwX9_years_1 ++ dktX9_years_2
def dkwX9_years_0 : List UInt8 := [28, 4, 16, 40, 184, 1, 136, 154, 0, 5, 2, 172, 42, 3, 181, 1, 27, 42, 180, 0, 30, 3, 46]
abbrev dktX9_years_0 : List UInt8 := dkwX9_years_0 ++ dktX9_years_1
theorem dksX9_years_0 : cX9_years.data.toList.drop 0 = dktX9_years_0 := by decide +kernel
theorem dksX9_years_1 : cX9_years.data.toList.drop 23 = dktX9_years_1 := dk_seg dksX9_years_0 23 rfl rfl
theorem dksX9_years_2 : cX9_years.data.toList.drop 45 = dktX9_years_2 := dk_seg dksX9_years_1 22 rfl rfl
theorem dX9_years_0 : decode cX9_years 0 = .ok (.iload_n 2, 1) := dk_28 (dk_at dksX9_years_0 0 rfl rfl)
theorem dX9_years_1 : decode cX9_years 1 = .ok (.iconst 1, 1) := dk_4 (dk_at dksX9_years_0 1 rfl rfl)
theorem dX9_years_2 : decode cX9_years 2 = .ok (.bipush 40, 2) := dk_16 40 (dk_at dksX9_years_0 2 rfl rfl)
theorem dX9_years_4 : decode cX9_years 4 = .ok (.invokestatic 392, 3) := dk_184 1 136 (dk_at dksX9_years_0 4 rfl rfl)
theorem dX9_years_7 : decode cX9_years 7 = .ok (.ifCond .ne 5, 3) := dk_154 0 5 (dk_at dksX9_years_0 7 rfl rfl)
theorem dX9_years_10 : decode cX9_years 10 = .ok (.iconst (-1), 1) := dk_2 (dk_at dksX9_years_0 10 rfl rfl)
theorem dX9_years_11 : decode cX9_years 11 = .ok (.ireturn, 1) := dk_172 (dk_at dksX9_years_0 11 rfl rfl)
theorem dX9_years_12 : decode cX9_years 12 = .ok (.aload_n 0, 1) := dk_42 (dk_at dksX9_years_0 12 rfl rfl)
theorem dX9_years_13 : decode cX9_years 13 = .ok (.iconst 0, 1) := dk_3 (dk_at dksX9_years_0 13 rfl rfl)
theorem dX9_years_14 : decode cX9_years 14 = .ok (.putfield 283, 3) := dk_181 1 27 (dk_at dksX9_years_0 14 rfl rfl)
theorem dX9_years_17 : decode cX9_years 17 = .ok (.aload_n 0, 1) := dk_42 (dk_at dksX9_years_0 17 rfl rfl)
theorem dX9_years_18 : decode cX9_years 18 = .ok (.getfield 30, 3) := dk_180 0 30 (dk_at dksX9_years_0 18 rfl rfl)
theorem dX9_years_21 : decode cX9_years 21 = .ok (.iconst 0, 1) := dk_3 (dk_at dksX9_years_0 21 rfl rfl)
theorem dX9_years_22 : decode cX9_years 22 = .ok (.iaload, 1) := dk_46 (dk_at dksX9_years_0 22 rfl rfl)
theorem dX9_years_23 : decode cX9_years 23 = .ok (.ifCond .eq 12, 3) := dk_153 0 12 (dk_at dksX9_years_1 0 rfl rfl)
theorem dX9_years_26 : decode cX9_years 26 = .ok (.aload_n 0, 1) := dk_42 (dk_at dksX9_years_1 3 rfl rfl)
theorem dX9_years_27 : decode cX9_years 27 = .ok (.getfield 30, 3) := dk_180 0 30 (dk_at dksX9_years_1 4 rfl rfl)
theorem dX9_years_30 : decode cX9_years 30 = .ok (.iconst 1, 1) := dk_4 (dk_at dksX9_years_1 7 rfl rfl)
theorem dX9_years_31 : decode cX9_years 31 = .ok (.iaload, 1) := dk_46 (dk_at dksX9_years_1 8 rfl rfl)
theorem dX9_years_32 : decode cX9_years 32 = .ok (.ifCond .ne 5, 3) := dk_154 0 5 (dk_at dksX9_years_1 9 rfl rfl)
theorem dX9_years_35 : decode cX9_years 35 = .ok (.iconst 0, 1) := dk_3 (dk_at dksX9_years_1 12 rfl rfl)
theorem dX9_years_36 : decode cX9_years 36 = .ok (.ireturn, 1) := dk_172 (dk_at dksX9_years_1 13 rfl rfl)
theorem dX9_years_37 : decode cX9_years 37 = .ok (.iconst 0, 1) := dk_3 (dk_at dksX9_years_1 14 rfl rfl)
theorem dX9_years_38 : decode cX9_years 38 = .ok (.istore_n 3, 1) := dk_62 (dk_at dksX9_years_1 15 rfl rfl)
theorem dX9_years_39 : decode cX9_years 39 = .ok (.iconst 0, 1) := dk_3 (dk_at dksX9_years_1 16 rfl rfl)
theorem dX9_years_40 : decode cX9_years 40 = .ok (.istore 4, 2) := dk_54 4 (dk_at dksX9_years_1 17 rfl rfl)
theorem dX9_years_42 : decode cX9_years 42 = .ok (.iload 4, 2) := dk_21 4 (dk_at dksX9_years_1 19 rfl rfl)
theorem dX9_years_44 : decode cX9_years 44 = .ok (.iload_n 2, 1) := dk_28 (dk_at dksX9_years_1 21 rfl rfl)
theorem dX9_years_45 : decode cX9_years 45 = .ok (.if_icmp .ge 19, 3) := dk_162 0 19 (dk_at dksX9_years_2 0 rfl rfl)
theorem dX9_years_48 : decode cX9_years 48 = .ok (.iload_n 3, 1) := dk_29 (dk_at dksX9_years_2 3 rfl rfl)
theorem dX9_years_49 : decode cX9_years 49 = .ok (.aload_n 0, 1) := dk_42 (dk_at dksX9_years_2 4 rfl rfl)
theorem dX9_years_50 : decode cX9_years 50 = .ok (.iload_n 1, 1) := dk_27 (dk_at dksX9_years_2 5 rfl rfl)
theorem dX9_years_51 : decode cX9_years 51 = .ok (.iload 4, 2) := dk_21 4 (dk_at dksX9_years_2 6 rfl rfl)
theorem dX9_years_53 : decode cX9_years 53 = .ok (.invokevirtual 539, 3) := dk_182 2 27 (dk_at dksX9_years_2 8 rfl rfl)
theorem dX9_years_56 : decode cX9_years 56 = .ok (.iadd, 1) := dk_96 (dk_at dksX9_years_2 11 rfl rfl)
theorem dX9_years_57 : decode cX9_years 57 = .ok (.istore_n 3, 1) := dk_62 (dk_at dksX9_years_2 12 rfl rfl)
theorem dX9_years_58 : decode cX9_years 58 = .ok (.iinc 4 1, 3) := dk_132 4 1 (dk_at dksX9_years_2 13 rfl rfl)
theorem dX9_years_61 : decode cX9_years 61 = .ok (.goto (-19), 3) := dk_167 255 237 (dk_at dksX9_years_2 16 rfl rfl)
theorem dX9_years_64 : decode cX9_years 64 = .ok (.iload_n 3, 1) := dk_29 (dk_at dksX9_years_2 19 rfl rfl)
theorem dX9_years_65 : decode cX9_years 65 = .ok (.ireturn, 1) := dk_172 (dk_at dksX9_years_2 20 rfl rfl)
abbrev cX9_lives : ByteArray := prog_23_method_138_code
def yX9_lives : MethodName := ⟨RX9, "lives", "(II)I"⟩
def dkwX9_lives_8 : List UInt8 := [167, 255, 153, 21, 6, 172]
abbrev dktX9_lives_8 : List UInt8 := dkwX9_lives_8 ++ []
def dkwX9_lives_7 : List UInt8 := [21, 6, 21, 8, 156, 0, 9, 21, 8, 116, 167, 0, 5, 21, 8, 96, 54, 6, 132, 5, 1, 132, 7, 1]
abbrev dktX9_lives_7 : List UInt8 := dkwX9_lives_7 ++ dktX9_lives_8
def dkwX9_lives_6 : List UInt8 := [21, 8, 154, 0, 6, 167, 0, 39, 42, 180, 0, 33, 16, 10, 21, 7, 96, 92, 46, 21, 8, 96, 79]
abbrev dktX9_lives_6 : List UInt8 := dkwX9_lives_6 ++ dktX9_lives_7
def dkwX9_lives_5 : List UInt8 := [182, 1, 124, 100, 42, 180, 0, 30, 16, 7, 46, 116, 42, 180, 0, 30, 16, 7, 46, 184, 1, 105, 54, 8]
abbrev dktX9_lives_5 : List UInt8 := dkwX9_lives_5 ++ dktX9_lives_6
def dkwX9_lives_4 : List UInt8 := [162, 0, 98, 21, 5, 42, 180, 0, 30, 16, 6, 46, 162, 0, 86, 42, 21, 7, 182, 1, 127, 42, 21, 7]
abbrev dktX9_lives_4 : List UInt8 := dkwX9_lives_4 ++ dktX9_lives_5
def dkwX9_lives_3 : List UInt8 := [16, 30, 21, 4, 96, 29, 79, 3, 54, 5, 3, 54, 6, 3, 54, 7, 21, 7, 42, 180, 0, 30, 3, 46]
abbrev dktX9_lives_3 : List UInt8 := dkwX9_lives_3 ++ dktX9_lives_4
def dkwX9_lives_2 : List UInt8 := [42, 180, 0, 30, 3, 46, 184, 2, 24, 54, 4, 42, 29, 182, 1, 130, 156, 0, 14, 42, 180, 0, 33]
abbrev dktX9_lives_2 : List UInt8 := dkwX9_lives_2 ++ dktX9_lives_3
def dkwX9_lives_1 : List UInt8 := [27, 16, 10, 28, 104, 4, 96, 42, 180, 0, 30, 4, 46, 184, 2, 24, 62, 27, 16, 10, 28, 104, 5, 96]
abbrev dktX9_lives_1 : List UInt8 := dkwX9_lives_1 ++ dktX9_lives_2
def dkwX9_lives_0 : List UInt8 := [42, 180, 0, 33, 16, 30, 27, 16, 10, 28, 104, 42, 180, 0, 30, 3, 46, 184, 2, 24, 96, 16, 254, 79]
abbrev dktX9_lives_0 : List UInt8 := dkwX9_lives_0 ++ dktX9_lives_1
theorem dksX9_lives_0 : cX9_lives.data.toList.drop 0 = dktX9_lives_0 := by decide +kernel
theorem dksX9_lives_1 : cX9_lives.data.toList.drop 24 = dktX9_lives_1 := dk_seg dksX9_lives_0 24 rfl rfl
theorem dksX9_lives_2 : cX9_lives.data.toList.drop 48 = dktX9_lives_2 := dk_seg dksX9_lives_1 24 rfl rfl
theorem dksX9_lives_3 : cX9_lives.data.toList.drop 71 = dktX9_lives_3 := dk_seg dksX9_lives_2 23 rfl rfl
theorem dksX9_lives_4 : cX9_lives.data.toList.drop 95 = dktX9_lives_4 := dk_seg dksX9_lives_3 24 rfl rfl
theorem dksX9_lives_5 : cX9_lives.data.toList.drop 119 = dktX9_lives_5 := dk_seg dksX9_lives_4 24 rfl rfl
theorem dksX9_lives_6 : cX9_lives.data.toList.drop 143 = dktX9_lives_6 := dk_seg dksX9_lives_5 24 rfl rfl
theorem dksX9_lives_7 : cX9_lives.data.toList.drop 166 = dktX9_lives_7 := dk_seg dksX9_lives_6 23 rfl rfl
theorem dksX9_lives_8 : cX9_lives.data.toList.drop 190 = dktX9_lives_8 := dk_seg dksX9_lives_7 24 rfl rfl
theorem dX9_lives_0 : decode cX9_lives 0 = .ok (.aload_n 0, 1) := dk_42 (dk_at dksX9_lives_0 0 rfl rfl)
theorem dX9_lives_1 : decode cX9_lives 1 = .ok (.getfield 33, 3) := dk_180 0 33 (dk_at dksX9_lives_0 1 rfl rfl)
theorem dX9_lives_4 : decode cX9_lives 4 = .ok (.bipush 30, 2) := dk_16 30 (dk_at dksX9_lives_0 4 rfl rfl)
theorem dX9_lives_6 : decode cX9_lives 6 = .ok (.iload_n 1, 1) := dk_27 (dk_at dksX9_lives_0 6 rfl rfl)
theorem dX9_lives_7 : decode cX9_lives 7 = .ok (.bipush 10, 2) := dk_16 10 (dk_at dksX9_lives_0 7 rfl rfl)
theorem dX9_lives_9 : decode cX9_lives 9 = .ok (.iload_n 2, 1) := dk_28 (dk_at dksX9_lives_0 9 rfl rfl)
theorem dX9_lives_10 : decode cX9_lives 10 = .ok (.imul, 1) := dk_104 (dk_at dksX9_lives_0 10 rfl rfl)
theorem dX9_lives_11 : decode cX9_lives 11 = .ok (.aload_n 0, 1) := dk_42 (dk_at dksX9_lives_0 11 rfl rfl)
theorem dX9_lives_12 : decode cX9_lives 12 = .ok (.getfield 30, 3) := dk_180 0 30 (dk_at dksX9_lives_0 12 rfl rfl)
theorem dX9_lives_15 : decode cX9_lives 15 = .ok (.iconst 0, 1) := dk_3 (dk_at dksX9_lives_0 15 rfl rfl)
theorem dX9_lives_16 : decode cX9_lives 16 = .ok (.iaload, 1) := dk_46 (dk_at dksX9_lives_0 16 rfl rfl)
theorem dX9_lives_17 : decode cX9_lives 17 = .ok (.invokestatic 536, 3) := dk_184 2 24 (dk_at dksX9_lives_0 17 rfl rfl)
theorem dX9_lives_20 : decode cX9_lives 20 = .ok (.iadd, 1) := dk_96 (dk_at dksX9_lives_0 20 rfl rfl)
theorem dX9_lives_21 : decode cX9_lives 21 = .ok (.bipush (-2), 2) := dk_16 254 (dk_at dksX9_lives_0 21 rfl rfl)
theorem dX9_lives_23 : decode cX9_lives 23 = .ok (.iastore, 1) := dk_79 (dk_at dksX9_lives_0 23 rfl rfl)
theorem dX9_lives_24 : decode cX9_lives 24 = .ok (.iload_n 1, 1) := dk_27 (dk_at dksX9_lives_1 0 rfl rfl)
theorem dX9_lives_25 : decode cX9_lives 25 = .ok (.bipush 10, 2) := dk_16 10 (dk_at dksX9_lives_1 1 rfl rfl)
theorem dX9_lives_27 : decode cX9_lives 27 = .ok (.iload_n 2, 1) := dk_28 (dk_at dksX9_lives_1 3 rfl rfl)
theorem dX9_lives_28 : decode cX9_lives 28 = .ok (.imul, 1) := dk_104 (dk_at dksX9_lives_1 4 rfl rfl)
theorem dX9_lives_29 : decode cX9_lives 29 = .ok (.iconst 1, 1) := dk_4 (dk_at dksX9_lives_1 5 rfl rfl)
theorem dX9_lives_30 : decode cX9_lives 30 = .ok (.iadd, 1) := dk_96 (dk_at dksX9_lives_1 6 rfl rfl)
theorem dX9_lives_31 : decode cX9_lives 31 = .ok (.aload_n 0, 1) := dk_42 (dk_at dksX9_lives_1 7 rfl rfl)
theorem dX9_lives_32 : decode cX9_lives 32 = .ok (.getfield 30, 3) := dk_180 0 30 (dk_at dksX9_lives_1 8 rfl rfl)
theorem dX9_lives_35 : decode cX9_lives 35 = .ok (.iconst 1, 1) := dk_4 (dk_at dksX9_lives_1 11 rfl rfl)
theorem dX9_lives_36 : decode cX9_lives 36 = .ok (.iaload, 1) := dk_46 (dk_at dksX9_lives_1 12 rfl rfl)
theorem dX9_lives_37 : decode cX9_lives 37 = .ok (.invokestatic 536, 3) := dk_184 2 24 (dk_at dksX9_lives_1 13 rfl rfl)
theorem dX9_lives_40 : decode cX9_lives 40 = .ok (.istore_n 3, 1) := dk_62 (dk_at dksX9_lives_1 16 rfl rfl)
theorem dX9_lives_41 : decode cX9_lives 41 = .ok (.iload_n 1, 1) := dk_27 (dk_at dksX9_lives_1 17 rfl rfl)
theorem dX9_lives_42 : decode cX9_lives 42 = .ok (.bipush 10, 2) := dk_16 10 (dk_at dksX9_lives_1 18 rfl rfl)
theorem dX9_lives_44 : decode cX9_lives 44 = .ok (.iload_n 2, 1) := dk_28 (dk_at dksX9_lives_1 20 rfl rfl)
theorem dX9_lives_45 : decode cX9_lives 45 = .ok (.imul, 1) := dk_104 (dk_at dksX9_lives_1 21 rfl rfl)
theorem dX9_lives_46 : decode cX9_lives 46 = .ok (.iconst 2, 1) := dk_5 (dk_at dksX9_lives_1 22 rfl rfl)
theorem dX9_lives_47 : decode cX9_lives 47 = .ok (.iadd, 1) := dk_96 (dk_at dksX9_lives_1 23 rfl rfl)
theorem dX9_lives_48 : decode cX9_lives 48 = .ok (.aload_n 0, 1) := dk_42 (dk_at dksX9_lives_2 0 rfl rfl)
theorem dX9_lives_49 : decode cX9_lives 49 = .ok (.getfield 30, 3) := dk_180 0 30 (dk_at dksX9_lives_2 1 rfl rfl)
theorem dX9_lives_52 : decode cX9_lives 52 = .ok (.iconst 0, 1) := dk_3 (dk_at dksX9_lives_2 4 rfl rfl)
theorem dX9_lives_53 : decode cX9_lives 53 = .ok (.iaload, 1) := dk_46 (dk_at dksX9_lives_2 5 rfl rfl)
theorem dX9_lives_54 : decode cX9_lives 54 = .ok (.invokestatic 536, 3) := dk_184 2 24 (dk_at dksX9_lives_2 6 rfl rfl)
theorem dX9_lives_57 : decode cX9_lives 57 = .ok (.istore 4, 2) := dk_54 4 (dk_at dksX9_lives_2 9 rfl rfl)
theorem dX9_lives_59 : decode cX9_lives 59 = .ok (.aload_n 0, 1) := dk_42 (dk_at dksX9_lives_2 11 rfl rfl)
theorem dX9_lives_60 : decode cX9_lives 60 = .ok (.iload_n 3, 1) := dk_29 (dk_at dksX9_lives_2 12 rfl rfl)
theorem dX9_lives_61 : decode cX9_lives 61 = .ok (.invokevirtual 386, 3) := dk_182 1 130 (dk_at dksX9_lives_2 13 rfl rfl)
theorem dX9_lives_64 : decode cX9_lives 64 = .ok (.ifCond .ge 14, 3) := dk_156 0 14 (dk_at dksX9_lives_2 16 rfl rfl)
theorem dX9_lives_67 : decode cX9_lives 67 = .ok (.aload_n 0, 1) := dk_42 (dk_at dksX9_lives_2 19 rfl rfl)
theorem dX9_lives_68 : decode cX9_lives 68 = .ok (.getfield 33, 3) := dk_180 0 33 (dk_at dksX9_lives_2 20 rfl rfl)
theorem dX9_lives_71 : decode cX9_lives 71 = .ok (.bipush 30, 2) := dk_16 30 (dk_at dksX9_lives_3 0 rfl rfl)
theorem dX9_lives_73 : decode cX9_lives 73 = .ok (.iload 4, 2) := dk_21 4 (dk_at dksX9_lives_3 2 rfl rfl)
theorem dX9_lives_75 : decode cX9_lives 75 = .ok (.iadd, 1) := dk_96 (dk_at dksX9_lives_3 4 rfl rfl)
theorem dX9_lives_76 : decode cX9_lives 76 = .ok (.iload_n 3, 1) := dk_29 (dk_at dksX9_lives_3 5 rfl rfl)
theorem dX9_lives_77 : decode cX9_lives 77 = .ok (.iastore, 1) := dk_79 (dk_at dksX9_lives_3 6 rfl rfl)
theorem dX9_lives_78 : decode cX9_lives 78 = .ok (.iconst 0, 1) := dk_3 (dk_at dksX9_lives_3 7 rfl rfl)
theorem dX9_lives_79 : decode cX9_lives 79 = .ok (.istore 5, 2) := dk_54 5 (dk_at dksX9_lives_3 8 rfl rfl)
theorem dX9_lives_81 : decode cX9_lives 81 = .ok (.iconst 0, 1) := dk_3 (dk_at dksX9_lives_3 10 rfl rfl)
theorem dX9_lives_82 : decode cX9_lives 82 = .ok (.istore 6, 2) := dk_54 6 (dk_at dksX9_lives_3 11 rfl rfl)
theorem dX9_lives_84 : decode cX9_lives 84 = .ok (.iconst 0, 1) := dk_3 (dk_at dksX9_lives_3 13 rfl rfl)
theorem dX9_lives_85 : decode cX9_lives 85 = .ok (.istore 7, 2) := dk_54 7 (dk_at dksX9_lives_3 14 rfl rfl)
theorem dX9_lives_87 : decode cX9_lives 87 = .ok (.iload 7, 2) := dk_21 7 (dk_at dksX9_lives_3 16 rfl rfl)
theorem dX9_lives_89 : decode cX9_lives 89 = .ok (.aload_n 0, 1) := dk_42 (dk_at dksX9_lives_3 18 rfl rfl)
theorem dX9_lives_90 : decode cX9_lives 90 = .ok (.getfield 30, 3) := dk_180 0 30 (dk_at dksX9_lives_3 19 rfl rfl)
theorem dX9_lives_93 : decode cX9_lives 93 = .ok (.iconst 0, 1) := dk_3 (dk_at dksX9_lives_3 22 rfl rfl)
theorem dX9_lives_94 : decode cX9_lives 94 = .ok (.iaload, 1) := dk_46 (dk_at dksX9_lives_3 23 rfl rfl)
theorem dX9_lives_95 : decode cX9_lives 95 = .ok (.if_icmp .ge 98, 3) := dk_162 0 98 (dk_at dksX9_lives_4 0 rfl rfl)
theorem dX9_lives_98 : decode cX9_lives 98 = .ok (.iload 5, 2) := dk_21 5 (dk_at dksX9_lives_4 3 rfl rfl)
theorem dX9_lives_100 : decode cX9_lives 100 = .ok (.aload_n 0, 1) := dk_42 (dk_at dksX9_lives_4 5 rfl rfl)
theorem dX9_lives_101 : decode cX9_lives 101 = .ok (.getfield 30, 3) := dk_180 0 30 (dk_at dksX9_lives_4 6 rfl rfl)
theorem dX9_lives_104 : decode cX9_lives 104 = .ok (.bipush 6, 2) := dk_16 6 (dk_at dksX9_lives_4 9 rfl rfl)
theorem dX9_lives_106 : decode cX9_lives 106 = .ok (.iaload, 1) := dk_46 (dk_at dksX9_lives_4 11 rfl rfl)
theorem dX9_lives_107 : decode cX9_lives 107 = .ok (.if_icmp .ge 86, 3) := dk_162 0 86 (dk_at dksX9_lives_4 12 rfl rfl)
theorem dX9_lives_110 : decode cX9_lives 110 = .ok (.aload_n 0, 1) := dk_42 (dk_at dksX9_lives_4 15 rfl rfl)
theorem dX9_lives_111 : decode cX9_lives 111 = .ok (.iload 7, 2) := dk_21 7 (dk_at dksX9_lives_4 16 rfl rfl)
theorem dX9_lives_113 : decode cX9_lives 113 = .ok (.invokevirtual 383, 3) := dk_182 1 127 (dk_at dksX9_lives_4 18 rfl rfl)
theorem dX9_lives_116 : decode cX9_lives 116 = .ok (.aload_n 0, 1) := dk_42 (dk_at dksX9_lives_4 21 rfl rfl)
theorem dX9_lives_117 : decode cX9_lives 117 = .ok (.iload 7, 2) := dk_21 7 (dk_at dksX9_lives_4 22 rfl rfl)
theorem dX9_lives_119 : decode cX9_lives 119 = .ok (.invokevirtual 380, 3) := dk_182 1 124 (dk_at dksX9_lives_5 0 rfl rfl)
theorem dX9_lives_122 : decode cX9_lives 122 = .ok (.isub, 1) := dk_100 (dk_at dksX9_lives_5 3 rfl rfl)
theorem dX9_lives_123 : decode cX9_lives 123 = .ok (.aload_n 0, 1) := dk_42 (dk_at dksX9_lives_5 4 rfl rfl)
theorem dX9_lives_124 : decode cX9_lives 124 = .ok (.getfield 30, 3) := dk_180 0 30 (dk_at dksX9_lives_5 5 rfl rfl)
theorem dX9_lives_127 : decode cX9_lives 127 = .ok (.bipush 7, 2) := dk_16 7 (dk_at dksX9_lives_5 8 rfl rfl)
theorem dX9_lives_129 : decode cX9_lives 129 = .ok (.iaload, 1) := dk_46 (dk_at dksX9_lives_5 10 rfl rfl)
theorem dX9_lives_130 : decode cX9_lives 130 = .ok (.ineg, 1) := dk_116 (dk_at dksX9_lives_5 11 rfl rfl)
theorem dX9_lives_131 : decode cX9_lives 131 = .ok (.aload_n 0, 1) := dk_42 (dk_at dksX9_lives_5 12 rfl rfl)
theorem dX9_lives_132 : decode cX9_lives 132 = .ok (.getfield 30, 3) := dk_180 0 30 (dk_at dksX9_lives_5 13 rfl rfl)
theorem dX9_lives_135 : decode cX9_lives 135 = .ok (.bipush 7, 2) := dk_16 7 (dk_at dksX9_lives_5 16 rfl rfl)
theorem dX9_lives_137 : decode cX9_lives 137 = .ok (.iaload, 1) := dk_46 (dk_at dksX9_lives_5 18 rfl rfl)
theorem dX9_lives_138 : decode cX9_lives 138 = .ok (.invokestatic 361, 3) := dk_184 1 105 (dk_at dksX9_lives_5 19 rfl rfl)
theorem dX9_lives_141 : decode cX9_lives 141 = .ok (.istore 8, 2) := dk_54 8 (dk_at dksX9_lives_5 22 rfl rfl)
theorem dX9_lives_143 : decode cX9_lives 143 = .ok (.iload 8, 2) := dk_21 8 (dk_at dksX9_lives_6 0 rfl rfl)
theorem dX9_lives_145 : decode cX9_lives 145 = .ok (.ifCond .ne 6, 3) := dk_154 0 6 (dk_at dksX9_lives_6 2 rfl rfl)
theorem dX9_lives_148 : decode cX9_lives 148 = .ok (.goto 39, 3) := dk_167 0 39 (dk_at dksX9_lives_6 5 rfl rfl)
theorem dX9_lives_151 : decode cX9_lives 151 = .ok (.aload_n 0, 1) := dk_42 (dk_at dksX9_lives_6 8 rfl rfl)
theorem dX9_lives_152 : decode cX9_lives 152 = .ok (.getfield 33, 3) := dk_180 0 33 (dk_at dksX9_lives_6 9 rfl rfl)
theorem dX9_lives_155 : decode cX9_lives 155 = .ok (.bipush 10, 2) := dk_16 10 (dk_at dksX9_lives_6 12 rfl rfl)
theorem dX9_lives_157 : decode cX9_lives 157 = .ok (.iload 7, 2) := dk_21 7 (dk_at dksX9_lives_6 14 rfl rfl)
theorem dX9_lives_159 : decode cX9_lives 159 = .ok (.iadd, 1) := dk_96 (dk_at dksX9_lives_6 16 rfl rfl)
theorem dX9_lives_160 : decode cX9_lives 160 = .ok (.dup2, 1) := dk_92 (dk_at dksX9_lives_6 17 rfl rfl)
theorem dX9_lives_161 : decode cX9_lives 161 = .ok (.iaload, 1) := dk_46 (dk_at dksX9_lives_6 18 rfl rfl)
theorem dX9_lives_162 : decode cX9_lives 162 = .ok (.iload 8, 2) := dk_21 8 (dk_at dksX9_lives_6 19 rfl rfl)
theorem dX9_lives_164 : decode cX9_lives 164 = .ok (.iadd, 1) := dk_96 (dk_at dksX9_lives_6 21 rfl rfl)
theorem dX9_lives_165 : decode cX9_lives 165 = .ok (.iastore, 1) := dk_79 (dk_at dksX9_lives_6 22 rfl rfl)
theorem dX9_lives_166 : decode cX9_lives 166 = .ok (.iload 6, 2) := dk_21 6 (dk_at dksX9_lives_7 0 rfl rfl)
theorem dX9_lives_168 : decode cX9_lives 168 = .ok (.iload 8, 2) := dk_21 8 (dk_at dksX9_lives_7 2 rfl rfl)
theorem dX9_lives_170 : decode cX9_lives 170 = .ok (.ifCond .ge 9, 3) := dk_156 0 9 (dk_at dksX9_lives_7 4 rfl rfl)
theorem dX9_lives_173 : decode cX9_lives 173 = .ok (.iload 8, 2) := dk_21 8 (dk_at dksX9_lives_7 7 rfl rfl)
theorem dX9_lives_175 : decode cX9_lives 175 = .ok (.ineg, 1) := dk_116 (dk_at dksX9_lives_7 9 rfl rfl)
theorem dX9_lives_176 : decode cX9_lives 176 = .ok (.goto 5, 3) := dk_167 0 5 (dk_at dksX9_lives_7 10 rfl rfl)
theorem dX9_lives_179 : decode cX9_lives 179 = .ok (.iload 8, 2) := dk_21 8 (dk_at dksX9_lives_7 13 rfl rfl)
theorem dX9_lives_181 : decode cX9_lives 181 = .ok (.iadd, 1) := dk_96 (dk_at dksX9_lives_7 15 rfl rfl)
theorem dX9_lives_182 : decode cX9_lives 182 = .ok (.istore 6, 2) := dk_54 6 (dk_at dksX9_lives_7 16 rfl rfl)
theorem dX9_lives_184 : decode cX9_lives 184 = .ok (.iinc 5 1, 3) := dk_132 5 1 (dk_at dksX9_lives_7 18 rfl rfl)
theorem dX9_lives_187 : decode cX9_lives 187 = .ok (.iinc 7 1, 3) := dk_132 7 1 (dk_at dksX9_lives_7 21 rfl rfl)
theorem dX9_lives_190 : decode cX9_lives 190 = .ok (.goto (-103), 3) := dk_167 255 153 (dk_at dksX9_lives_8 0 rfl rfl)
theorem dX9_lives_193 : decode cX9_lives 193 = .ok (.iload 6, 2) := dk_21 6 (dk_at dksX9_lives_8 3 rfl rfl)
theorem dX9_lives_195 : decode cX9_lives 195 = .ok (.ireturn, 1) := dk_172 (dk_at dksX9_lives_8 5 rfl rfl)
abbrev cX9_lot : ByteArray := prog_23_method_137_code
def yX9_lot : MethodName := ⟨RX9, "lot", "(III)I"⟩
def dkwX9_lot_0 : List UInt8 := [26, 16, 18, 184, 2, 21, 27, 184, 2, 21, 4, 124, 28, 112, 172]
abbrev dktX9_lot_0 : List UInt8 := dkwX9_lot_0 ++ []
theorem dksX9_lot_0 : cX9_lot.data.toList.drop 0 = dktX9_lot_0 := by decide +kernel
theorem dX9_lot_0 : decode cX9_lot 0 = .ok (.iload_n 0, 1) := dk_26 (dk_at dksX9_lot_0 0 rfl rfl)
theorem dX9_lot_1 : decode cX9_lot 1 = .ok (.bipush 18, 2) := dk_16 18 (dk_at dksX9_lot_0 1 rfl rfl)
theorem dX9_lot_3 : decode cX9_lot 3 = .ok (.invokestatic 533, 3) := dk_184 2 21 (dk_at dksX9_lot_0 3 rfl rfl)
theorem dX9_lot_6 : decode cX9_lot 6 = .ok (.iload_n 1, 1) := dk_27 (dk_at dksX9_lot_0 6 rfl rfl)
theorem dX9_lot_7 : decode cX9_lot 7 = .ok (.invokestatic 533, 3) := dk_184 2 21 (dk_at dksX9_lot_0 7 rfl rfl)
theorem dX9_lot_10 : decode cX9_lot 10 = .ok (.iconst 1, 1) := dk_4 (dk_at dksX9_lot_0 10 rfl rfl)
theorem dX9_lot_11 : decode cX9_lot 11 = .ok (.iushr, 1) := dk_124 (dk_at dksX9_lot_0 11 rfl rfl)
theorem dX9_lot_12 : decode cX9_lot 12 = .ok (.iload_n 2, 1) := dk_28 (dk_at dksX9_lot_0 12 rfl rfl)
theorem dX9_lot_13 : decode cX9_lot 13 = .ok (.irem, 1) := dk_112 (dk_at dksX9_lot_0 13 rfl rfl)
theorem dX9_lot_14 : decode cX9_lot 14 = .ok (.ireturn, 1) := dk_172 (dk_at dksX9_lot_0 14 rfl rfl)
abbrev cX9_mixed : ByteArray := prog_23_method_136_code
def yX9_mixed : MethodName := ⟨RX9, "mixed", "(II)I"⟩
def dkwX9_mixed_0 : List UInt8 := [26, 27, 130, 19, 2, 20, 104, 17, 48, 57, 96, 61, 28, 28, 16, 15, 124, 130, 172]
abbrev dktX9_mixed_0 : List UInt8 := dkwX9_mixed_0 ++ []
theorem dksX9_mixed_0 : cX9_mixed.data.toList.drop 0 = dktX9_mixed_0 := by decide +kernel
theorem dX9_mixed_0 : decode cX9_mixed 0 = .ok (.iload_n 0, 1) := dk_26 (dk_at dksX9_mixed_0 0 rfl rfl)
theorem dX9_mixed_1 : decode cX9_mixed 1 = .ok (.iload_n 1, 1) := dk_27 (dk_at dksX9_mixed_0 1 rfl rfl)
theorem dX9_mixed_2 : decode cX9_mixed 2 = .ok (.ixor, 1) := dk_130 (dk_at dksX9_mixed_0 2 rfl rfl)
theorem dX9_mixed_3 : decode cX9_mixed 3 = .ok (.ldc_w 532, 3) := dk_19 2 20 (dk_at dksX9_mixed_0 3 rfl rfl)
theorem dX9_mixed_6 : decode cX9_mixed 6 = .ok (.imul, 1) := dk_104 (dk_at dksX9_mixed_0 6 rfl rfl)
theorem dX9_mixed_7 : decode cX9_mixed 7 = .ok (.sipush 12345, 3) := dk_17 48 57 (dk_at dksX9_mixed_0 7 rfl rfl)
theorem dX9_mixed_10 : decode cX9_mixed 10 = .ok (.iadd, 1) := dk_96 (dk_at dksX9_mixed_0 10 rfl rfl)
theorem dX9_mixed_11 : decode cX9_mixed 11 = .ok (.istore_n 2, 1) := dk_61 (dk_at dksX9_mixed_0 11 rfl rfl)
theorem dX9_mixed_12 : decode cX9_mixed 12 = .ok (.iload_n 2, 1) := dk_28 (dk_at dksX9_mixed_0 12 rfl rfl)
theorem dX9_mixed_13 : decode cX9_mixed 13 = .ok (.iload_n 2, 1) := dk_28 (dk_at dksX9_mixed_0 13 rfl rfl)
theorem dX9_mixed_14 : decode cX9_mixed 14 = .ok (.bipush 15, 2) := dk_16 15 (dk_at dksX9_mixed_0 14 rfl rfl)
theorem dX9_mixed_16 : decode cX9_mixed 16 = .ok (.iushr, 1) := dk_124 (dk_at dksX9_mixed_0 16 rfl rfl)
theorem dX9_mixed_17 : decode cX9_mixed 17 = .ok (.ixor, 1) := dk_130 (dk_at dksX9_mixed_0 17 rfl rfl)
theorem dX9_mixed_18 : decode cX9_mixed 18 = .ok (.ireturn, 1) := dk_172 (dk_at dksX9_mixed_0 18 rfl rfl)
abbrev cX9_hold : ByteArray := prog_23_method_141_code
def yX9_hold : MethodName := ⟨RX9, "hold", "(I)Z"⟩
def dkwX9_hold_1 : List UInt8 := [27, 96, 4, 84, 4, 172]
abbrev dktX9_hold_1 : List UInt8 := dkwX9_hold_1 ++ []
def dkwX9_hold_0 : List UInt8 := [27, 155, 0, 8, 27, 4, 164, 0, 5, 3, 172, 42, 3, 4, 27, 96, 182, 2, 30, 42, 180, 0, 67, 4]
abbrev dktX9_hold_0 : List UInt8 := dkwX9_hold_0 ++ dktX9_hold_1
theorem dksX9_hold_0 : cX9_hold.data.toList.drop 0 = dktX9_hold_0 := by decide +kernel
theorem dksX9_hold_1 : cX9_hold.data.toList.drop 24 = dktX9_hold_1 := dk_seg dksX9_hold_0 24 rfl rfl
theorem dX9_hold_0 : decode cX9_hold 0 = .ok (.iload_n 1, 1) := dk_27 (dk_at dksX9_hold_0 0 rfl rfl)
theorem dX9_hold_1 : decode cX9_hold 1 = .ok (.ifCond .lt 8, 3) := dk_155 0 8 (dk_at dksX9_hold_0 1 rfl rfl)
theorem dX9_hold_4 : decode cX9_hold 4 = .ok (.iload_n 1, 1) := dk_27 (dk_at dksX9_hold_0 4 rfl rfl)
theorem dX9_hold_5 : decode cX9_hold 5 = .ok (.iconst 1, 1) := dk_4 (dk_at dksX9_hold_0 5 rfl rfl)
theorem dX9_hold_6 : decode cX9_hold 6 = .ok (.if_icmp .le 5, 3) := dk_164 0 5 (dk_at dksX9_hold_0 6 rfl rfl)
theorem dX9_hold_9 : decode cX9_hold 9 = .ok (.iconst 0, 1) := dk_3 (dk_at dksX9_hold_0 9 rfl rfl)
theorem dX9_hold_10 : decode cX9_hold 10 = .ok (.ireturn, 1) := dk_172 (dk_at dksX9_hold_0 10 rfl rfl)
theorem dX9_hold_11 : decode cX9_hold 11 = .ok (.aload_n 0, 1) := dk_42 (dk_at dksX9_hold_0 11 rfl rfl)
theorem dX9_hold_12 : decode cX9_hold 12 = .ok (.iconst 0, 1) := dk_3 (dk_at dksX9_hold_0 12 rfl rfl)
theorem dX9_hold_13 : decode cX9_hold 13 = .ok (.iconst 1, 1) := dk_4 (dk_at dksX9_hold_0 13 rfl rfl)
theorem dX9_hold_14 : decode cX9_hold 14 = .ok (.iload_n 1, 1) := dk_27 (dk_at dksX9_hold_0 14 rfl rfl)
theorem dX9_hold_15 : decode cX9_hold 15 = .ok (.iadd, 1) := dk_96 (dk_at dksX9_hold_0 15 rfl rfl)
theorem dX9_hold_16 : decode cX9_hold 16 = .ok (.invokevirtual 542, 3) := dk_182 2 30 (dk_at dksX9_hold_0 16 rfl rfl)
theorem dX9_hold_19 : decode cX9_hold 19 = .ok (.aload_n 0, 1) := dk_42 (dk_at dksX9_hold_0 19 rfl rfl)
theorem dX9_hold_20 : decode cX9_hold 20 = .ok (.getfield 67, 3) := dk_180 0 67 (dk_at dksX9_hold_0 20 rfl rfl)
theorem dX9_hold_23 : decode cX9_hold 23 = .ok (.iconst 1, 1) := dk_4 (dk_at dksX9_hold_0 23 rfl rfl)
theorem dX9_hold_24 : decode cX9_hold 24 = .ok (.iload_n 1, 1) := dk_27 (dk_at dksX9_hold_1 0 rfl rfl)
theorem dX9_hold_25 : decode cX9_hold 25 = .ok (.iadd, 1) := dk_96 (dk_at dksX9_hold_1 1 rfl rfl)
theorem dX9_hold_26 : decode cX9_hold 26 = .ok (.iconst 1, 1) := dk_4 (dk_at dksX9_hold_1 2 rfl rfl)
theorem dX9_hold_27 : decode cX9_hold 27 = .ok (.bastore, 1) := dk_84 (dk_at dksX9_hold_1 3 rfl rfl)
theorem dX9_hold_28 : decode cX9_hold 28 = .ok (.iconst 1, 1) := dk_4 (dk_at dksX9_hold_1 4 rfl rfl)
theorem dX9_hold_29 : decode cX9_hold 29 = .ok (.ireturn, 1) := dk_172 (dk_at dksX9_hold_1 5 rfl rfl)
abbrev cX9_copy : ByteArray := prog_23_method_140_code
def yX9_copy : MethodName := ⟨RX9, "copy", "(II)V"⟩
def dkwX9_copy_1 : List UInt8 := [17, 1, 164, 27, 104, 29, 96, 46, 79, 132, 3, 1, 167, 255, 222, 177]
abbrev dktX9_copy_1 : List UInt8 := dkwX9_copy_1 ++ []
def dkwX9_copy_0 : List UInt8 := [3, 62, 29, 17, 1, 164, 162, 0, 33, 42, 180, 0, 33, 17, 1, 164, 28, 104, 29, 96, 42, 180, 0, 33]
abbrev dktX9_copy_0 : List UInt8 := dkwX9_copy_0 ++ dktX9_copy_1
theorem dksX9_copy_0 : cX9_copy.data.toList.drop 0 = dktX9_copy_0 := by decide +kernel
theorem dksX9_copy_1 : cX9_copy.data.toList.drop 24 = dktX9_copy_1 := dk_seg dksX9_copy_0 24 rfl rfl
theorem dX9_copy_0 : decode cX9_copy 0 = .ok (.iconst 0, 1) := dk_3 (dk_at dksX9_copy_0 0 rfl rfl)
theorem dX9_copy_1 : decode cX9_copy 1 = .ok (.istore_n 3, 1) := dk_62 (dk_at dksX9_copy_0 1 rfl rfl)
theorem dX9_copy_2 : decode cX9_copy 2 = .ok (.iload_n 3, 1) := dk_29 (dk_at dksX9_copy_0 2 rfl rfl)
theorem dX9_copy_3 : decode cX9_copy 3 = .ok (.sipush 420, 3) := dk_17 1 164 (dk_at dksX9_copy_0 3 rfl rfl)
theorem dX9_copy_6 : decode cX9_copy 6 = .ok (.if_icmp .ge 33, 3) := dk_162 0 33 (dk_at dksX9_copy_0 6 rfl rfl)
theorem dX9_copy_9 : decode cX9_copy 9 = .ok (.aload_n 0, 1) := dk_42 (dk_at dksX9_copy_0 9 rfl rfl)
theorem dX9_copy_10 : decode cX9_copy 10 = .ok (.getfield 33, 3) := dk_180 0 33 (dk_at dksX9_copy_0 10 rfl rfl)
theorem dX9_copy_13 : decode cX9_copy 13 = .ok (.sipush 420, 3) := dk_17 1 164 (dk_at dksX9_copy_0 13 rfl rfl)
theorem dX9_copy_16 : decode cX9_copy 16 = .ok (.iload_n 2, 1) := dk_28 (dk_at dksX9_copy_0 16 rfl rfl)
theorem dX9_copy_17 : decode cX9_copy 17 = .ok (.imul, 1) := dk_104 (dk_at dksX9_copy_0 17 rfl rfl)
theorem dX9_copy_18 : decode cX9_copy 18 = .ok (.iload_n 3, 1) := dk_29 (dk_at dksX9_copy_0 18 rfl rfl)
theorem dX9_copy_19 : decode cX9_copy 19 = .ok (.iadd, 1) := dk_96 (dk_at dksX9_copy_0 19 rfl rfl)
theorem dX9_copy_20 : decode cX9_copy 20 = .ok (.aload_n 0, 1) := dk_42 (dk_at dksX9_copy_0 20 rfl rfl)
theorem dX9_copy_21 : decode cX9_copy 21 = .ok (.getfield 33, 3) := dk_180 0 33 (dk_at dksX9_copy_0 21 rfl rfl)
theorem dX9_copy_24 : decode cX9_copy 24 = .ok (.sipush 420, 3) := dk_17 1 164 (dk_at dksX9_copy_1 0 rfl rfl)
theorem dX9_copy_27 : decode cX9_copy 27 = .ok (.iload_n 1, 1) := dk_27 (dk_at dksX9_copy_1 3 rfl rfl)
theorem dX9_copy_28 : decode cX9_copy 28 = .ok (.imul, 1) := dk_104 (dk_at dksX9_copy_1 4 rfl rfl)
theorem dX9_copy_29 : decode cX9_copy 29 = .ok (.iload_n 3, 1) := dk_29 (dk_at dksX9_copy_1 5 rfl rfl)
theorem dX9_copy_30 : decode cX9_copy 30 = .ok (.iadd, 1) := dk_96 (dk_at dksX9_copy_1 6 rfl rfl)
theorem dX9_copy_31 : decode cX9_copy 31 = .ok (.iaload, 1) := dk_46 (dk_at dksX9_copy_1 7 rfl rfl)
theorem dX9_copy_32 : decode cX9_copy 32 = .ok (.iastore, 1) := dk_79 (dk_at dksX9_copy_1 8 rfl rfl)
theorem dX9_copy_33 : decode cX9_copy 33 = .ok (.iinc 3 1, 3) := dk_132 3 1 (dk_at dksX9_copy_1 9 rfl rfl)
theorem dX9_copy_36 : decode cX9_copy 36 = .ok (.goto (-34), 3) := dk_167 255 222 (dk_at dksX9_copy_1 12 rfl rfl)
theorem dX9_copy_39 : decode cX9_copy 39 = .ok (.return_, 1) := dk_177 (dk_at dksX9_copy_1 15 rfl rfl)
abbrev cX9_restore : ByteArray := prog_23_method_142_code
def yX9_restore : MethodName := ⟨RX9, "restore", "(I)Z"⟩
def dkwX9_restore_1 : List UInt8 := [27, 96, 3, 182, 2, 30, 42, 3, 181, 1, 27, 4, 172]
abbrev dktX9_restore_1 : List UInt8 := dkwX9_restore_1 ++ []
def dkwX9_restore_0 : List UInt8 := [27, 155, 0, 19, 27, 4, 163, 0, 14, 42, 180, 0, 67, 4, 27, 96, 51, 154, 0, 5, 3, 172, 42, 4]
abbrev dktX9_restore_0 : List UInt8 := dkwX9_restore_0 ++ dktX9_restore_1
theorem dksX9_restore_0 : cX9_restore.data.toList.drop 0 = dktX9_restore_0 := by decide +kernel
theorem dksX9_restore_1 : cX9_restore.data.toList.drop 24 = dktX9_restore_1 := dk_seg dksX9_restore_0 24 rfl rfl
theorem dX9_restore_0 : decode cX9_restore 0 = .ok (.iload_n 1, 1) := dk_27 (dk_at dksX9_restore_0 0 rfl rfl)
theorem dX9_restore_1 : decode cX9_restore 1 = .ok (.ifCond .lt 19, 3) := dk_155 0 19 (dk_at dksX9_restore_0 1 rfl rfl)
theorem dX9_restore_4 : decode cX9_restore 4 = .ok (.iload_n 1, 1) := dk_27 (dk_at dksX9_restore_0 4 rfl rfl)
theorem dX9_restore_5 : decode cX9_restore 5 = .ok (.iconst 1, 1) := dk_4 (dk_at dksX9_restore_0 5 rfl rfl)
theorem dX9_restore_6 : decode cX9_restore 6 = .ok (.if_icmp .gt 14, 3) := dk_163 0 14 (dk_at dksX9_restore_0 6 rfl rfl)
theorem dX9_restore_9 : decode cX9_restore 9 = .ok (.aload_n 0, 1) := dk_42 (dk_at dksX9_restore_0 9 rfl rfl)
theorem dX9_restore_10 : decode cX9_restore 10 = .ok (.getfield 67, 3) := dk_180 0 67 (dk_at dksX9_restore_0 10 rfl rfl)
theorem dX9_restore_13 : decode cX9_restore 13 = .ok (.iconst 1, 1) := dk_4 (dk_at dksX9_restore_0 13 rfl rfl)
theorem dX9_restore_14 : decode cX9_restore 14 = .ok (.iload_n 1, 1) := dk_27 (dk_at dksX9_restore_0 14 rfl rfl)
theorem dX9_restore_15 : decode cX9_restore 15 = .ok (.iadd, 1) := dk_96 (dk_at dksX9_restore_0 15 rfl rfl)
theorem dX9_restore_16 : decode cX9_restore 16 = .ok (.baload, 1) := dk_51 (dk_at dksX9_restore_0 16 rfl rfl)
theorem dX9_restore_17 : decode cX9_restore 17 = .ok (.ifCond .ne 5, 3) := dk_154 0 5 (dk_at dksX9_restore_0 17 rfl rfl)
theorem dX9_restore_20 : decode cX9_restore 20 = .ok (.iconst 0, 1) := dk_3 (dk_at dksX9_restore_0 20 rfl rfl)
theorem dX9_restore_21 : decode cX9_restore 21 = .ok (.ireturn, 1) := dk_172 (dk_at dksX9_restore_0 21 rfl rfl)
theorem dX9_restore_22 : decode cX9_restore 22 = .ok (.aload_n 0, 1) := dk_42 (dk_at dksX9_restore_0 22 rfl rfl)
theorem dX9_restore_23 : decode cX9_restore 23 = .ok (.iconst 1, 1) := dk_4 (dk_at dksX9_restore_0 23 rfl rfl)
theorem dX9_restore_24 : decode cX9_restore 24 = .ok (.iload_n 1, 1) := dk_27 (dk_at dksX9_restore_1 0 rfl rfl)
theorem dX9_restore_25 : decode cX9_restore 25 = .ok (.iadd, 1) := dk_96 (dk_at dksX9_restore_1 1 rfl rfl)
theorem dX9_restore_26 : decode cX9_restore 26 = .ok (.iconst 0, 1) := dk_3 (dk_at dksX9_restore_1 2 rfl rfl)
theorem dX9_restore_27 : decode cX9_restore 27 = .ok (.invokevirtual 542, 3) := dk_182 2 30 (dk_at dksX9_restore_1 3 rfl rfl)
theorem dX9_restore_30 : decode cX9_restore 30 = .ok (.aload_n 0, 1) := dk_42 (dk_at dksX9_restore_1 6 rfl rfl)
theorem dX9_restore_31 : decode cX9_restore 31 = .ok (.iconst 0, 1) := dk_3 (dk_at dksX9_restore_1 7 rfl rfl)
theorem dX9_restore_32 : decode cX9_restore 32 = .ok (.putfield 283, 3) := dk_181 1 27 (dk_at dksX9_restore_1 8 rfl rfl)
theorem dX9_restore_35 : decode cX9_restore 35 = .ok (.iconst 1, 1) := dk_4 (dk_at dksX9_restore_1 11 rfl rfl)
theorem dX9_restore_36 : decode cX9_restore 36 = .ok (.ireturn, 1) := dk_172 (dk_at dksX9_restore_1 12 rfl rfl)
abbrev cX9_count : ByteArray := prog_23_method_143_code
def yX9_count : MethodName := ⟨RX9, "count", "(I)I"⟩
def dkwX9_count_7 : List UInt8 := [42, 180, 1, 24, 172, 42, 180, 0, 30, 16, 8, 46, 172, 42, 180, 0, 30, 16, 9, 46, 172, 2, 172]
abbrev dktX9_count_7 : List UInt8 := dkwX9_count_7 ++ []
def dkwX9_count_6 : List UInt8 := [153, 0, 7, 4, 167, 0, 4, 3, 42, 180, 0, 67, 5, 51, 153, 0, 7, 4, 167, 0, 4, 3, 96, 172]
abbrev dktX9_count_6 : List UInt8 := dkwX9_count_6 ++ dktX9_count_7
def dkwX9_count_5 : List UInt8 := [180, 0, 33, 3, 46, 172, 42, 180, 1, 27, 172, 42, 180, 0, 125, 172, 42, 180, 0, 67, 4, 51]
abbrev dktX9_count_5 : List UInt8 := dkwX9_count_5 ++ dktX9_count_6
def dkwX9_count_4 : List UInt8 := [180, 0, 30, 16, 7, 46, 172, 42, 180, 0, 33, 4, 46, 172, 42, 180, 0, 33, 5, 46, 172, 42]
abbrev dktX9_count_4 : List UInt8 := dkwX9_count_4 ++ dktX9_count_5
def dkwX9_count_3 : List UInt8 := [180, 0, 30, 7, 46, 172, 42, 180, 0, 30, 8, 46, 172, 42, 180, 0, 30, 16, 6, 46, 172, 42]
abbrev dktX9_count_3 : List UInt8 := dkwX9_count_3 ++ dktX9_count_4
def dkwX9_count_2 : List UInt8 := [42, 180, 0, 30, 3, 46, 172, 42, 180, 0, 30, 4, 46, 172, 42, 180, 0, 30, 6, 46, 172, 42]
abbrev dktX9_count_2 : List UInt8 := dkwX9_count_2 ++ dktX9_count_3
def dkwX9_count_1 : List UInt8 := [170, 0, 0, 0, 0, 0, 212, 0, 0, 0, 0, 0, 0, 0, 15, 0, 0, 0, 79, 0, 0, 0, 86, 0, 0, 0, 93, 0, 0, 0, 100, 0, 0, 0, 107, 0, 0, 0, 114, 0, 0, 0, 122, 0, 0, 0, 130, 0, 0, 0, 137, 0, 0, 0, 144, 0, 0, 0, 151, 0, 0, 0, 156, 0, 0, 0, 161, 0, 0, 0, 191, 0, 0, 0, 196, 0, 0, 0, 204]
abbrev dktX9_count_1 : List UInt8 := dkwX9_count_1 ++ dktX9_count_2
def dkwX9_count_0 : List UInt8 := [27]
abbrev dktX9_count_0 : List UInt8 := dkwX9_count_0 ++ dktX9_count_1
theorem dksX9_count_0 : cX9_count.data.toList.drop 0 = dktX9_count_0 := by decide +kernel
theorem dksX9_count_1 : cX9_count.data.toList.drop 1 = dktX9_count_1 := dk_seg dksX9_count_0 1 rfl rfl
theorem dksX9_count_2 : cX9_count.data.toList.drop 80 = dktX9_count_2 := dk_seg dksX9_count_1 79 rfl rfl
theorem dksX9_count_3 : cX9_count.data.toList.drop 102 = dktX9_count_3 := dk_seg dksX9_count_2 22 rfl rfl
theorem dksX9_count_4 : cX9_count.data.toList.drop 124 = dktX9_count_4 := dk_seg dksX9_count_3 22 rfl rfl
theorem dksX9_count_5 : cX9_count.data.toList.drop 146 = dktX9_count_5 := dk_seg dksX9_count_4 22 rfl rfl
theorem dksX9_count_6 : cX9_count.data.toList.drop 168 = dktX9_count_6 := dk_seg dksX9_count_5 22 rfl rfl
theorem dksX9_count_7 : cX9_count.data.toList.drop 192 = dktX9_count_7 := dk_seg dksX9_count_6 24 rfl rfl
theorem dX9_count_0 : decode cX9_count 0 = .ok (.iload_n 1, 1) := dk_27 (dk_at dksX9_count_0 0 rfl rfl)
theorem dX9_count_1 : decode cX9_count 1 = .ok (.tableswitch 212 0 15 #[79, 86, 93, 100, 107, 114, 122, 130, 137, 144, 151, 156, 161, 191, 196, 204], 79) := by decide +kernel
theorem dX9_count_80 : decode cX9_count 80 = .ok (.aload_n 0, 1) := dk_42 (dk_at dksX9_count_2 0 rfl rfl)
theorem dX9_count_81 : decode cX9_count 81 = .ok (.getfield 30, 3) := dk_180 0 30 (dk_at dksX9_count_2 1 rfl rfl)
theorem dX9_count_84 : decode cX9_count 84 = .ok (.iconst 0, 1) := dk_3 (dk_at dksX9_count_2 4 rfl rfl)
theorem dX9_count_85 : decode cX9_count 85 = .ok (.iaload, 1) := dk_46 (dk_at dksX9_count_2 5 rfl rfl)
theorem dX9_count_86 : decode cX9_count 86 = .ok (.ireturn, 1) := dk_172 (dk_at dksX9_count_2 6 rfl rfl)
theorem dX9_count_87 : decode cX9_count 87 = .ok (.aload_n 0, 1) := dk_42 (dk_at dksX9_count_2 7 rfl rfl)
theorem dX9_count_88 : decode cX9_count 88 = .ok (.getfield 30, 3) := dk_180 0 30 (dk_at dksX9_count_2 8 rfl rfl)
theorem dX9_count_91 : decode cX9_count 91 = .ok (.iconst 1, 1) := dk_4 (dk_at dksX9_count_2 11 rfl rfl)
theorem dX9_count_92 : decode cX9_count 92 = .ok (.iaload, 1) := dk_46 (dk_at dksX9_count_2 12 rfl rfl)
theorem dX9_count_93 : decode cX9_count 93 = .ok (.ireturn, 1) := dk_172 (dk_at dksX9_count_2 13 rfl rfl)
theorem dX9_count_94 : decode cX9_count 94 = .ok (.aload_n 0, 1) := dk_42 (dk_at dksX9_count_2 14 rfl rfl)
theorem dX9_count_95 : decode cX9_count 95 = .ok (.getfield 30, 3) := dk_180 0 30 (dk_at dksX9_count_2 15 rfl rfl)
theorem dX9_count_98 : decode cX9_count 98 = .ok (.iconst 3, 1) := dk_6 (dk_at dksX9_count_2 18 rfl rfl)
theorem dX9_count_99 : decode cX9_count 99 = .ok (.iaload, 1) := dk_46 (dk_at dksX9_count_2 19 rfl rfl)
theorem dX9_count_100 : decode cX9_count 100 = .ok (.ireturn, 1) := dk_172 (dk_at dksX9_count_2 20 rfl rfl)
theorem dX9_count_101 : decode cX9_count 101 = .ok (.aload_n 0, 1) := dk_42 (dk_at dksX9_count_2 21 rfl rfl)
theorem dX9_count_102 : decode cX9_count 102 = .ok (.getfield 30, 3) := dk_180 0 30 (dk_at dksX9_count_3 0 rfl rfl)
theorem dX9_count_105 : decode cX9_count 105 = .ok (.iconst 4, 1) := dk_7 (dk_at dksX9_count_3 3 rfl rfl)
theorem dX9_count_106 : decode cX9_count 106 = .ok (.iaload, 1) := dk_46 (dk_at dksX9_count_3 4 rfl rfl)
theorem dX9_count_107 : decode cX9_count 107 = .ok (.ireturn, 1) := dk_172 (dk_at dksX9_count_3 5 rfl rfl)
theorem dX9_count_108 : decode cX9_count 108 = .ok (.aload_n 0, 1) := dk_42 (dk_at dksX9_count_3 6 rfl rfl)
theorem dX9_count_109 : decode cX9_count 109 = .ok (.getfield 30, 3) := dk_180 0 30 (dk_at dksX9_count_3 7 rfl rfl)
theorem dX9_count_112 : decode cX9_count 112 = .ok (.iconst 5, 1) := dk_8 (dk_at dksX9_count_3 10 rfl rfl)
theorem dX9_count_113 : decode cX9_count 113 = .ok (.iaload, 1) := dk_46 (dk_at dksX9_count_3 11 rfl rfl)
theorem dX9_count_114 : decode cX9_count 114 = .ok (.ireturn, 1) := dk_172 (dk_at dksX9_count_3 12 rfl rfl)
theorem dX9_count_115 : decode cX9_count 115 = .ok (.aload_n 0, 1) := dk_42 (dk_at dksX9_count_3 13 rfl rfl)
theorem dX9_count_116 : decode cX9_count 116 = .ok (.getfield 30, 3) := dk_180 0 30 (dk_at dksX9_count_3 14 rfl rfl)
theorem dX9_count_119 : decode cX9_count 119 = .ok (.bipush 6, 2) := dk_16 6 (dk_at dksX9_count_3 17 rfl rfl)
theorem dX9_count_121 : decode cX9_count 121 = .ok (.iaload, 1) := dk_46 (dk_at dksX9_count_3 19 rfl rfl)
theorem dX9_count_122 : decode cX9_count 122 = .ok (.ireturn, 1) := dk_172 (dk_at dksX9_count_3 20 rfl rfl)
theorem dX9_count_123 : decode cX9_count 123 = .ok (.aload_n 0, 1) := dk_42 (dk_at dksX9_count_3 21 rfl rfl)
theorem dX9_count_124 : decode cX9_count 124 = .ok (.getfield 30, 3) := dk_180 0 30 (dk_at dksX9_count_4 0 rfl rfl)
theorem dX9_count_127 : decode cX9_count 127 = .ok (.bipush 7, 2) := dk_16 7 (dk_at dksX9_count_4 3 rfl rfl)
theorem dX9_count_129 : decode cX9_count 129 = .ok (.iaload, 1) := dk_46 (dk_at dksX9_count_4 5 rfl rfl)
theorem dX9_count_130 : decode cX9_count 130 = .ok (.ireturn, 1) := dk_172 (dk_at dksX9_count_4 6 rfl rfl)
theorem dX9_count_131 : decode cX9_count 131 = .ok (.aload_n 0, 1) := dk_42 (dk_at dksX9_count_4 7 rfl rfl)
theorem dX9_count_132 : decode cX9_count 132 = .ok (.getfield 33, 3) := dk_180 0 33 (dk_at dksX9_count_4 8 rfl rfl)
theorem dX9_count_135 : decode cX9_count 135 = .ok (.iconst 1, 1) := dk_4 (dk_at dksX9_count_4 11 rfl rfl)
theorem dX9_count_136 : decode cX9_count 136 = .ok (.iaload, 1) := dk_46 (dk_at dksX9_count_4 12 rfl rfl)
theorem dX9_count_137 : decode cX9_count 137 = .ok (.ireturn, 1) := dk_172 (dk_at dksX9_count_4 13 rfl rfl)
theorem dX9_count_138 : decode cX9_count 138 = .ok (.aload_n 0, 1) := dk_42 (dk_at dksX9_count_4 14 rfl rfl)
theorem dX9_count_139 : decode cX9_count 139 = .ok (.getfield 33, 3) := dk_180 0 33 (dk_at dksX9_count_4 15 rfl rfl)
theorem dX9_count_142 : decode cX9_count 142 = .ok (.iconst 2, 1) := dk_5 (dk_at dksX9_count_4 18 rfl rfl)
theorem dX9_count_143 : decode cX9_count 143 = .ok (.iaload, 1) := dk_46 (dk_at dksX9_count_4 19 rfl rfl)
theorem dX9_count_144 : decode cX9_count 144 = .ok (.ireturn, 1) := dk_172 (dk_at dksX9_count_4 20 rfl rfl)
theorem dX9_count_145 : decode cX9_count 145 = .ok (.aload_n 0, 1) := dk_42 (dk_at dksX9_count_4 21 rfl rfl)
theorem dX9_count_146 : decode cX9_count 146 = .ok (.getfield 33, 3) := dk_180 0 33 (dk_at dksX9_count_5 0 rfl rfl)
theorem dX9_count_149 : decode cX9_count 149 = .ok (.iconst 0, 1) := dk_3 (dk_at dksX9_count_5 3 rfl rfl)
theorem dX9_count_150 : decode cX9_count 150 = .ok (.iaload, 1) := dk_46 (dk_at dksX9_count_5 4 rfl rfl)
theorem dX9_count_151 : decode cX9_count 151 = .ok (.ireturn, 1) := dk_172 (dk_at dksX9_count_5 5 rfl rfl)
theorem dX9_count_152 : decode cX9_count 152 = .ok (.aload_n 0, 1) := dk_42 (dk_at dksX9_count_5 6 rfl rfl)
theorem dX9_count_153 : decode cX9_count 153 = .ok (.getfield 283, 3) := dk_180 1 27 (dk_at dksX9_count_5 7 rfl rfl)
theorem dX9_count_156 : decode cX9_count 156 = .ok (.ireturn, 1) := dk_172 (dk_at dksX9_count_5 10 rfl rfl)
theorem dX9_count_157 : decode cX9_count 157 = .ok (.aload_n 0, 1) := dk_42 (dk_at dksX9_count_5 11 rfl rfl)
theorem dX9_count_158 : decode cX9_count 158 = .ok (.getfield 125, 3) := dk_180 0 125 (dk_at dksX9_count_5 12 rfl rfl)
theorem dX9_count_161 : decode cX9_count 161 = .ok (.ireturn, 1) := dk_172 (dk_at dksX9_count_5 15 rfl rfl)
theorem dX9_count_162 : decode cX9_count 162 = .ok (.aload_n 0, 1) := dk_42 (dk_at dksX9_count_5 16 rfl rfl)
theorem dX9_count_163 : decode cX9_count 163 = .ok (.getfield 67, 3) := dk_180 0 67 (dk_at dksX9_count_5 17 rfl rfl)
theorem dX9_count_166 : decode cX9_count 166 = .ok (.iconst 1, 1) := dk_4 (dk_at dksX9_count_5 20 rfl rfl)
theorem dX9_count_167 : decode cX9_count 167 = .ok (.baload, 1) := dk_51 (dk_at dksX9_count_5 21 rfl rfl)
theorem dX9_count_168 : decode cX9_count 168 = .ok (.ifCond .eq 7, 3) := dk_153 0 7 (dk_at dksX9_count_6 0 rfl rfl)
theorem dX9_count_171 : decode cX9_count 171 = .ok (.iconst 1, 1) := dk_4 (dk_at dksX9_count_6 3 rfl rfl)
theorem dX9_count_172 : decode cX9_count 172 = .ok (.goto 4, 3) := dk_167 0 4 (dk_at dksX9_count_6 4 rfl rfl)
theorem dX9_count_175 : decode cX9_count 175 = .ok (.iconst 0, 1) := dk_3 (dk_at dksX9_count_6 7 rfl rfl)
theorem dX9_count_176 : decode cX9_count 176 = .ok (.aload_n 0, 1) := dk_42 (dk_at dksX9_count_6 8 rfl rfl)
theorem dX9_count_177 : decode cX9_count 177 = .ok (.getfield 67, 3) := dk_180 0 67 (dk_at dksX9_count_6 9 rfl rfl)
theorem dX9_count_180 : decode cX9_count 180 = .ok (.iconst 2, 1) := dk_5 (dk_at dksX9_count_6 12 rfl rfl)
theorem dX9_count_181 : decode cX9_count 181 = .ok (.baload, 1) := dk_51 (dk_at dksX9_count_6 13 rfl rfl)
theorem dX9_count_182 : decode cX9_count 182 = .ok (.ifCond .eq 7, 3) := dk_153 0 7 (dk_at dksX9_count_6 14 rfl rfl)
theorem dX9_count_185 : decode cX9_count 185 = .ok (.iconst 1, 1) := dk_4 (dk_at dksX9_count_6 17 rfl rfl)
theorem dX9_count_186 : decode cX9_count 186 = .ok (.goto 4, 3) := dk_167 0 4 (dk_at dksX9_count_6 18 rfl rfl)
theorem dX9_count_189 : decode cX9_count 189 = .ok (.iconst 0, 1) := dk_3 (dk_at dksX9_count_6 21 rfl rfl)
theorem dX9_count_190 : decode cX9_count 190 = .ok (.iadd, 1) := dk_96 (dk_at dksX9_count_6 22 rfl rfl)
theorem dX9_count_191 : decode cX9_count 191 = .ok (.ireturn, 1) := dk_172 (dk_at dksX9_count_6 23 rfl rfl)
theorem dX9_count_192 : decode cX9_count 192 = .ok (.aload_n 0, 1) := dk_42 (dk_at dksX9_count_7 0 rfl rfl)
theorem dX9_count_193 : decode cX9_count 193 = .ok (.getfield 280, 3) := dk_180 1 24 (dk_at dksX9_count_7 1 rfl rfl)
theorem dX9_count_196 : decode cX9_count 196 = .ok (.ireturn, 1) := dk_172 (dk_at dksX9_count_7 4 rfl rfl)
theorem dX9_count_197 : decode cX9_count 197 = .ok (.aload_n 0, 1) := dk_42 (dk_at dksX9_count_7 5 rfl rfl)
theorem dX9_count_198 : decode cX9_count 198 = .ok (.getfield 30, 3) := dk_180 0 30 (dk_at dksX9_count_7 6 rfl rfl)
theorem dX9_count_201 : decode cX9_count 201 = .ok (.bipush 8, 2) := dk_16 8 (dk_at dksX9_count_7 9 rfl rfl)
theorem dX9_count_203 : decode cX9_count 203 = .ok (.iaload, 1) := dk_46 (dk_at dksX9_count_7 11 rfl rfl)
theorem dX9_count_204 : decode cX9_count 204 = .ok (.ireturn, 1) := dk_172 (dk_at dksX9_count_7 12 rfl rfl)
theorem dX9_count_205 : decode cX9_count 205 = .ok (.aload_n 0, 1) := dk_42 (dk_at dksX9_count_7 13 rfl rfl)
theorem dX9_count_206 : decode cX9_count 206 = .ok (.getfield 30, 3) := dk_180 0 30 (dk_at dksX9_count_7 14 rfl rfl)
theorem dX9_count_209 : decode cX9_count 209 = .ok (.bipush 9, 2) := dk_16 9 (dk_at dksX9_count_7 17 rfl rfl)
theorem dX9_count_211 : decode cX9_count 211 = .ok (.iaload, 1) := dk_46 (dk_at dksX9_count_7 19 rfl rfl)
theorem dX9_count_212 : decode cX9_count 212 = .ok (.ireturn, 1) := dk_172 (dk_at dksX9_count_7 20 rfl rfl)
theorem dX9_count_213 : decode cX9_count 213 = .ok (.iconst (-1), 1) := dk_2 (dk_at dksX9_count_7 21 rfl rfl)
theorem dX9_count_214 : decode cX9_count 214 = .ok (.ireturn, 1) := dk_172 (dk_at dksX9_count_7 22 rfl rfl)
