set_option maxRecDepth 100000
abbrev cX16_takeMultiples : ByteArray := prog_21_method_80_code
def yX16_takeMultiples : MethodName := ⟨RX16, "takeMultiples", "(I[LIdealCourtModel$Num;I)I"⟩
def dkwX16_takeMultiples_8 : List UInt8 := [180, 1, 86, 21, 4, 182, 2, 88, 167, 255, 65, 21, 4, 172]
abbrev dktX16_takeMultiples_8 : List UInt8 := dkwX16_takeMultiples_8 ++ []
def dkwX16_takeMultiples_7 : List UInt8 := [155, 0, 22, 42, 180, 1, 86, 21, 4, 50, 180, 0, 15, 154, 0, 9, 132, 4, 255, 167, 255, 235, 42, 42]
abbrev dktX16_takeMultiples_7 : List UInt8 := dkwX16_takeMultiples_7 ++ dktX16_takeMultiples_8
def dkwX16_takeMultiples_6 : List UInt8 := [29, 100, 21, 5, 96, 50, 42, 180, 1, 58, 2, 184, 0, 111, 132, 5, 1, 167, 255, 199, 21, 4]
abbrev dktX16_takeMultiples_6 : List UInt8 := dkwX16_takeMultiples_6 ++ dktX16_takeMultiples_7
def dkwX16_takeMultiples_5 : List UInt8 := [180, 1, 55, 182, 0, 105, 42, 180, 1, 86, 21, 4, 29, 100, 21, 5, 96, 50, 42, 180, 1, 86, 21, 4]
abbrev dktX16_takeMultiples_5 : List UInt8 := dkwX16_takeMultiples_5 ++ dktX16_takeMultiples_6
def dkwX16_takeMultiples_4 : List UInt8 := [167, 255, 224, 3, 54, 5, 21, 5, 29, 163, 0, 57, 42, 42, 180, 1, 58, 44, 21, 5, 50, 42]
abbrev dktX16_takeMultiples_4 : List UInt8 := dkwX16_takeMultiples_4 ++ dktX16_takeMultiples_5
def dkwX16_takeMultiples_3 : List UInt8 := [42, 180, 1, 86, 21, 5, 50, 42, 180, 1, 86, 21, 5, 50, 42, 180, 1, 52, 182, 0, 105, 132, 5, 1]
abbrev dktX16_takeMultiples_3 : List UInt8 := dkwX16_takeMultiples_3 ++ dktX16_takeMultiples_4
def dkwX16_takeMultiples_2 : List UInt8 := [180, 0, 15, 44, 29, 50, 180, 0, 15, 104, 181, 0, 15, 3, 54, 5, 21, 5, 21, 4, 163, 0, 31, 42]
abbrev dktX16_takeMultiples_2 : List UInt8 := dkwX16_takeMultiples_2 ++ dktX16_takeMultiples_3
def dkwX16_takeMultiples_1 : List UInt8 := [181, 0, 15, 42, 180, 1, 55, 42, 180, 1, 86, 21, 4, 50, 182, 0, 18, 42, 180, 1, 55, 89]
abbrev dktX16_takeMultiples_1 : List UInt8 := dkwX16_takeMultiples_1 ++ dktX16_takeMultiples_2
def dkwX16_takeMultiples_0 : List UInt8 := [27, 54, 4, 21, 4, 29, 161, 0, 191, 42, 180, 1, 52, 44, 29, 50, 182, 0, 18, 42, 180, 1, 52, 4]
abbrev dktX16_takeMultiples_0 : List UInt8 := dkwX16_takeMultiples_0 ++ dktX16_takeMultiples_1
theorem dksX16_takeMultiples_0 : cX16_takeMultiples.data.toList.drop 0 = dktX16_takeMultiples_0 := by decide +kernel
theorem dksX16_takeMultiples_1 : cX16_takeMultiples.data.toList.drop 24 = dktX16_takeMultiples_1 := dk_seg dksX16_takeMultiples_0 24 rfl rfl
theorem dksX16_takeMultiples_2 : cX16_takeMultiples.data.toList.drop 46 = dktX16_takeMultiples_2 := dk_seg dksX16_takeMultiples_1 22 rfl rfl
theorem dksX16_takeMultiples_3 : cX16_takeMultiples.data.toList.drop 70 = dktX16_takeMultiples_3 := dk_seg dksX16_takeMultiples_2 24 rfl rfl
theorem dksX16_takeMultiples_4 : cX16_takeMultiples.data.toList.drop 94 = dktX16_takeMultiples_4 := dk_seg dksX16_takeMultiples_3 24 rfl rfl
theorem dksX16_takeMultiples_5 : cX16_takeMultiples.data.toList.drop 116 = dktX16_takeMultiples_5 := dk_seg dksX16_takeMultiples_4 22 rfl rfl
theorem dksX16_takeMultiples_6 : cX16_takeMultiples.data.toList.drop 140 = dktX16_takeMultiples_6 := dk_seg dksX16_takeMultiples_5 24 rfl rfl
theorem dksX16_takeMultiples_7 : cX16_takeMultiples.data.toList.drop 162 = dktX16_takeMultiples_7 := dk_seg dksX16_takeMultiples_6 22 rfl rfl
theorem dksX16_takeMultiples_8 : cX16_takeMultiples.data.toList.drop 186 = dktX16_takeMultiples_8 := dk_seg dksX16_takeMultiples_7 24 rfl rfl
theorem dX16_takeMultiples_0 : decode cX16_takeMultiples 0 = .ok (.iload_n 1, 1) := dk_27 (dk_at dksX16_takeMultiples_0 0 rfl rfl)
theorem dX16_takeMultiples_1 : decode cX16_takeMultiples 1 = .ok (.istore 4, 2) := dk_54 4 (dk_at dksX16_takeMultiples_0 1 rfl rfl)
theorem dX16_takeMultiples_3 : decode cX16_takeMultiples 3 = .ok (.iload 4, 2) := dk_21 4 (dk_at dksX16_takeMultiples_0 3 rfl rfl)
theorem dX16_takeMultiples_5 : decode cX16_takeMultiples 5 = .ok (.iload_n 3, 1) := dk_29 (dk_at dksX16_takeMultiples_0 5 rfl rfl)
theorem dX16_takeMultiples_6 : decode cX16_takeMultiples 6 = .ok (.if_icmp .lt 191, 3) := dk_161 0 191 (dk_at dksX16_takeMultiples_0 6 rfl rfl)
theorem dX16_takeMultiples_9 : decode cX16_takeMultiples 9 = .ok (.aload_n 0, 1) := dk_42 (dk_at dksX16_takeMultiples_0 9 rfl rfl)
theorem dX16_takeMultiples_10 : decode cX16_takeMultiples 10 = .ok (.getfield 308, 3) := dk_180 1 52 (dk_at dksX16_takeMultiples_0 10 rfl rfl)
theorem dX16_takeMultiples_13 : decode cX16_takeMultiples 13 = .ok (.aload_n 2, 1) := dk_44 (dk_at dksX16_takeMultiples_0 13 rfl rfl)
theorem dX16_takeMultiples_14 : decode cX16_takeMultiples 14 = .ok (.iload_n 3, 1) := dk_29 (dk_at dksX16_takeMultiples_0 14 rfl rfl)
theorem dX16_takeMultiples_15 : decode cX16_takeMultiples 15 = .ok (.aaload, 1) := dk_50 (dk_at dksX16_takeMultiples_0 15 rfl rfl)
theorem dX16_takeMultiples_16 : decode cX16_takeMultiples 16 = .ok (.invokevirtual 18, 3) := dk_182 0 18 (dk_at dksX16_takeMultiples_0 16 rfl rfl)
theorem dX16_takeMultiples_19 : decode cX16_takeMultiples 19 = .ok (.aload_n 0, 1) := dk_42 (dk_at dksX16_takeMultiples_0 19 rfl rfl)
theorem dX16_takeMultiples_20 : decode cX16_takeMultiples 20 = .ok (.getfield 308, 3) := dk_180 1 52 (dk_at dksX16_takeMultiples_0 20 rfl rfl)
theorem dX16_takeMultiples_23 : decode cX16_takeMultiples 23 = .ok (.iconst 1, 1) := dk_4 (dk_at dksX16_takeMultiples_0 23 rfl rfl)
theorem dX16_takeMultiples_24 : decode cX16_takeMultiples 24 = .ok (.putfield 15, 3) := dk_181 0 15 (dk_at dksX16_takeMultiples_1 0 rfl rfl)
theorem dX16_takeMultiples_27 : decode cX16_takeMultiples 27 = .ok (.aload_n 0, 1) := dk_42 (dk_at dksX16_takeMultiples_1 3 rfl rfl)
theorem dX16_takeMultiples_28 : decode cX16_takeMultiples 28 = .ok (.getfield 311, 3) := dk_180 1 55 (dk_at dksX16_takeMultiples_1 4 rfl rfl)
theorem dX16_takeMultiples_31 : decode cX16_takeMultiples 31 = .ok (.aload_n 0, 1) := dk_42 (dk_at dksX16_takeMultiples_1 7 rfl rfl)
theorem dX16_takeMultiples_32 : decode cX16_takeMultiples 32 = .ok (.getfield 342, 3) := dk_180 1 86 (dk_at dksX16_takeMultiples_1 8 rfl rfl)
theorem dX16_takeMultiples_35 : decode cX16_takeMultiples 35 = .ok (.iload 4, 2) := dk_21 4 (dk_at dksX16_takeMultiples_1 11 rfl rfl)
theorem dX16_takeMultiples_37 : decode cX16_takeMultiples 37 = .ok (.aaload, 1) := dk_50 (dk_at dksX16_takeMultiples_1 13 rfl rfl)
theorem dX16_takeMultiples_38 : decode cX16_takeMultiples 38 = .ok (.invokevirtual 18, 3) := dk_182 0 18 (dk_at dksX16_takeMultiples_1 14 rfl rfl)
theorem dX16_takeMultiples_41 : decode cX16_takeMultiples 41 = .ok (.aload_n 0, 1) := dk_42 (dk_at dksX16_takeMultiples_1 17 rfl rfl)
theorem dX16_takeMultiples_42 : decode cX16_takeMultiples 42 = .ok (.getfield 311, 3) := dk_180 1 55 (dk_at dksX16_takeMultiples_1 18 rfl rfl)
theorem dX16_takeMultiples_45 : decode cX16_takeMultiples 45 = .ok (.dup, 1) := dk_89 (dk_at dksX16_takeMultiples_1 21 rfl rfl)
theorem dX16_takeMultiples_46 : decode cX16_takeMultiples 46 = .ok (.getfield 15, 3) := dk_180 0 15 (dk_at dksX16_takeMultiples_2 0 rfl rfl)
theorem dX16_takeMultiples_49 : decode cX16_takeMultiples 49 = .ok (.aload_n 2, 1) := dk_44 (dk_at dksX16_takeMultiples_2 3 rfl rfl)
theorem dX16_takeMultiples_50 : decode cX16_takeMultiples 50 = .ok (.iload_n 3, 1) := dk_29 (dk_at dksX16_takeMultiples_2 4 rfl rfl)
theorem dX16_takeMultiples_51 : decode cX16_takeMultiples 51 = .ok (.aaload, 1) := dk_50 (dk_at dksX16_takeMultiples_2 5 rfl rfl)
theorem dX16_takeMultiples_52 : decode cX16_takeMultiples 52 = .ok (.getfield 15, 3) := dk_180 0 15 (dk_at dksX16_takeMultiples_2 6 rfl rfl)
theorem dX16_takeMultiples_55 : decode cX16_takeMultiples 55 = .ok (.imul, 1) := dk_104 (dk_at dksX16_takeMultiples_2 9 rfl rfl)
theorem dX16_takeMultiples_56 : decode cX16_takeMultiples 56 = .ok (.putfield 15, 3) := dk_181 0 15 (dk_at dksX16_takeMultiples_2 10 rfl rfl)
theorem dX16_takeMultiples_59 : decode cX16_takeMultiples 59 = .ok (.iconst 0, 1) := dk_3 (dk_at dksX16_takeMultiples_2 13 rfl rfl)
theorem dX16_takeMultiples_60 : decode cX16_takeMultiples 60 = .ok (.istore 5, 2) := dk_54 5 (dk_at dksX16_takeMultiples_2 14 rfl rfl)
theorem dX16_takeMultiples_62 : decode cX16_takeMultiples 62 = .ok (.iload 5, 2) := dk_21 5 (dk_at dksX16_takeMultiples_2 16 rfl rfl)
theorem dX16_takeMultiples_64 : decode cX16_takeMultiples 64 = .ok (.iload 4, 2) := dk_21 4 (dk_at dksX16_takeMultiples_2 18 rfl rfl)
theorem dX16_takeMultiples_66 : decode cX16_takeMultiples 66 = .ok (.if_icmp .gt 31, 3) := dk_163 0 31 (dk_at dksX16_takeMultiples_2 20 rfl rfl)
theorem dX16_takeMultiples_69 : decode cX16_takeMultiples 69 = .ok (.aload_n 0, 1) := dk_42 (dk_at dksX16_takeMultiples_2 23 rfl rfl)
theorem dX16_takeMultiples_70 : decode cX16_takeMultiples 70 = .ok (.aload_n 0, 1) := dk_42 (dk_at dksX16_takeMultiples_3 0 rfl rfl)
theorem dX16_takeMultiples_71 : decode cX16_takeMultiples 71 = .ok (.getfield 342, 3) := dk_180 1 86 (dk_at dksX16_takeMultiples_3 1 rfl rfl)
theorem dX16_takeMultiples_74 : decode cX16_takeMultiples 74 = .ok (.iload 5, 2) := dk_21 5 (dk_at dksX16_takeMultiples_3 4 rfl rfl)
theorem dX16_takeMultiples_76 : decode cX16_takeMultiples 76 = .ok (.aaload, 1) := dk_50 (dk_at dksX16_takeMultiples_3 6 rfl rfl)
theorem dX16_takeMultiples_77 : decode cX16_takeMultiples 77 = .ok (.aload_n 0, 1) := dk_42 (dk_at dksX16_takeMultiples_3 7 rfl rfl)
theorem dX16_takeMultiples_78 : decode cX16_takeMultiples 78 = .ok (.getfield 342, 3) := dk_180 1 86 (dk_at dksX16_takeMultiples_3 8 rfl rfl)
theorem dX16_takeMultiples_81 : decode cX16_takeMultiples 81 = .ok (.iload 5, 2) := dk_21 5 (dk_at dksX16_takeMultiples_3 11 rfl rfl)
theorem dX16_takeMultiples_83 : decode cX16_takeMultiples 83 = .ok (.aaload, 1) := dk_50 (dk_at dksX16_takeMultiples_3 13 rfl rfl)
theorem dX16_takeMultiples_84 : decode cX16_takeMultiples 84 = .ok (.aload_n 0, 1) := dk_42 (dk_at dksX16_takeMultiples_3 14 rfl rfl)
theorem dX16_takeMultiples_85 : decode cX16_takeMultiples 85 = .ok (.getfield 308, 3) := dk_180 1 52 (dk_at dksX16_takeMultiples_3 15 rfl rfl)
theorem dX16_takeMultiples_88 : decode cX16_takeMultiples 88 = .ok (.invokevirtual 105, 3) := dk_182 0 105 (dk_at dksX16_takeMultiples_3 18 rfl rfl)
theorem dX16_takeMultiples_91 : decode cX16_takeMultiples 91 = .ok (.iinc 5 1, 3) := dk_132 5 1 (dk_at dksX16_takeMultiples_3 21 rfl rfl)
theorem dX16_takeMultiples_94 : decode cX16_takeMultiples 94 = .ok (.goto (-32), 3) := dk_167 255 224 (dk_at dksX16_takeMultiples_4 0 rfl rfl)
theorem dX16_takeMultiples_97 : decode cX16_takeMultiples 97 = .ok (.iconst 0, 1) := dk_3 (dk_at dksX16_takeMultiples_4 3 rfl rfl)
theorem dX16_takeMultiples_98 : decode cX16_takeMultiples 98 = .ok (.istore 5, 2) := dk_54 5 (dk_at dksX16_takeMultiples_4 4 rfl rfl)
theorem dX16_takeMultiples_100 : decode cX16_takeMultiples 100 = .ok (.iload 5, 2) := dk_21 5 (dk_at dksX16_takeMultiples_4 6 rfl rfl)
theorem dX16_takeMultiples_102 : decode cX16_takeMultiples 102 = .ok (.iload_n 3, 1) := dk_29 (dk_at dksX16_takeMultiples_4 8 rfl rfl)
theorem dX16_takeMultiples_103 : decode cX16_takeMultiples 103 = .ok (.if_icmp .gt 57, 3) := dk_163 0 57 (dk_at dksX16_takeMultiples_4 9 rfl rfl)
theorem dX16_takeMultiples_106 : decode cX16_takeMultiples 106 = .ok (.aload_n 0, 1) := dk_42 (dk_at dksX16_takeMultiples_4 12 rfl rfl)
theorem dX16_takeMultiples_107 : decode cX16_takeMultiples 107 = .ok (.aload_n 0, 1) := dk_42 (dk_at dksX16_takeMultiples_4 13 rfl rfl)
theorem dX16_takeMultiples_108 : decode cX16_takeMultiples 108 = .ok (.getfield 314, 3) := dk_180 1 58 (dk_at dksX16_takeMultiples_4 14 rfl rfl)
theorem dX16_takeMultiples_111 : decode cX16_takeMultiples 111 = .ok (.aload_n 2, 1) := dk_44 (dk_at dksX16_takeMultiples_4 17 rfl rfl)
theorem dX16_takeMultiples_112 : decode cX16_takeMultiples 112 = .ok (.iload 5, 2) := dk_21 5 (dk_at dksX16_takeMultiples_4 18 rfl rfl)
theorem dX16_takeMultiples_114 : decode cX16_takeMultiples 114 = .ok (.aaload, 1) := dk_50 (dk_at dksX16_takeMultiples_4 20 rfl rfl)
theorem dX16_takeMultiples_115 : decode cX16_takeMultiples 115 = .ok (.aload_n 0, 1) := dk_42 (dk_at dksX16_takeMultiples_4 21 rfl rfl)
theorem dX16_takeMultiples_116 : decode cX16_takeMultiples 116 = .ok (.getfield 311, 3) := dk_180 1 55 (dk_at dksX16_takeMultiples_5 0 rfl rfl)
theorem dX16_takeMultiples_119 : decode cX16_takeMultiples 119 = .ok (.invokevirtual 105, 3) := dk_182 0 105 (dk_at dksX16_takeMultiples_5 3 rfl rfl)
theorem dX16_takeMultiples_122 : decode cX16_takeMultiples 122 = .ok (.aload_n 0, 1) := dk_42 (dk_at dksX16_takeMultiples_5 6 rfl rfl)
theorem dX16_takeMultiples_123 : decode cX16_takeMultiples 123 = .ok (.getfield 342, 3) := dk_180 1 86 (dk_at dksX16_takeMultiples_5 7 rfl rfl)
theorem dX16_takeMultiples_126 : decode cX16_takeMultiples 126 = .ok (.iload 4, 2) := dk_21 4 (dk_at dksX16_takeMultiples_5 10 rfl rfl)
theorem dX16_takeMultiples_128 : decode cX16_takeMultiples 128 = .ok (.iload_n 3, 1) := dk_29 (dk_at dksX16_takeMultiples_5 12 rfl rfl)
theorem dX16_takeMultiples_129 : decode cX16_takeMultiples 129 = .ok (.isub, 1) := dk_100 (dk_at dksX16_takeMultiples_5 13 rfl rfl)
theorem dX16_takeMultiples_130 : decode cX16_takeMultiples 130 = .ok (.iload 5, 2) := dk_21 5 (dk_at dksX16_takeMultiples_5 14 rfl rfl)
theorem dX16_takeMultiples_132 : decode cX16_takeMultiples 132 = .ok (.iadd, 1) := dk_96 (dk_at dksX16_takeMultiples_5 16 rfl rfl)
theorem dX16_takeMultiples_133 : decode cX16_takeMultiples 133 = .ok (.aaload, 1) := dk_50 (dk_at dksX16_takeMultiples_5 17 rfl rfl)
theorem dX16_takeMultiples_134 : decode cX16_takeMultiples 134 = .ok (.aload_n 0, 1) := dk_42 (dk_at dksX16_takeMultiples_5 18 rfl rfl)
theorem dX16_takeMultiples_135 : decode cX16_takeMultiples 135 = .ok (.getfield 342, 3) := dk_180 1 86 (dk_at dksX16_takeMultiples_5 19 rfl rfl)
theorem dX16_takeMultiples_138 : decode cX16_takeMultiples 138 = .ok (.iload 4, 2) := dk_21 4 (dk_at dksX16_takeMultiples_5 22 rfl rfl)
theorem dX16_takeMultiples_140 : decode cX16_takeMultiples 140 = .ok (.iload_n 3, 1) := dk_29 (dk_at dksX16_takeMultiples_6 0 rfl rfl)
theorem dX16_takeMultiples_141 : decode cX16_takeMultiples 141 = .ok (.isub, 1) := dk_100 (dk_at dksX16_takeMultiples_6 1 rfl rfl)
theorem dX16_takeMultiples_142 : decode cX16_takeMultiples 142 = .ok (.iload 5, 2) := dk_21 5 (dk_at dksX16_takeMultiples_6 2 rfl rfl)
theorem dX16_takeMultiples_144 : decode cX16_takeMultiples 144 = .ok (.iadd, 1) := dk_96 (dk_at dksX16_takeMultiples_6 4 rfl rfl)
theorem dX16_takeMultiples_145 : decode cX16_takeMultiples 145 = .ok (.aaload, 1) := dk_50 (dk_at dksX16_takeMultiples_6 5 rfl rfl)
theorem dX16_takeMultiples_146 : decode cX16_takeMultiples 146 = .ok (.aload_n 0, 1) := dk_42 (dk_at dksX16_takeMultiples_6 6 rfl rfl)
theorem dX16_takeMultiples_147 : decode cX16_takeMultiples 147 = .ok (.getfield 314, 3) := dk_180 1 58 (dk_at dksX16_takeMultiples_6 7 rfl rfl)
theorem dX16_takeMultiples_150 : decode cX16_takeMultiples 150 = .ok (.iconst (-1), 1) := dk_2 (dk_at dksX16_takeMultiples_6 10 rfl rfl)
theorem dX16_takeMultiples_151 : decode cX16_takeMultiples 151 = .ok (.invokestatic 111, 3) := dk_184 0 111 (dk_at dksX16_takeMultiples_6 11 rfl rfl)
theorem dX16_takeMultiples_154 : decode cX16_takeMultiples 154 = .ok (.iinc 5 1, 3) := dk_132 5 1 (dk_at dksX16_takeMultiples_6 14 rfl rfl)
theorem dX16_takeMultiples_157 : decode cX16_takeMultiples 157 = .ok (.goto (-57), 3) := dk_167 255 199 (dk_at dksX16_takeMultiples_6 17 rfl rfl)
theorem dX16_takeMultiples_160 : decode cX16_takeMultiples 160 = .ok (.iload 4, 2) := dk_21 4 (dk_at dksX16_takeMultiples_6 20 rfl rfl)
theorem dX16_takeMultiples_162 : decode cX16_takeMultiples 162 = .ok (.ifCond .lt 22, 3) := dk_155 0 22 (dk_at dksX16_takeMultiples_7 0 rfl rfl)
theorem dX16_takeMultiples_165 : decode cX16_takeMultiples 165 = .ok (.aload_n 0, 1) := dk_42 (dk_at dksX16_takeMultiples_7 3 rfl rfl)
theorem dX16_takeMultiples_166 : decode cX16_takeMultiples 166 = .ok (.getfield 342, 3) := dk_180 1 86 (dk_at dksX16_takeMultiples_7 4 rfl rfl)
theorem dX16_takeMultiples_169 : decode cX16_takeMultiples 169 = .ok (.iload 4, 2) := dk_21 4 (dk_at dksX16_takeMultiples_7 7 rfl rfl)
theorem dX16_takeMultiples_171 : decode cX16_takeMultiples 171 = .ok (.aaload, 1) := dk_50 (dk_at dksX16_takeMultiples_7 9 rfl rfl)
theorem dX16_takeMultiples_172 : decode cX16_takeMultiples 172 = .ok (.getfield 15, 3) := dk_180 0 15 (dk_at dksX16_takeMultiples_7 10 rfl rfl)
theorem dX16_takeMultiples_175 : decode cX16_takeMultiples 175 = .ok (.ifCond .ne 9, 3) := dk_154 0 9 (dk_at dksX16_takeMultiples_7 13 rfl rfl)
theorem dX16_takeMultiples_178 : decode cX16_takeMultiples 178 = .ok (.iinc 4 (-1), 3) := dk_132 4 255 (dk_at dksX16_takeMultiples_7 16 rfl rfl)
theorem dX16_takeMultiples_181 : decode cX16_takeMultiples 181 = .ok (.goto (-21), 3) := dk_167 255 235 (dk_at dksX16_takeMultiples_7 19 rfl rfl)
theorem dX16_takeMultiples_184 : decode cX16_takeMultiples 184 = .ok (.aload_n 0, 1) := dk_42 (dk_at dksX16_takeMultiples_7 22 rfl rfl)
theorem dX16_takeMultiples_185 : decode cX16_takeMultiples 185 = .ok (.aload_n 0, 1) := dk_42 (dk_at dksX16_takeMultiples_7 23 rfl rfl)
theorem dX16_takeMultiples_186 : decode cX16_takeMultiples 186 = .ok (.getfield 342, 3) := dk_180 1 86 (dk_at dksX16_takeMultiples_8 0 rfl rfl)
theorem dX16_takeMultiples_189 : decode cX16_takeMultiples 189 = .ok (.iload 4, 2) := dk_21 4 (dk_at dksX16_takeMultiples_8 3 rfl rfl)
theorem dX16_takeMultiples_191 : decode cX16_takeMultiples 191 = .ok (.invokevirtual 600, 3) := dk_182 2 88 (dk_at dksX16_takeMultiples_8 5 rfl rfl)
theorem dX16_takeMultiples_194 : decode cX16_takeMultiples 194 = .ok (.goto (-191), 3) := dk_167 255 65 (dk_at dksX16_takeMultiples_8 8 rfl rfl)
theorem dX16_takeMultiples_197 : decode cX16_takeMultiples 197 = .ok (.iload 4, 2) := dk_21 4 (dk_at dksX16_takeMultiples_8 11 rfl rfl)
theorem dX16_takeMultiples_199 : decode cX16_takeMultiples 199 = .ok (.ireturn, 1) := dk_172 (dk_at dksX16_takeMultiples_8 13 rfl rfl)
abbrev cX16_changes : ByteArray := prog_21_method_78_code
def yX16_changes : MethodName := ⟨RX16, "changes", "(LIdealCourtModel$Num;I)I"⟩
def dkwX16_changes_3 : List UInt8 := [167, 0, 5, 21, 6, 54, 4, 132, 5, 1, 167, 255, 183, 29, 172]
abbrev dktX16_changes_3 : List UInt8 := dkwX16_changes_3 ++ []
def dkwX16_changes_2 : List UInt8 := [153, 0, 14, 21, 6, 21, 4, 159, 0, 7, 4, 167, 0, 4, 3, 96, 62, 21, 6, 154, 0, 8, 21, 4]
abbrev dktX16_changes_2 : List UInt8 := dkwX16_changes_2 ++ dktX16_changes_3
def dkwX16_changes_1 : List UInt8 := [50, 42, 180, 1, 83, 21, 5, 46, 43, 28, 182, 2, 84, 54, 6, 29, 21, 6, 153, 0, 19, 21, 4]
abbrev dktX16_changes_1 : List UInt8 := dkwX16_changes_1 ++ dktX16_changes_2
def dkwX16_changes_0 : List UInt8 := [3, 62, 3, 54, 4, 3, 54, 5, 21, 5, 42, 180, 2, 81, 162, 0, 70, 42, 42, 180, 1, 80, 21, 5]
abbrev dktX16_changes_0 : List UInt8 := dkwX16_changes_0 ++ dktX16_changes_1
theorem dksX16_changes_0 : cX16_changes.data.toList.drop 0 = dktX16_changes_0 := by decide +kernel
theorem dksX16_changes_1 : cX16_changes.data.toList.drop 24 = dktX16_changes_1 := dk_seg dksX16_changes_0 24 rfl rfl
theorem dksX16_changes_2 : cX16_changes.data.toList.drop 47 = dktX16_changes_2 := dk_seg dksX16_changes_1 23 rfl rfl
theorem dksX16_changes_3 : cX16_changes.data.toList.drop 71 = dktX16_changes_3 := dk_seg dksX16_changes_2 24 rfl rfl
theorem dX16_changes_0 : decode cX16_changes 0 = .ok (.iconst 0, 1) := dk_3 (dk_at dksX16_changes_0 0 rfl rfl)
theorem dX16_changes_1 : decode cX16_changes 1 = .ok (.istore_n 3, 1) := dk_62 (dk_at dksX16_changes_0 1 rfl rfl)
theorem dX16_changes_2 : decode cX16_changes 2 = .ok (.iconst 0, 1) := dk_3 (dk_at dksX16_changes_0 2 rfl rfl)
theorem dX16_changes_3 : decode cX16_changes 3 = .ok (.istore 4, 2) := dk_54 4 (dk_at dksX16_changes_0 3 rfl rfl)
theorem dX16_changes_5 : decode cX16_changes 5 = .ok (.iconst 0, 1) := dk_3 (dk_at dksX16_changes_0 5 rfl rfl)
theorem dX16_changes_6 : decode cX16_changes 6 = .ok (.istore 5, 2) := dk_54 5 (dk_at dksX16_changes_0 6 rfl rfl)
theorem dX16_changes_8 : decode cX16_changes 8 = .ok (.iload 5, 2) := dk_21 5 (dk_at dksX16_changes_0 8 rfl rfl)
theorem dX16_changes_10 : decode cX16_changes 10 = .ok (.aload_n 0, 1) := dk_42 (dk_at dksX16_changes_0 10 rfl rfl)
theorem dX16_changes_11 : decode cX16_changes 11 = .ok (.getfield 593, 3) := dk_180 2 81 (dk_at dksX16_changes_0 11 rfl rfl)
theorem dX16_changes_14 : decode cX16_changes 14 = .ok (.if_icmp .ge 70, 3) := dk_162 0 70 (dk_at dksX16_changes_0 14 rfl rfl)
theorem dX16_changes_17 : decode cX16_changes 17 = .ok (.aload_n 0, 1) := dk_42 (dk_at dksX16_changes_0 17 rfl rfl)
theorem dX16_changes_18 : decode cX16_changes 18 = .ok (.aload_n 0, 1) := dk_42 (dk_at dksX16_changes_0 18 rfl rfl)
theorem dX16_changes_19 : decode cX16_changes 19 = .ok (.getfield 336, 3) := dk_180 1 80 (dk_at dksX16_changes_0 19 rfl rfl)
theorem dX16_changes_22 : decode cX16_changes 22 = .ok (.iload 5, 2) := dk_21 5 (dk_at dksX16_changes_0 22 rfl rfl)
theorem dX16_changes_24 : decode cX16_changes 24 = .ok (.aaload, 1) := dk_50 (dk_at dksX16_changes_1 0 rfl rfl)
theorem dX16_changes_25 : decode cX16_changes 25 = .ok (.aload_n 0, 1) := dk_42 (dk_at dksX16_changes_1 1 rfl rfl)
theorem dX16_changes_26 : decode cX16_changes 26 = .ok (.getfield 339, 3) := dk_180 1 83 (dk_at dksX16_changes_1 2 rfl rfl)
theorem dX16_changes_29 : decode cX16_changes 29 = .ok (.iload 5, 2) := dk_21 5 (dk_at dksX16_changes_1 5 rfl rfl)
theorem dX16_changes_31 : decode cX16_changes 31 = .ok (.iaload, 1) := dk_46 (dk_at dksX16_changes_1 7 rfl rfl)
theorem dX16_changes_32 : decode cX16_changes 32 = .ok (.aload_n 1, 1) := dk_43 (dk_at dksX16_changes_1 8 rfl rfl)
theorem dX16_changes_33 : decode cX16_changes 33 = .ok (.iload_n 2, 1) := dk_28 (dk_at dksX16_changes_1 9 rfl rfl)
theorem dX16_changes_34 : decode cX16_changes 34 = .ok (.invokevirtual 596, 3) := dk_182 2 84 (dk_at dksX16_changes_1 10 rfl rfl)
theorem dX16_changes_37 : decode cX16_changes 37 = .ok (.istore 6, 2) := dk_54 6 (dk_at dksX16_changes_1 13 rfl rfl)
theorem dX16_changes_39 : decode cX16_changes 39 = .ok (.iload_n 3, 1) := dk_29 (dk_at dksX16_changes_1 15 rfl rfl)
theorem dX16_changes_40 : decode cX16_changes 40 = .ok (.iload 6, 2) := dk_21 6 (dk_at dksX16_changes_1 16 rfl rfl)
theorem dX16_changes_42 : decode cX16_changes 42 = .ok (.ifCond .eq 19, 3) := dk_153 0 19 (dk_at dksX16_changes_1 18 rfl rfl)
theorem dX16_changes_45 : decode cX16_changes 45 = .ok (.iload 4, 2) := dk_21 4 (dk_at dksX16_changes_1 21 rfl rfl)
theorem dX16_changes_47 : decode cX16_changes 47 = .ok (.ifCond .eq 14, 3) := dk_153 0 14 (dk_at dksX16_changes_2 0 rfl rfl)
theorem dX16_changes_50 : decode cX16_changes 50 = .ok (.iload 6, 2) := dk_21 6 (dk_at dksX16_changes_2 3 rfl rfl)
theorem dX16_changes_52 : decode cX16_changes 52 = .ok (.iload 4, 2) := dk_21 4 (dk_at dksX16_changes_2 5 rfl rfl)
theorem dX16_changes_54 : decode cX16_changes 54 = .ok (.if_icmp .eq 7, 3) := dk_159 0 7 (dk_at dksX16_changes_2 7 rfl rfl)
theorem dX16_changes_57 : decode cX16_changes 57 = .ok (.iconst 1, 1) := dk_4 (dk_at dksX16_changes_2 10 rfl rfl)
theorem dX16_changes_58 : decode cX16_changes 58 = .ok (.goto 4, 3) := dk_167 0 4 (dk_at dksX16_changes_2 11 rfl rfl)
theorem dX16_changes_61 : decode cX16_changes 61 = .ok (.iconst 0, 1) := dk_3 (dk_at dksX16_changes_2 14 rfl rfl)
theorem dX16_changes_62 : decode cX16_changes 62 = .ok (.iadd, 1) := dk_96 (dk_at dksX16_changes_2 15 rfl rfl)
theorem dX16_changes_63 : decode cX16_changes 63 = .ok (.istore_n 3, 1) := dk_62 (dk_at dksX16_changes_2 16 rfl rfl)
theorem dX16_changes_64 : decode cX16_changes 64 = .ok (.iload 6, 2) := dk_21 6 (dk_at dksX16_changes_2 17 rfl rfl)
theorem dX16_changes_66 : decode cX16_changes 66 = .ok (.ifCond .ne 8, 3) := dk_154 0 8 (dk_at dksX16_changes_2 19 rfl rfl)
theorem dX16_changes_69 : decode cX16_changes 69 = .ok (.iload 4, 2) := dk_21 4 (dk_at dksX16_changes_2 22 rfl rfl)
theorem dX16_changes_71 : decode cX16_changes 71 = .ok (.goto 5, 3) := dk_167 0 5 (dk_at dksX16_changes_3 0 rfl rfl)
theorem dX16_changes_74 : decode cX16_changes 74 = .ok (.iload 6, 2) := dk_21 6 (dk_at dksX16_changes_3 3 rfl rfl)
theorem dX16_changes_76 : decode cX16_changes 76 = .ok (.istore 4, 2) := dk_54 4 (dk_at dksX16_changes_3 5 rfl rfl)
theorem dX16_changes_78 : decode cX16_changes 78 = .ok (.iinc 5 1, 3) := dk_132 5 1 (dk_at dksX16_changes_3 7 rfl rfl)
theorem dX16_changes_81 : decode cX16_changes 81 = .ok (.goto (-73), 3) := dk_167 255 183 (dk_at dksX16_changes_3 10 rfl rfl)
theorem dX16_changes_84 : decode cX16_changes 84 = .ok (.iload_n 3, 1) := dk_29 (dk_at dksX16_changes_3 13 rfl rfl)
theorem dX16_changes_85 : decode cX16_changes 85 = .ok (.ireturn, 1) := dk_172 (dk_at dksX16_changes_3 14 rfl rfl)
abbrev cX16_signAt : ByteArray := prog_21_method_77_code
def yX16_signAt : MethodName := ⟨RX16, "signAt", "([LIdealCourtModel$Num;ILIdealCourtModel$Num;I)I"⟩
def dkwX16_signAt_7 : List UInt8 := [21, 5, 50, 4, 184, 0, 111, 132, 5, 255, 167, 255, 160, 42, 180, 1, 102, 180, 0, 15, 172]
abbrev dktX16_signAt_7 : List UInt8 := dkwX16_signAt_7 ++ []
def dkwX16_signAt_6 : List UInt8 := [180, 1, 102, 42, 180, 0, 246, 4, 184, 0, 111, 167, 0, 19, 42, 180, 1, 102, 42, 180, 1, 102, 43]
abbrev dktX16_signAt_6 : List UInt8 := dkwX16_signAt_6 ++ dktX16_signAt_7
def dkwX16_signAt_5 : List UInt8 := [182, 0, 105, 42, 42, 180, 0, 246, 43, 21, 5, 50, 42, 180, 1, 105, 182, 0, 105, 42, 180, 1, 102, 42]
abbrev dktX16_signAt_5 : List UInt8 := dkwX16_signAt_5 ++ dktX16_signAt_6
def dkwX16_signAt_4 : List UInt8 := [180, 1, 108, 182, 0, 105, 21, 4, 156, 0, 54, 42, 42, 180, 1, 105, 42, 180, 1, 105, 42, 180, 1, 111]
abbrev dktX16_signAt_4 : List UInt8 := dkwX16_signAt_4 ++ dktX16_signAt_5
def dkwX16_signAt_3 : List UInt8 := [10, 182, 0, 83, 28, 4, 100, 54, 5, 21, 5, 155, 0, 97, 42, 42, 180, 1, 102, 42, 180, 1, 102, 42]
abbrev dktX16_signAt_3 : List UInt8 := dkwX16_signAt_3 ++ dktX16_signAt_4
def dkwX16_signAt_2 : List UInt8 := [180, 1, 108, 42, 180, 1, 111, 182, 0, 105, 42, 180, 1, 102, 43, 28, 50, 182, 0, 18, 42, 180, 1, 105]
abbrev dktX16_signAt_2 : List UInt8 := dkwX16_signAt_2 ++ dktX16_signAt_3
def dkwX16_signAt_1 : List UInt8 := [182, 1, 219, 42, 180, 1, 108, 45, 182, 0, 18, 21, 4, 158, 0, 19, 42, 42, 180, 1, 108, 42]
abbrev dktX16_signAt_1 : List UInt8 := dkwX16_signAt_1 ++ dktX16_signAt_2
def dkwX16_signAt_0 : List UInt8 := [28, 156, 0, 5, 3, 172, 42, 42, 180, 1, 111, 21, 4, 156, 0, 9, 21, 4, 116, 167, 0, 5, 21, 4]
abbrev dktX16_signAt_0 : List UInt8 := dkwX16_signAt_0 ++ dktX16_signAt_1
theorem dksX16_signAt_0 : cX16_signAt.data.toList.drop 0 = dktX16_signAt_0 := by decide +kernel
theorem dksX16_signAt_1 : cX16_signAt.data.toList.drop 24 = dktX16_signAt_1 := dk_seg dksX16_signAt_0 24 rfl rfl
theorem dksX16_signAt_2 : cX16_signAt.data.toList.drop 46 = dktX16_signAt_2 := dk_seg dksX16_signAt_1 22 rfl rfl
theorem dksX16_signAt_3 : cX16_signAt.data.toList.drop 70 = dktX16_signAt_3 := dk_seg dksX16_signAt_2 24 rfl rfl
theorem dksX16_signAt_4 : cX16_signAt.data.toList.drop 94 = dktX16_signAt_4 := dk_seg dksX16_signAt_3 24 rfl rfl
theorem dksX16_signAt_5 : cX16_signAt.data.toList.drop 118 = dktX16_signAt_5 := dk_seg dksX16_signAt_4 24 rfl rfl
theorem dksX16_signAt_6 : cX16_signAt.data.toList.drop 142 = dktX16_signAt_6 := dk_seg dksX16_signAt_5 24 rfl rfl
theorem dksX16_signAt_7 : cX16_signAt.data.toList.drop 165 = dktX16_signAt_7 := dk_seg dksX16_signAt_6 23 rfl rfl
theorem dX16_signAt_0 : decode cX16_signAt 0 = .ok (.iload_n 2, 1) := dk_28 (dk_at dksX16_signAt_0 0 rfl rfl)
theorem dX16_signAt_1 : decode cX16_signAt 1 = .ok (.ifCond .ge 5, 3) := dk_156 0 5 (dk_at dksX16_signAt_0 1 rfl rfl)
theorem dX16_signAt_4 : decode cX16_signAt 4 = .ok (.iconst 0, 1) := dk_3 (dk_at dksX16_signAt_0 4 rfl rfl)
theorem dX16_signAt_5 : decode cX16_signAt 5 = .ok (.ireturn, 1) := dk_172 (dk_at dksX16_signAt_0 5 rfl rfl)
theorem dX16_signAt_6 : decode cX16_signAt 6 = .ok (.aload_n 0, 1) := dk_42 (dk_at dksX16_signAt_0 6 rfl rfl)
theorem dX16_signAt_7 : decode cX16_signAt 7 = .ok (.aload_n 0, 1) := dk_42 (dk_at dksX16_signAt_0 7 rfl rfl)
theorem dX16_signAt_8 : decode cX16_signAt 8 = .ok (.getfield 367, 3) := dk_180 1 111 (dk_at dksX16_signAt_0 8 rfl rfl)
theorem dX16_signAt_11 : decode cX16_signAt 11 = .ok (.iload 4, 2) := dk_21 4 (dk_at dksX16_signAt_0 11 rfl rfl)
theorem dX16_signAt_13 : decode cX16_signAt 13 = .ok (.ifCond .ge 9, 3) := dk_156 0 9 (dk_at dksX16_signAt_0 13 rfl rfl)
theorem dX16_signAt_16 : decode cX16_signAt 16 = .ok (.iload 4, 2) := dk_21 4 (dk_at dksX16_signAt_0 16 rfl rfl)
theorem dX16_signAt_18 : decode cX16_signAt 18 = .ok (.ineg, 1) := dk_116 (dk_at dksX16_signAt_0 18 rfl rfl)
theorem dX16_signAt_19 : decode cX16_signAt 19 = .ok (.goto 5, 3) := dk_167 0 5 (dk_at dksX16_signAt_0 19 rfl rfl)
theorem dX16_signAt_22 : decode cX16_signAt 22 = .ok (.iload 4, 2) := dk_21 4 (dk_at dksX16_signAt_0 22 rfl rfl)
theorem dX16_signAt_24 : decode cX16_signAt 24 = .ok (.invokevirtual 475, 3) := dk_182 1 219 (dk_at dksX16_signAt_1 0 rfl rfl)
theorem dX16_signAt_27 : decode cX16_signAt 27 = .ok (.aload_n 0, 1) := dk_42 (dk_at dksX16_signAt_1 3 rfl rfl)
theorem dX16_signAt_28 : decode cX16_signAt 28 = .ok (.getfield 364, 3) := dk_180 1 108 (dk_at dksX16_signAt_1 4 rfl rfl)
theorem dX16_signAt_31 : decode cX16_signAt 31 = .ok (.aload_n 3, 1) := dk_45 (dk_at dksX16_signAt_1 7 rfl rfl)
theorem dX16_signAt_32 : decode cX16_signAt 32 = .ok (.invokevirtual 18, 3) := dk_182 0 18 (dk_at dksX16_signAt_1 8 rfl rfl)
theorem dX16_signAt_35 : decode cX16_signAt 35 = .ok (.iload 4, 2) := dk_21 4 (dk_at dksX16_signAt_1 11 rfl rfl)
theorem dX16_signAt_37 : decode cX16_signAt 37 = .ok (.ifCond .le 19, 3) := dk_158 0 19 (dk_at dksX16_signAt_1 13 rfl rfl)
theorem dX16_signAt_40 : decode cX16_signAt 40 = .ok (.aload_n 0, 1) := dk_42 (dk_at dksX16_signAt_1 16 rfl rfl)
theorem dX16_signAt_41 : decode cX16_signAt 41 = .ok (.aload_n 0, 1) := dk_42 (dk_at dksX16_signAt_1 17 rfl rfl)
theorem dX16_signAt_42 : decode cX16_signAt 42 = .ok (.getfield 364, 3) := dk_180 1 108 (dk_at dksX16_signAt_1 18 rfl rfl)
theorem dX16_signAt_45 : decode cX16_signAt 45 = .ok (.aload_n 0, 1) := dk_42 (dk_at dksX16_signAt_1 21 rfl rfl)
theorem dX16_signAt_46 : decode cX16_signAt 46 = .ok (.getfield 364, 3) := dk_180 1 108 (dk_at dksX16_signAt_2 0 rfl rfl)
theorem dX16_signAt_49 : decode cX16_signAt 49 = .ok (.aload_n 0, 1) := dk_42 (dk_at dksX16_signAt_2 3 rfl rfl)
theorem dX16_signAt_50 : decode cX16_signAt 50 = .ok (.getfield 367, 3) := dk_180 1 111 (dk_at dksX16_signAt_2 4 rfl rfl)
theorem dX16_signAt_53 : decode cX16_signAt 53 = .ok (.invokevirtual 105, 3) := dk_182 0 105 (dk_at dksX16_signAt_2 7 rfl rfl)
theorem dX16_signAt_56 : decode cX16_signAt 56 = .ok (.aload_n 0, 1) := dk_42 (dk_at dksX16_signAt_2 10 rfl rfl)
theorem dX16_signAt_57 : decode cX16_signAt 57 = .ok (.getfield 358, 3) := dk_180 1 102 (dk_at dksX16_signAt_2 11 rfl rfl)
theorem dX16_signAt_60 : decode cX16_signAt 60 = .ok (.aload_n 1, 1) := dk_43 (dk_at dksX16_signAt_2 14 rfl rfl)
theorem dX16_signAt_61 : decode cX16_signAt 61 = .ok (.iload_n 2, 1) := dk_28 (dk_at dksX16_signAt_2 15 rfl rfl)
theorem dX16_signAt_62 : decode cX16_signAt 62 = .ok (.aaload, 1) := dk_50 (dk_at dksX16_signAt_2 16 rfl rfl)
theorem dX16_signAt_63 : decode cX16_signAt 63 = .ok (.invokevirtual 18, 3) := dk_182 0 18 (dk_at dksX16_signAt_2 17 rfl rfl)
theorem dX16_signAt_66 : decode cX16_signAt 66 = .ok (.aload_n 0, 1) := dk_42 (dk_at dksX16_signAt_2 20 rfl rfl)
theorem dX16_signAt_67 : decode cX16_signAt 67 = .ok (.getfield 361, 3) := dk_180 1 105 (dk_at dksX16_signAt_2 21 rfl rfl)
theorem dX16_signAt_70 : decode cX16_signAt 70 = .ok (.lconst 1, 1) := dk_10 (dk_at dksX16_signAt_3 0 rfl rfl)
theorem dX16_signAt_71 : decode cX16_signAt 71 = .ok (.invokevirtual 83, 3) := dk_182 0 83 (dk_at dksX16_signAt_3 1 rfl rfl)
theorem dX16_signAt_74 : decode cX16_signAt 74 = .ok (.iload_n 2, 1) := dk_28 (dk_at dksX16_signAt_3 4 rfl rfl)
theorem dX16_signAt_75 : decode cX16_signAt 75 = .ok (.iconst 1, 1) := dk_4 (dk_at dksX16_signAt_3 5 rfl rfl)
theorem dX16_signAt_76 : decode cX16_signAt 76 = .ok (.isub, 1) := dk_100 (dk_at dksX16_signAt_3 6 rfl rfl)
theorem dX16_signAt_77 : decode cX16_signAt 77 = .ok (.istore 5, 2) := dk_54 5 (dk_at dksX16_signAt_3 7 rfl rfl)
theorem dX16_signAt_79 : decode cX16_signAt 79 = .ok (.iload 5, 2) := dk_21 5 (dk_at dksX16_signAt_3 9 rfl rfl)
theorem dX16_signAt_81 : decode cX16_signAt 81 = .ok (.ifCond .lt 97, 3) := dk_155 0 97 (dk_at dksX16_signAt_3 11 rfl rfl)
theorem dX16_signAt_84 : decode cX16_signAt 84 = .ok (.aload_n 0, 1) := dk_42 (dk_at dksX16_signAt_3 14 rfl rfl)
theorem dX16_signAt_85 : decode cX16_signAt 85 = .ok (.aload_n 0, 1) := dk_42 (dk_at dksX16_signAt_3 15 rfl rfl)
theorem dX16_signAt_86 : decode cX16_signAt 86 = .ok (.getfield 358, 3) := dk_180 1 102 (dk_at dksX16_signAt_3 16 rfl rfl)
theorem dX16_signAt_89 : decode cX16_signAt 89 = .ok (.aload_n 0, 1) := dk_42 (dk_at dksX16_signAt_3 19 rfl rfl)
theorem dX16_signAt_90 : decode cX16_signAt 90 = .ok (.getfield 358, 3) := dk_180 1 102 (dk_at dksX16_signAt_3 20 rfl rfl)
theorem dX16_signAt_93 : decode cX16_signAt 93 = .ok (.aload_n 0, 1) := dk_42 (dk_at dksX16_signAt_3 23 rfl rfl)
theorem dX16_signAt_94 : decode cX16_signAt 94 = .ok (.getfield 364, 3) := dk_180 1 108 (dk_at dksX16_signAt_4 0 rfl rfl)
theorem dX16_signAt_97 : decode cX16_signAt 97 = .ok (.invokevirtual 105, 3) := dk_182 0 105 (dk_at dksX16_signAt_4 3 rfl rfl)
theorem dX16_signAt_100 : decode cX16_signAt 100 = .ok (.iload 4, 2) := dk_21 4 (dk_at dksX16_signAt_4 6 rfl rfl)
theorem dX16_signAt_102 : decode cX16_signAt 102 = .ok (.ifCond .ge 54, 3) := dk_156 0 54 (dk_at dksX16_signAt_4 8 rfl rfl)
theorem dX16_signAt_105 : decode cX16_signAt 105 = .ok (.aload_n 0, 1) := dk_42 (dk_at dksX16_signAt_4 11 rfl rfl)
theorem dX16_signAt_106 : decode cX16_signAt 106 = .ok (.aload_n 0, 1) := dk_42 (dk_at dksX16_signAt_4 12 rfl rfl)
theorem dX16_signAt_107 : decode cX16_signAt 107 = .ok (.getfield 361, 3) := dk_180 1 105 (dk_at dksX16_signAt_4 13 rfl rfl)
theorem dX16_signAt_110 : decode cX16_signAt 110 = .ok (.aload_n 0, 1) := dk_42 (dk_at dksX16_signAt_4 16 rfl rfl)
theorem dX16_signAt_111 : decode cX16_signAt 111 = .ok (.getfield 361, 3) := dk_180 1 105 (dk_at dksX16_signAt_4 17 rfl rfl)
theorem dX16_signAt_114 : decode cX16_signAt 114 = .ok (.aload_n 0, 1) := dk_42 (dk_at dksX16_signAt_4 20 rfl rfl)
theorem dX16_signAt_115 : decode cX16_signAt 115 = .ok (.getfield 367, 3) := dk_180 1 111 (dk_at dksX16_signAt_4 21 rfl rfl)
theorem dX16_signAt_118 : decode cX16_signAt 118 = .ok (.invokevirtual 105, 3) := dk_182 0 105 (dk_at dksX16_signAt_5 0 rfl rfl)
theorem dX16_signAt_121 : decode cX16_signAt 121 = .ok (.aload_n 0, 1) := dk_42 (dk_at dksX16_signAt_5 3 rfl rfl)
theorem dX16_signAt_122 : decode cX16_signAt 122 = .ok (.aload_n 0, 1) := dk_42 (dk_at dksX16_signAt_5 4 rfl rfl)
theorem dX16_signAt_123 : decode cX16_signAt 123 = .ok (.getfield 246, 3) := dk_180 0 246 (dk_at dksX16_signAt_5 5 rfl rfl)
theorem dX16_signAt_126 : decode cX16_signAt 126 = .ok (.aload_n 1, 1) := dk_43 (dk_at dksX16_signAt_5 8 rfl rfl)
theorem dX16_signAt_127 : decode cX16_signAt 127 = .ok (.iload 5, 2) := dk_21 5 (dk_at dksX16_signAt_5 9 rfl rfl)
theorem dX16_signAt_129 : decode cX16_signAt 129 = .ok (.aaload, 1) := dk_50 (dk_at dksX16_signAt_5 11 rfl rfl)
theorem dX16_signAt_130 : decode cX16_signAt 130 = .ok (.aload_n 0, 1) := dk_42 (dk_at dksX16_signAt_5 12 rfl rfl)
theorem dX16_signAt_131 : decode cX16_signAt 131 = .ok (.getfield 361, 3) := dk_180 1 105 (dk_at dksX16_signAt_5 13 rfl rfl)
theorem dX16_signAt_134 : decode cX16_signAt 134 = .ok (.invokevirtual 105, 3) := dk_182 0 105 (dk_at dksX16_signAt_5 16 rfl rfl)
theorem dX16_signAt_137 : decode cX16_signAt 137 = .ok (.aload_n 0, 1) := dk_42 (dk_at dksX16_signAt_5 19 rfl rfl)
theorem dX16_signAt_138 : decode cX16_signAt 138 = .ok (.getfield 358, 3) := dk_180 1 102 (dk_at dksX16_signAt_5 20 rfl rfl)
theorem dX16_signAt_141 : decode cX16_signAt 141 = .ok (.aload_n 0, 1) := dk_42 (dk_at dksX16_signAt_5 23 rfl rfl)
theorem dX16_signAt_142 : decode cX16_signAt 142 = .ok (.getfield 358, 3) := dk_180 1 102 (dk_at dksX16_signAt_6 0 rfl rfl)
theorem dX16_signAt_145 : decode cX16_signAt 145 = .ok (.aload_n 0, 1) := dk_42 (dk_at dksX16_signAt_6 3 rfl rfl)
theorem dX16_signAt_146 : decode cX16_signAt 146 = .ok (.getfield 246, 3) := dk_180 0 246 (dk_at dksX16_signAt_6 4 rfl rfl)
theorem dX16_signAt_149 : decode cX16_signAt 149 = .ok (.iconst 1, 1) := dk_4 (dk_at dksX16_signAt_6 7 rfl rfl)
theorem dX16_signAt_150 : decode cX16_signAt 150 = .ok (.invokestatic 111, 3) := dk_184 0 111 (dk_at dksX16_signAt_6 8 rfl rfl)
theorem dX16_signAt_153 : decode cX16_signAt 153 = .ok (.goto 19, 3) := dk_167 0 19 (dk_at dksX16_signAt_6 11 rfl rfl)
theorem dX16_signAt_156 : decode cX16_signAt 156 = .ok (.aload_n 0, 1) := dk_42 (dk_at dksX16_signAt_6 14 rfl rfl)
theorem dX16_signAt_157 : decode cX16_signAt 157 = .ok (.getfield 358, 3) := dk_180 1 102 (dk_at dksX16_signAt_6 15 rfl rfl)
theorem dX16_signAt_160 : decode cX16_signAt 160 = .ok (.aload_n 0, 1) := dk_42 (dk_at dksX16_signAt_6 18 rfl rfl)
theorem dX16_signAt_161 : decode cX16_signAt 161 = .ok (.getfield 358, 3) := dk_180 1 102 (dk_at dksX16_signAt_6 19 rfl rfl)
theorem dX16_signAt_164 : decode cX16_signAt 164 = .ok (.aload_n 1, 1) := dk_43 (dk_at dksX16_signAt_6 22 rfl rfl)
theorem dX16_signAt_165 : decode cX16_signAt 165 = .ok (.iload 5, 2) := dk_21 5 (dk_at dksX16_signAt_7 0 rfl rfl)
theorem dX16_signAt_167 : decode cX16_signAt 167 = .ok (.aaload, 1) := dk_50 (dk_at dksX16_signAt_7 2 rfl rfl)
theorem dX16_signAt_168 : decode cX16_signAt 168 = .ok (.iconst 1, 1) := dk_4 (dk_at dksX16_signAt_7 3 rfl rfl)
theorem dX16_signAt_169 : decode cX16_signAt 169 = .ok (.invokestatic 111, 3) := dk_184 0 111 (dk_at dksX16_signAt_7 4 rfl rfl)
theorem dX16_signAt_172 : decode cX16_signAt 172 = .ok (.iinc 5 (-1), 3) := dk_132 5 255 (dk_at dksX16_signAt_7 7 rfl rfl)
theorem dX16_signAt_175 : decode cX16_signAt 175 = .ok (.goto (-96), 3) := dk_167 255 160 (dk_at dksX16_signAt_7 10 rfl rfl)
theorem dX16_signAt_178 : decode cX16_signAt 178 = .ok (.aload_n 0, 1) := dk_42 (dk_at dksX16_signAt_7 13 rfl rfl)
theorem dX16_signAt_179 : decode cX16_signAt 179 = .ok (.getfield 358, 3) := dk_180 1 102 (dk_at dksX16_signAt_7 14 rfl rfl)
theorem dX16_signAt_182 : decode cX16_signAt 182 = .ok (.getfield 15, 3) := dk_180 0 15 (dk_at dksX16_signAt_7 17 rfl rfl)
theorem dX16_signAt_185 : decode cX16_signAt 185 = .ok (.ireturn, 1) := dk_172 (dk_at dksX16_signAt_7 20 rfl rfl)
abbrev cX16_root : ByteArray := prog_21_method_86_code
def yX16_root : MethodName := ⟨RX16, "root", "(II)I"⟩
def dkwX16_root_5 : List UInt8 := [180, 1, 95, 21, 4, 47, 80, 132, 4, 1, 167, 255, 230, 3, 172]
abbrev dktX16_root_5 : List UInt8 := dkwX16_root_5 ++ []
def dkwX16_root_4 : List UInt8 := [180, 2, 119, 79, 3, 54, 4, 21, 4, 16, 8, 163, 0, 25, 42, 180, 0, 196, 28, 50, 21, 4, 42]
abbrev dktX16_root_4 : List UInt8 := dkwX16_root_4 ++ dktX16_root_5
def dkwX16_root_3 : List UInt8 := [180, 0, 209, 28, 42, 180, 1, 92, 27, 46, 79, 42, 180, 0, 188, 28, 3, 79, 42, 180, 0, 199, 28, 42]
abbrev dktX16_root_3 : List UInt8 := dkwX16_root_3 ++ dktX16_root_4
def dkwX16_root_2 : List UInt8 := [180, 0, 181, 28, 6, 79, 42, 180, 0, 206, 28, 50, 42, 180, 1, 89, 27, 50, 182, 0, 18, 42]
abbrev dktX16_root_2 : List UInt8 := dkwX16_root_2 ++ dktX16_root_3
def dkwX16_root_1 : List UInt8 := [180, 2, 113, 161, 0, 18, 42, 29, 156, 0, 7, 29, 167, 0, 5, 16, 249, 182, 1, 151, 172, 42]
abbrev dktX16_root_1 : List UInt8 := dkwX16_root_1 ++ dktX16_root_2
def dkwX16_root_0 : List UInt8 := [42, 28, 182, 1, 161, 62, 29, 155, 0, 22, 42, 180, 2, 110, 153, 0, 15, 27, 155, 0, 11, 27, 42]
abbrev dktX16_root_0 : List UInt8 := dkwX16_root_0 ++ dktX16_root_1
theorem dksX16_root_0 : cX16_root.data.toList.drop 0 = dktX16_root_0 := by decide +kernel
theorem dksX16_root_1 : cX16_root.data.toList.drop 23 = dktX16_root_1 := dk_seg dksX16_root_0 23 rfl rfl
theorem dksX16_root_2 : cX16_root.data.toList.drop 45 = dktX16_root_2 := dk_seg dksX16_root_1 22 rfl rfl
theorem dksX16_root_3 : cX16_root.data.toList.drop 67 = dktX16_root_3 := dk_seg dksX16_root_2 22 rfl rfl
theorem dksX16_root_4 : cX16_root.data.toList.drop 91 = dktX16_root_4 := dk_seg dksX16_root_3 24 rfl rfl
theorem dksX16_root_5 : cX16_root.data.toList.drop 114 = dktX16_root_5 := dk_seg dksX16_root_4 23 rfl rfl
theorem dX16_root_0 : decode cX16_root 0 = .ok (.aload_n 0, 1) := dk_42 (dk_at dksX16_root_0 0 rfl rfl)
theorem dX16_root_1 : decode cX16_root 1 = .ok (.iload_n 2, 1) := dk_28 (dk_at dksX16_root_0 1 rfl rfl)
theorem dX16_root_2 : decode cX16_root 2 = .ok (.invokevirtual 417, 3) := dk_182 1 161 (dk_at dksX16_root_0 2 rfl rfl)
theorem dX16_root_5 : decode cX16_root 5 = .ok (.istore_n 3, 1) := dk_62 (dk_at dksX16_root_0 5 rfl rfl)
theorem dX16_root_6 : decode cX16_root 6 = .ok (.iload_n 3, 1) := dk_29 (dk_at dksX16_root_0 6 rfl rfl)
theorem dX16_root_7 : decode cX16_root 7 = .ok (.ifCond .lt 22, 3) := dk_155 0 22 (dk_at dksX16_root_0 7 rfl rfl)
theorem dX16_root_10 : decode cX16_root 10 = .ok (.aload_n 0, 1) := dk_42 (dk_at dksX16_root_0 10 rfl rfl)
theorem dX16_root_11 : decode cX16_root 11 = .ok (.getfield 622, 3) := dk_180 2 110 (dk_at dksX16_root_0 11 rfl rfl)
theorem dX16_root_14 : decode cX16_root 14 = .ok (.ifCond .eq 15, 3) := dk_153 0 15 (dk_at dksX16_root_0 14 rfl rfl)
theorem dX16_root_17 : decode cX16_root 17 = .ok (.iload_n 1, 1) := dk_27 (dk_at dksX16_root_0 17 rfl rfl)
theorem dX16_root_18 : decode cX16_root 18 = .ok (.ifCond .lt 11, 3) := dk_155 0 11 (dk_at dksX16_root_0 18 rfl rfl)
theorem dX16_root_21 : decode cX16_root 21 = .ok (.iload_n 1, 1) := dk_27 (dk_at dksX16_root_0 21 rfl rfl)
theorem dX16_root_22 : decode cX16_root 22 = .ok (.aload_n 0, 1) := dk_42 (dk_at dksX16_root_0 22 rfl rfl)
theorem dX16_root_23 : decode cX16_root 23 = .ok (.getfield 625, 3) := dk_180 2 113 (dk_at dksX16_root_1 0 rfl rfl)
theorem dX16_root_26 : decode cX16_root 26 = .ok (.if_icmp .lt 18, 3) := dk_161 0 18 (dk_at dksX16_root_1 3 rfl rfl)
theorem dX16_root_29 : decode cX16_root 29 = .ok (.aload_n 0, 1) := dk_42 (dk_at dksX16_root_1 6 rfl rfl)
theorem dX16_root_30 : decode cX16_root 30 = .ok (.iload_n 3, 1) := dk_29 (dk_at dksX16_root_1 7 rfl rfl)
theorem dX16_root_31 : decode cX16_root 31 = .ok (.ifCond .ge 7, 3) := dk_156 0 7 (dk_at dksX16_root_1 8 rfl rfl)
theorem dX16_root_34 : decode cX16_root 34 = .ok (.iload_n 3, 1) := dk_29 (dk_at dksX16_root_1 11 rfl rfl)
theorem dX16_root_35 : decode cX16_root 35 = .ok (.goto 5, 3) := dk_167 0 5 (dk_at dksX16_root_1 12 rfl rfl)
theorem dX16_root_38 : decode cX16_root 38 = .ok (.bipush (-7), 2) := dk_16 249 (dk_at dksX16_root_1 15 rfl rfl)
theorem dX16_root_40 : decode cX16_root 40 = .ok (.invokevirtual 407, 3) := dk_182 1 151 (dk_at dksX16_root_1 17 rfl rfl)
theorem dX16_root_43 : decode cX16_root 43 = .ok (.ireturn, 1) := dk_172 (dk_at dksX16_root_1 20 rfl rfl)
theorem dX16_root_44 : decode cX16_root 44 = .ok (.aload_n 0, 1) := dk_42 (dk_at dksX16_root_1 21 rfl rfl)
theorem dX16_root_45 : decode cX16_root 45 = .ok (.getfield 181, 3) := dk_180 0 181 (dk_at dksX16_root_2 0 rfl rfl)
theorem dX16_root_48 : decode cX16_root 48 = .ok (.iload_n 2, 1) := dk_28 (dk_at dksX16_root_2 3 rfl rfl)
theorem dX16_root_49 : decode cX16_root 49 = .ok (.iconst 3, 1) := dk_6 (dk_at dksX16_root_2 4 rfl rfl)
theorem dX16_root_50 : decode cX16_root 50 = .ok (.iastore, 1) := dk_79 (dk_at dksX16_root_2 5 rfl rfl)
theorem dX16_root_51 : decode cX16_root 51 = .ok (.aload_n 0, 1) := dk_42 (dk_at dksX16_root_2 6 rfl rfl)
theorem dX16_root_52 : decode cX16_root 52 = .ok (.getfield 206, 3) := dk_180 0 206 (dk_at dksX16_root_2 7 rfl rfl)
theorem dX16_root_55 : decode cX16_root 55 = .ok (.iload_n 2, 1) := dk_28 (dk_at dksX16_root_2 10 rfl rfl)
theorem dX16_root_56 : decode cX16_root 56 = .ok (.aaload, 1) := dk_50 (dk_at dksX16_root_2 11 rfl rfl)
theorem dX16_root_57 : decode cX16_root 57 = .ok (.aload_n 0, 1) := dk_42 (dk_at dksX16_root_2 12 rfl rfl)
theorem dX16_root_58 : decode cX16_root 58 = .ok (.getfield 345, 3) := dk_180 1 89 (dk_at dksX16_root_2 13 rfl rfl)
theorem dX16_root_61 : decode cX16_root 61 = .ok (.iload_n 1, 1) := dk_27 (dk_at dksX16_root_2 16 rfl rfl)
theorem dX16_root_62 : decode cX16_root 62 = .ok (.aaload, 1) := dk_50 (dk_at dksX16_root_2 17 rfl rfl)
theorem dX16_root_63 : decode cX16_root 63 = .ok (.invokevirtual 18, 3) := dk_182 0 18 (dk_at dksX16_root_2 18 rfl rfl)
theorem dX16_root_66 : decode cX16_root 66 = .ok (.aload_n 0, 1) := dk_42 (dk_at dksX16_root_2 21 rfl rfl)
theorem dX16_root_67 : decode cX16_root 67 = .ok (.getfield 209, 3) := dk_180 0 209 (dk_at dksX16_root_3 0 rfl rfl)
theorem dX16_root_70 : decode cX16_root 70 = .ok (.iload_n 2, 1) := dk_28 (dk_at dksX16_root_3 3 rfl rfl)
theorem dX16_root_71 : decode cX16_root 71 = .ok (.aload_n 0, 1) := dk_42 (dk_at dksX16_root_3 4 rfl rfl)
theorem dX16_root_72 : decode cX16_root 72 = .ok (.getfield 348, 3) := dk_180 1 92 (dk_at dksX16_root_3 5 rfl rfl)
theorem dX16_root_75 : decode cX16_root 75 = .ok (.iload_n 1, 1) := dk_27 (dk_at dksX16_root_3 8 rfl rfl)
theorem dX16_root_76 : decode cX16_root 76 = .ok (.iaload, 1) := dk_46 (dk_at dksX16_root_3 9 rfl rfl)
theorem dX16_root_77 : decode cX16_root 77 = .ok (.iastore, 1) := dk_79 (dk_at dksX16_root_3 10 rfl rfl)
theorem dX16_root_78 : decode cX16_root 78 = .ok (.aload_n 0, 1) := dk_42 (dk_at dksX16_root_3 11 rfl rfl)
theorem dX16_root_79 : decode cX16_root 79 = .ok (.getfield 188, 3) := dk_180 0 188 (dk_at dksX16_root_3 12 rfl rfl)
theorem dX16_root_82 : decode cX16_root 82 = .ok (.iload_n 2, 1) := dk_28 (dk_at dksX16_root_3 15 rfl rfl)
theorem dX16_root_83 : decode cX16_root 83 = .ok (.iconst 0, 1) := dk_3 (dk_at dksX16_root_3 16 rfl rfl)
theorem dX16_root_84 : decode cX16_root 84 = .ok (.iastore, 1) := dk_79 (dk_at dksX16_root_3 17 rfl rfl)
theorem dX16_root_85 : decode cX16_root 85 = .ok (.aload_n 0, 1) := dk_42 (dk_at dksX16_root_3 18 rfl rfl)
theorem dX16_root_86 : decode cX16_root 86 = .ok (.getfield 199, 3) := dk_180 0 199 (dk_at dksX16_root_3 19 rfl rfl)
theorem dX16_root_89 : decode cX16_root 89 = .ok (.iload_n 2, 1) := dk_28 (dk_at dksX16_root_3 22 rfl rfl)
theorem dX16_root_90 : decode cX16_root 90 = .ok (.aload_n 0, 1) := dk_42 (dk_at dksX16_root_3 23 rfl rfl)
theorem dX16_root_91 : decode cX16_root 91 = .ok (.getfield 631, 3) := dk_180 2 119 (dk_at dksX16_root_4 0 rfl rfl)
theorem dX16_root_94 : decode cX16_root 94 = .ok (.iastore, 1) := dk_79 (dk_at dksX16_root_4 3 rfl rfl)
theorem dX16_root_95 : decode cX16_root 95 = .ok (.iconst 0, 1) := dk_3 (dk_at dksX16_root_4 4 rfl rfl)
theorem dX16_root_96 : decode cX16_root 96 = .ok (.istore 4, 2) := dk_54 4 (dk_at dksX16_root_4 5 rfl rfl)
theorem dX16_root_98 : decode cX16_root 98 = .ok (.iload 4, 2) := dk_21 4 (dk_at dksX16_root_4 7 rfl rfl)
theorem dX16_root_100 : decode cX16_root 100 = .ok (.bipush 8, 2) := dk_16 8 (dk_at dksX16_root_4 9 rfl rfl)
theorem dX16_root_102 : decode cX16_root 102 = .ok (.if_icmp .gt 25, 3) := dk_163 0 25 (dk_at dksX16_root_4 11 rfl rfl)
theorem dX16_root_105 : decode cX16_root 105 = .ok (.aload_n 0, 1) := dk_42 (dk_at dksX16_root_4 14 rfl rfl)
theorem dX16_root_106 : decode cX16_root 106 = .ok (.getfield 196, 3) := dk_180 0 196 (dk_at dksX16_root_4 15 rfl rfl)
theorem dX16_root_109 : decode cX16_root 109 = .ok (.iload_n 2, 1) := dk_28 (dk_at dksX16_root_4 18 rfl rfl)
theorem dX16_root_110 : decode cX16_root 110 = .ok (.aaload, 1) := dk_50 (dk_at dksX16_root_4 19 rfl rfl)
theorem dX16_root_111 : decode cX16_root 111 = .ok (.iload 4, 2) := dk_21 4 (dk_at dksX16_root_4 20 rfl rfl)
theorem dX16_root_113 : decode cX16_root 113 = .ok (.aload_n 0, 1) := dk_42 (dk_at dksX16_root_4 22 rfl rfl)
theorem dX16_root_114 : decode cX16_root 114 = .ok (.getfield 351, 3) := dk_180 1 95 (dk_at dksX16_root_5 0 rfl rfl)
theorem dX16_root_117 : decode cX16_root 117 = .ok (.iload 4, 2) := dk_21 4 (dk_at dksX16_root_5 3 rfl rfl)
theorem dX16_root_119 : decode cX16_root 119 = .ok (.laload, 1) := dk_47 (dk_at dksX16_root_5 5 rfl rfl)
theorem dX16_root_120 : decode cX16_root 120 = .ok (.lastore, 1) := dk_80 (dk_at dksX16_root_5 6 rfl rfl)
theorem dX16_root_121 : decode cX16_root 121 = .ok (.iinc 4 1, 3) := dk_132 4 1 (dk_at dksX16_root_5 7 rfl rfl)
theorem dX16_root_124 : decode cX16_root 124 = .ok (.goto (-26), 3) := dk_167 255 230 (dk_at dksX16_root_5 10 rfl rfl)
theorem dX16_root_127 : decode cX16_root 127 = .ok (.iconst 0, 1) := dk_3 (dk_at dksX16_root_5 13 rfl rfl)
theorem dX16_root_128 : decode cX16_root 128 = .ok (.ireturn, 1) := dk_172 (dk_at dksX16_root_5 14 rfl rfl)
abbrev cX16_narrow : ByteArray := prog_21_method_88_code
def yX16_narrow : MethodName := ⟨RX16, "narrow", "(I)I"⟩
def dkwX16_narrow_3 : List UInt8 := [180, 0, 209, 27, 92, 46, 4, 96, 79, 42, 180, 0, 188, 27, 92, 46, 4, 96, 79, 29, 172]
abbrev dktX16_narrow_3 : List UInt8 := dkwX16_narrow_3 ++ []
def dkwX16_narrow_2 : List UInt8 := [27, 46, 182, 2, 102, 42, 42, 180, 0, 206, 27, 50, 42, 180, 0, 209, 27, 46, 182, 2, 128, 62, 42]
abbrev dktX16_narrow_2 : List UInt8 := dkwX16_narrow_2 ++ dktX16_narrow_3
def dkwX16_narrow_1 : List UInt8 := [156, 0, 7, 28, 167, 0, 5, 16, 250, 182, 1, 151, 172, 42, 42, 180, 0, 196, 27, 50, 42, 180, 0, 199]
abbrev dktX16_narrow_1 : List UInt8 := dkwX16_narrow_1 ++ dktX16_narrow_2
def dkwX16_narrow_0 : List UInt8 := [42, 27, 6, 182, 1, 164, 61, 28, 155, 0, 14, 42, 180, 0, 188, 27, 46, 16, 60, 160, 0, 18, 42, 28]
abbrev dktX16_narrow_0 : List UInt8 := dkwX16_narrow_0 ++ dktX16_narrow_1
theorem dksX16_narrow_0 : cX16_narrow.data.toList.drop 0 = dktX16_narrow_0 := by decide +kernel
theorem dksX16_narrow_1 : cX16_narrow.data.toList.drop 24 = dktX16_narrow_1 := dk_seg dksX16_narrow_0 24 rfl rfl
theorem dksX16_narrow_2 : cX16_narrow.data.toList.drop 48 = dktX16_narrow_2 := dk_seg dksX16_narrow_1 24 rfl rfl
theorem dksX16_narrow_3 : cX16_narrow.data.toList.drop 71 = dktX16_narrow_3 := dk_seg dksX16_narrow_2 23 rfl rfl
theorem dX16_narrow_0 : decode cX16_narrow 0 = .ok (.aload_n 0, 1) := dk_42 (dk_at dksX16_narrow_0 0 rfl rfl)
theorem dX16_narrow_1 : decode cX16_narrow 1 = .ok (.iload_n 1, 1) := dk_27 (dk_at dksX16_narrow_0 1 rfl rfl)
theorem dX16_narrow_2 : decode cX16_narrow 2 = .ok (.iconst 3, 1) := dk_6 (dk_at dksX16_narrow_0 2 rfl rfl)
theorem dX16_narrow_3 : decode cX16_narrow 3 = .ok (.invokevirtual 420, 3) := dk_182 1 164 (dk_at dksX16_narrow_0 3 rfl rfl)
theorem dX16_narrow_6 : decode cX16_narrow 6 = .ok (.istore_n 2, 1) := dk_61 (dk_at dksX16_narrow_0 6 rfl rfl)
theorem dX16_narrow_7 : decode cX16_narrow 7 = .ok (.iload_n 2, 1) := dk_28 (dk_at dksX16_narrow_0 7 rfl rfl)
theorem dX16_narrow_8 : decode cX16_narrow 8 = .ok (.ifCond .lt 14, 3) := dk_155 0 14 (dk_at dksX16_narrow_0 8 rfl rfl)
theorem dX16_narrow_11 : decode cX16_narrow 11 = .ok (.aload_n 0, 1) := dk_42 (dk_at dksX16_narrow_0 11 rfl rfl)
theorem dX16_narrow_12 : decode cX16_narrow 12 = .ok (.getfield 188, 3) := dk_180 0 188 (dk_at dksX16_narrow_0 12 rfl rfl)
theorem dX16_narrow_15 : decode cX16_narrow 15 = .ok (.iload_n 1, 1) := dk_27 (dk_at dksX16_narrow_0 15 rfl rfl)
theorem dX16_narrow_16 : decode cX16_narrow 16 = .ok (.iaload, 1) := dk_46 (dk_at dksX16_narrow_0 16 rfl rfl)
theorem dX16_narrow_17 : decode cX16_narrow 17 = .ok (.bipush 60, 2) := dk_16 60 (dk_at dksX16_narrow_0 17 rfl rfl)
theorem dX16_narrow_19 : decode cX16_narrow 19 = .ok (.if_icmp .ne 18, 3) := dk_160 0 18 (dk_at dksX16_narrow_0 19 rfl rfl)
theorem dX16_narrow_22 : decode cX16_narrow 22 = .ok (.aload_n 0, 1) := dk_42 (dk_at dksX16_narrow_0 22 rfl rfl)
theorem dX16_narrow_23 : decode cX16_narrow 23 = .ok (.iload_n 2, 1) := dk_28 (dk_at dksX16_narrow_0 23 rfl rfl)
theorem dX16_narrow_24 : decode cX16_narrow 24 = .ok (.ifCond .ge 7, 3) := dk_156 0 7 (dk_at dksX16_narrow_1 0 rfl rfl)
theorem dX16_narrow_27 : decode cX16_narrow 27 = .ok (.iload_n 2, 1) := dk_28 (dk_at dksX16_narrow_1 3 rfl rfl)
theorem dX16_narrow_28 : decode cX16_narrow 28 = .ok (.goto 5, 3) := dk_167 0 5 (dk_at dksX16_narrow_1 4 rfl rfl)
theorem dX16_narrow_31 : decode cX16_narrow 31 = .ok (.bipush (-6), 2) := dk_16 250 (dk_at dksX16_narrow_1 7 rfl rfl)
theorem dX16_narrow_33 : decode cX16_narrow 33 = .ok (.invokevirtual 407, 3) := dk_182 1 151 (dk_at dksX16_narrow_1 9 rfl rfl)
theorem dX16_narrow_36 : decode cX16_narrow 36 = .ok (.ireturn, 1) := dk_172 (dk_at dksX16_narrow_1 12 rfl rfl)
theorem dX16_narrow_37 : decode cX16_narrow 37 = .ok (.aload_n 0, 1) := dk_42 (dk_at dksX16_narrow_1 13 rfl rfl)
theorem dX16_narrow_38 : decode cX16_narrow 38 = .ok (.aload_n 0, 1) := dk_42 (dk_at dksX16_narrow_1 14 rfl rfl)
theorem dX16_narrow_39 : decode cX16_narrow 39 = .ok (.getfield 196, 3) := dk_180 0 196 (dk_at dksX16_narrow_1 15 rfl rfl)
theorem dX16_narrow_42 : decode cX16_narrow 42 = .ok (.iload_n 1, 1) := dk_27 (dk_at dksX16_narrow_1 18 rfl rfl)
theorem dX16_narrow_43 : decode cX16_narrow 43 = .ok (.aaload, 1) := dk_50 (dk_at dksX16_narrow_1 19 rfl rfl)
theorem dX16_narrow_44 : decode cX16_narrow 44 = .ok (.aload_n 0, 1) := dk_42 (dk_at dksX16_narrow_1 20 rfl rfl)
theorem dX16_narrow_45 : decode cX16_narrow 45 = .ok (.getfield 199, 3) := dk_180 0 199 (dk_at dksX16_narrow_1 21 rfl rfl)
theorem dX16_narrow_48 : decode cX16_narrow 48 = .ok (.iload_n 1, 1) := dk_27 (dk_at dksX16_narrow_2 0 rfl rfl)
theorem dX16_narrow_49 : decode cX16_narrow 49 = .ok (.iaload, 1) := dk_46 (dk_at dksX16_narrow_2 1 rfl rfl)
theorem dX16_narrow_50 : decode cX16_narrow 50 = .ok (.invokevirtual 614, 3) := dk_182 2 102 (dk_at dksX16_narrow_2 2 rfl rfl)
theorem dX16_narrow_53 : decode cX16_narrow 53 = .ok (.aload_n 0, 1) := dk_42 (dk_at dksX16_narrow_2 5 rfl rfl)
theorem dX16_narrow_54 : decode cX16_narrow 54 = .ok (.aload_n 0, 1) := dk_42 (dk_at dksX16_narrow_2 6 rfl rfl)
theorem dX16_narrow_55 : decode cX16_narrow 55 = .ok (.getfield 206, 3) := dk_180 0 206 (dk_at dksX16_narrow_2 7 rfl rfl)
theorem dX16_narrow_58 : decode cX16_narrow 58 = .ok (.iload_n 1, 1) := dk_27 (dk_at dksX16_narrow_2 10 rfl rfl)
theorem dX16_narrow_59 : decode cX16_narrow 59 = .ok (.aaload, 1) := dk_50 (dk_at dksX16_narrow_2 11 rfl rfl)
theorem dX16_narrow_60 : decode cX16_narrow 60 = .ok (.aload_n 0, 1) := dk_42 (dk_at dksX16_narrow_2 12 rfl rfl)
theorem dX16_narrow_61 : decode cX16_narrow 61 = .ok (.getfield 209, 3) := dk_180 0 209 (dk_at dksX16_narrow_2 13 rfl rfl)
theorem dX16_narrow_64 : decode cX16_narrow 64 = .ok (.iload_n 1, 1) := dk_27 (dk_at dksX16_narrow_2 16 rfl rfl)
theorem dX16_narrow_65 : decode cX16_narrow 65 = .ok (.iaload, 1) := dk_46 (dk_at dksX16_narrow_2 17 rfl rfl)
theorem dX16_narrow_66 : decode cX16_narrow 66 = .ok (.invokevirtual 640, 3) := dk_182 2 128 (dk_at dksX16_narrow_2 18 rfl rfl)
theorem dX16_narrow_69 : decode cX16_narrow 69 = .ok (.istore_n 3, 1) := dk_62 (dk_at dksX16_narrow_2 21 rfl rfl)
theorem dX16_narrow_70 : decode cX16_narrow 70 = .ok (.aload_n 0, 1) := dk_42 (dk_at dksX16_narrow_2 22 rfl rfl)
theorem dX16_narrow_71 : decode cX16_narrow 71 = .ok (.getfield 209, 3) := dk_180 0 209 (dk_at dksX16_narrow_3 0 rfl rfl)
theorem dX16_narrow_74 : decode cX16_narrow 74 = .ok (.iload_n 1, 1) := dk_27 (dk_at dksX16_narrow_3 3 rfl rfl)
theorem dX16_narrow_75 : decode cX16_narrow 75 = .ok (.dup2, 1) := dk_92 (dk_at dksX16_narrow_3 4 rfl rfl)
theorem dX16_narrow_76 : decode cX16_narrow 76 = .ok (.iaload, 1) := dk_46 (dk_at dksX16_narrow_3 5 rfl rfl)
theorem dX16_narrow_77 : decode cX16_narrow 77 = .ok (.iconst 1, 1) := dk_4 (dk_at dksX16_narrow_3 6 rfl rfl)
theorem dX16_narrow_78 : decode cX16_narrow 78 = .ok (.iadd, 1) := dk_96 (dk_at dksX16_narrow_3 7 rfl rfl)
theorem dX16_narrow_79 : decode cX16_narrow 79 = .ok (.iastore, 1) := dk_79 (dk_at dksX16_narrow_3 8 rfl rfl)
theorem dX16_narrow_80 : decode cX16_narrow 80 = .ok (.aload_n 0, 1) := dk_42 (dk_at dksX16_narrow_3 9 rfl rfl)
theorem dX16_narrow_81 : decode cX16_narrow 81 = .ok (.getfield 188, 3) := dk_180 0 188 (dk_at dksX16_narrow_3 10 rfl rfl)
theorem dX16_narrow_84 : decode cX16_narrow 84 = .ok (.iload_n 1, 1) := dk_27 (dk_at dksX16_narrow_3 13 rfl rfl)
theorem dX16_narrow_85 : decode cX16_narrow 85 = .ok (.dup2, 1) := dk_92 (dk_at dksX16_narrow_3 14 rfl rfl)
theorem dX16_narrow_86 : decode cX16_narrow 86 = .ok (.iaload, 1) := dk_46 (dk_at dksX16_narrow_3 15 rfl rfl)
theorem dX16_narrow_87 : decode cX16_narrow 87 = .ok (.iconst 1, 1) := dk_4 (dk_at dksX16_narrow_3 16 rfl rfl)
theorem dX16_narrow_88 : decode cX16_narrow 88 = .ok (.iadd, 1) := dk_96 (dk_at dksX16_narrow_3 17 rfl rfl)
theorem dX16_narrow_89 : decode cX16_narrow 89 = .ok (.iastore, 1) := dk_79 (dk_at dksX16_narrow_3 18 rfl rfl)
theorem dX16_narrow_90 : decode cX16_narrow 90 = .ok (.iload_n 3, 1) := dk_29 (dk_at dksX16_narrow_3 19 rfl rfl)
theorem dX16_narrow_91 : decode cX16_narrow 91 = .ok (.ireturn, 1) := dk_172 (dk_at dksX16_narrow_3 20 rfl rfl)
abbrev cX16_halve : ByteArray := prog_21_method_87_code
def yX16_halve : MethodName := ⟨RX16, "halve", "(LIdealCourtModel$Num;I)I"⟩
def dkwX16_halve_4 : List UInt8 := [180, 1, 122, 5, 50, 182, 0, 18, 29, 158, 0, 7, 3, 167, 0, 4, 4, 172]
abbrev dktX16_halve_4 : List UInt8 := dkwX16_halve_4 ++ []
def dkwX16_halve_3 : List UInt8 := [16, 6, 28, 100, 182, 2, 124, 100, 62, 43, 29, 158, 0, 12, 42, 180, 1, 122, 4, 50, 167, 0, 9, 42]
abbrev dktX16_halve_3 : List UInt8 := dkwX16_halve_3 ++ dktX16_halve_4
def dkwX16_halve_2 : List UInt8 := [180, 1, 73, 4, 184, 0, 111, 42, 43, 16, 7, 28, 100, 182, 2, 124, 42, 42, 180, 1, 122, 5, 50]
abbrev dktX16_halve_2 : List UInt8 := dkwX16_halve_2 ++ dktX16_halve_3
def dkwX16_halve_1 : List UInt8 := [180, 1, 73, 20, 1, 240, 182, 0, 83, 42, 180, 1, 122, 5, 50, 42, 180, 1, 122, 4, 50, 42]
abbrev dktX16_halve_1 : List UInt8 := dkwX16_halve_1 ++ dktX16_halve_2
def dkwX16_halve_0 : List UInt8 := [42, 180, 1, 73, 43, 43, 4, 184, 0, 111, 42, 180, 1, 122, 4, 50, 42, 180, 1, 73, 182, 0, 18, 42]
abbrev dktX16_halve_0 : List UInt8 := dkwX16_halve_0 ++ dktX16_halve_1
theorem dksX16_halve_0 : cX16_halve.data.toList.drop 0 = dktX16_halve_0 := by decide +kernel
theorem dksX16_halve_1 : cX16_halve.data.toList.drop 24 = dktX16_halve_1 := dk_seg dksX16_halve_0 24 rfl rfl
theorem dksX16_halve_2 : cX16_halve.data.toList.drop 46 = dktX16_halve_2 := dk_seg dksX16_halve_1 22 rfl rfl
theorem dksX16_halve_3 : cX16_halve.data.toList.drop 69 = dktX16_halve_3 := dk_seg dksX16_halve_2 23 rfl rfl
theorem dksX16_halve_4 : cX16_halve.data.toList.drop 93 = dktX16_halve_4 := dk_seg dksX16_halve_3 24 rfl rfl
theorem dX16_halve_0 : decode cX16_halve 0 = .ok (.aload_n 0, 1) := dk_42 (dk_at dksX16_halve_0 0 rfl rfl)
theorem dX16_halve_1 : decode cX16_halve 1 = .ok (.getfield 329, 3) := dk_180 1 73 (dk_at dksX16_halve_0 1 rfl rfl)
theorem dX16_halve_4 : decode cX16_halve 4 = .ok (.aload_n 1, 1) := dk_43 (dk_at dksX16_halve_0 4 rfl rfl)
theorem dX16_halve_5 : decode cX16_halve 5 = .ok (.aload_n 1, 1) := dk_43 (dk_at dksX16_halve_0 5 rfl rfl)
theorem dX16_halve_6 : decode cX16_halve 6 = .ok (.iconst 1, 1) := dk_4 (dk_at dksX16_halve_0 6 rfl rfl)
theorem dX16_halve_7 : decode cX16_halve 7 = .ok (.invokestatic 111, 3) := dk_184 0 111 (dk_at dksX16_halve_0 7 rfl rfl)
theorem dX16_halve_10 : decode cX16_halve 10 = .ok (.aload_n 0, 1) := dk_42 (dk_at dksX16_halve_0 10 rfl rfl)
theorem dX16_halve_11 : decode cX16_halve 11 = .ok (.getfield 378, 3) := dk_180 1 122 (dk_at dksX16_halve_0 11 rfl rfl)
theorem dX16_halve_14 : decode cX16_halve 14 = .ok (.iconst 1, 1) := dk_4 (dk_at dksX16_halve_0 14 rfl rfl)
theorem dX16_halve_15 : decode cX16_halve 15 = .ok (.aaload, 1) := dk_50 (dk_at dksX16_halve_0 15 rfl rfl)
theorem dX16_halve_16 : decode cX16_halve 16 = .ok (.aload_n 0, 1) := dk_42 (dk_at dksX16_halve_0 16 rfl rfl)
theorem dX16_halve_17 : decode cX16_halve 17 = .ok (.getfield 329, 3) := dk_180 1 73 (dk_at dksX16_halve_0 17 rfl rfl)
theorem dX16_halve_20 : decode cX16_halve 20 = .ok (.invokevirtual 18, 3) := dk_182 0 18 (dk_at dksX16_halve_0 20 rfl rfl)
theorem dX16_halve_23 : decode cX16_halve 23 = .ok (.aload_n 0, 1) := dk_42 (dk_at dksX16_halve_0 23 rfl rfl)
theorem dX16_halve_24 : decode cX16_halve 24 = .ok (.getfield 329, 3) := dk_180 1 73 (dk_at dksX16_halve_1 0 rfl rfl)
theorem dX16_halve_27 : decode cX16_halve 27 = .ok (.ldc2_w 496, 3) := dk_20 1 240 (dk_at dksX16_halve_1 3 rfl rfl)
theorem dX16_halve_30 : decode cX16_halve 30 = .ok (.invokevirtual 83, 3) := dk_182 0 83 (dk_at dksX16_halve_1 6 rfl rfl)
theorem dX16_halve_33 : decode cX16_halve 33 = .ok (.aload_n 0, 1) := dk_42 (dk_at dksX16_halve_1 9 rfl rfl)
theorem dX16_halve_34 : decode cX16_halve 34 = .ok (.getfield 378, 3) := dk_180 1 122 (dk_at dksX16_halve_1 10 rfl rfl)
theorem dX16_halve_37 : decode cX16_halve 37 = .ok (.iconst 2, 1) := dk_5 (dk_at dksX16_halve_1 13 rfl rfl)
theorem dX16_halve_38 : decode cX16_halve 38 = .ok (.aaload, 1) := dk_50 (dk_at dksX16_halve_1 14 rfl rfl)
theorem dX16_halve_39 : decode cX16_halve 39 = .ok (.aload_n 0, 1) := dk_42 (dk_at dksX16_halve_1 15 rfl rfl)
theorem dX16_halve_40 : decode cX16_halve 40 = .ok (.getfield 378, 3) := dk_180 1 122 (dk_at dksX16_halve_1 16 rfl rfl)
theorem dX16_halve_43 : decode cX16_halve 43 = .ok (.iconst 1, 1) := dk_4 (dk_at dksX16_halve_1 19 rfl rfl)
theorem dX16_halve_44 : decode cX16_halve 44 = .ok (.aaload, 1) := dk_50 (dk_at dksX16_halve_1 20 rfl rfl)
theorem dX16_halve_45 : decode cX16_halve 45 = .ok (.aload_n 0, 1) := dk_42 (dk_at dksX16_halve_1 21 rfl rfl)
theorem dX16_halve_46 : decode cX16_halve 46 = .ok (.getfield 329, 3) := dk_180 1 73 (dk_at dksX16_halve_2 0 rfl rfl)
theorem dX16_halve_49 : decode cX16_halve 49 = .ok (.iconst 1, 1) := dk_4 (dk_at dksX16_halve_2 3 rfl rfl)
theorem dX16_halve_50 : decode cX16_halve 50 = .ok (.invokestatic 111, 3) := dk_184 0 111 (dk_at dksX16_halve_2 4 rfl rfl)
theorem dX16_halve_53 : decode cX16_halve 53 = .ok (.aload_n 0, 1) := dk_42 (dk_at dksX16_halve_2 7 rfl rfl)
theorem dX16_halve_54 : decode cX16_halve 54 = .ok (.aload_n 1, 1) := dk_43 (dk_at dksX16_halve_2 8 rfl rfl)
theorem dX16_halve_55 : decode cX16_halve 55 = .ok (.bipush 7, 2) := dk_16 7 (dk_at dksX16_halve_2 9 rfl rfl)
theorem dX16_halve_57 : decode cX16_halve 57 = .ok (.iload_n 2, 1) := dk_28 (dk_at dksX16_halve_2 11 rfl rfl)
theorem dX16_halve_58 : decode cX16_halve 58 = .ok (.isub, 1) := dk_100 (dk_at dksX16_halve_2 12 rfl rfl)
theorem dX16_halve_59 : decode cX16_halve 59 = .ok (.invokevirtual 636, 3) := dk_182 2 124 (dk_at dksX16_halve_2 13 rfl rfl)
theorem dX16_halve_62 : decode cX16_halve 62 = .ok (.aload_n 0, 1) := dk_42 (dk_at dksX16_halve_2 16 rfl rfl)
theorem dX16_halve_63 : decode cX16_halve 63 = .ok (.aload_n 0, 1) := dk_42 (dk_at dksX16_halve_2 17 rfl rfl)
theorem dX16_halve_64 : decode cX16_halve 64 = .ok (.getfield 378, 3) := dk_180 1 122 (dk_at dksX16_halve_2 18 rfl rfl)
theorem dX16_halve_67 : decode cX16_halve 67 = .ok (.iconst 2, 1) := dk_5 (dk_at dksX16_halve_2 21 rfl rfl)
theorem dX16_halve_68 : decode cX16_halve 68 = .ok (.aaload, 1) := dk_50 (dk_at dksX16_halve_2 22 rfl rfl)
theorem dX16_halve_69 : decode cX16_halve 69 = .ok (.bipush 6, 2) := dk_16 6 (dk_at dksX16_halve_3 0 rfl rfl)
theorem dX16_halve_71 : decode cX16_halve 71 = .ok (.iload_n 2, 1) := dk_28 (dk_at dksX16_halve_3 2 rfl rfl)
theorem dX16_halve_72 : decode cX16_halve 72 = .ok (.isub, 1) := dk_100 (dk_at dksX16_halve_3 3 rfl rfl)
theorem dX16_halve_73 : decode cX16_halve 73 = .ok (.invokevirtual 636, 3) := dk_182 2 124 (dk_at dksX16_halve_3 4 rfl rfl)
theorem dX16_halve_76 : decode cX16_halve 76 = .ok (.isub, 1) := dk_100 (dk_at dksX16_halve_3 7 rfl rfl)
theorem dX16_halve_77 : decode cX16_halve 77 = .ok (.istore_n 3, 1) := dk_62 (dk_at dksX16_halve_3 8 rfl rfl)
theorem dX16_halve_78 : decode cX16_halve 78 = .ok (.aload_n 1, 1) := dk_43 (dk_at dksX16_halve_3 9 rfl rfl)
theorem dX16_halve_79 : decode cX16_halve 79 = .ok (.iload_n 3, 1) := dk_29 (dk_at dksX16_halve_3 10 rfl rfl)
theorem dX16_halve_80 : decode cX16_halve 80 = .ok (.ifCond .le 12, 3) := dk_158 0 12 (dk_at dksX16_halve_3 11 rfl rfl)
theorem dX16_halve_83 : decode cX16_halve 83 = .ok (.aload_n 0, 1) := dk_42 (dk_at dksX16_halve_3 14 rfl rfl)
theorem dX16_halve_84 : decode cX16_halve 84 = .ok (.getfield 378, 3) := dk_180 1 122 (dk_at dksX16_halve_3 15 rfl rfl)
theorem dX16_halve_87 : decode cX16_halve 87 = .ok (.iconst 1, 1) := dk_4 (dk_at dksX16_halve_3 18 rfl rfl)
theorem dX16_halve_88 : decode cX16_halve 88 = .ok (.aaload, 1) := dk_50 (dk_at dksX16_halve_3 19 rfl rfl)
theorem dX16_halve_89 : decode cX16_halve 89 = .ok (.goto 9, 3) := dk_167 0 9 (dk_at dksX16_halve_3 20 rfl rfl)
theorem dX16_halve_92 : decode cX16_halve 92 = .ok (.aload_n 0, 1) := dk_42 (dk_at dksX16_halve_3 23 rfl rfl)
theorem dX16_halve_93 : decode cX16_halve 93 = .ok (.getfield 378, 3) := dk_180 1 122 (dk_at dksX16_halve_4 0 rfl rfl)
theorem dX16_halve_96 : decode cX16_halve 96 = .ok (.iconst 2, 1) := dk_5 (dk_at dksX16_halve_4 3 rfl rfl)
theorem dX16_halve_97 : decode cX16_halve 97 = .ok (.aaload, 1) := dk_50 (dk_at dksX16_halve_4 4 rfl rfl)
theorem dX16_halve_98 : decode cX16_halve 98 = .ok (.invokevirtual 18, 3) := dk_182 0 18 (dk_at dksX16_halve_4 5 rfl rfl)
theorem dX16_halve_101 : decode cX16_halve 101 = .ok (.iload_n 3, 1) := dk_29 (dk_at dksX16_halve_4 8 rfl rfl)
theorem dX16_halve_102 : decode cX16_halve 102 = .ok (.ifCond .le 7, 3) := dk_158 0 7 (dk_at dksX16_halve_4 9 rfl rfl)
theorem dX16_halve_105 : decode cX16_halve 105 = .ok (.iconst 0, 1) := dk_3 (dk_at dksX16_halve_4 12 rfl rfl)
theorem dX16_halve_106 : decode cX16_halve 106 = .ok (.goto 4, 3) := dk_167 0 4 (dk_at dksX16_halve_4 13 rfl rfl)
theorem dX16_halve_109 : decode cX16_halve 109 = .ok (.iconst 1, 1) := dk_4 (dk_at dksX16_halve_4 16 rfl rfl)
theorem dX16_halve_110 : decode cX16_halve 110 = .ok (.ireturn, 1) := dk_172 (dk_at dksX16_halve_4 17 rfl rfl)
abbrev cX16_sign : ByteArray := prog_21_method_90_code
def yX16_sign : MethodName := ⟨RX16, "sign", "(II)I"⟩
def dkwX16_sign_23 : List UInt8 := [42, 180, 1, 128, 16, 7, 21, 5, 100, 182, 2, 124, 100, 172]
abbrev dktX16_sign_23 : List UInt8 := dkwX16_sign_23 ++ []
def dkwX16_sign_22 : List UInt8 := [4, 21, 6, 79, 42, 182, 2, 96, 4, 42, 42, 180, 1, 125, 16, 7, 21, 5, 100, 182, 2, 124, 96, 42]
abbrev dktX16_sign_22 : List UInt8 := dkwX16_sign_22 ++ dktX16_sign_23
def dkwX16_sign_21 : List UInt8 := [21, 7, 50, 182, 0, 18, 132, 7, 1, 167, 255, 227, 42, 180, 1, 83, 3, 21, 4, 79, 42, 180, 1, 83]
abbrev dktX16_sign_21 : List UInt8 := dkwX16_sign_21 ++ dktX16_sign_22
def dkwX16_sign_20 : List UInt8 := [3, 54, 7, 21, 7, 21, 6, 163, 0, 28, 42, 180, 1, 80, 4, 50, 21, 7, 50, 42, 180, 1, 86]
abbrev dktX16_sign_20 : List UInt8 := dkwX16_sign_20 ++ dktX16_sign_21
def dkwX16_sign_19 : List UInt8 := [180, 1, 80, 3, 50, 21, 7, 50, 42, 180, 1, 131, 21, 7, 50, 182, 0, 18, 132, 7, 1, 167, 255, 227]
abbrev dktX16_sign_19 : List UInt8 := dkwX16_sign_19 ++ dktX16_sign_20
def dkwX16_sign_18 : List UInt8 := [42, 180, 1, 131, 21, 4, 182, 2, 92, 54, 6, 3, 54, 7, 21, 7, 21, 4, 163, 0, 28, 42]
abbrev dktX16_sign_18 : List UInt8 := dkwX16_sign_18 ++ dktX16_sign_19
def dkwX16_sign_17 : List UInt8 := [21, 4, 4, 100, 42, 180, 2, 99, 96, 54, 6, 42, 42, 180, 1, 86, 21, 6, 182, 2, 88, 42, 21, 6]
abbrev dktX16_sign_17 : List UInt8 := dkwX16_sign_17 ++ dktX16_sign_18
def dkwX16_sign_16 : List UInt8 := [21, 7, 96, 50, 42, 180, 1, 58, 4, 184, 0, 111, 132, 7, 1, 167, 255, 184, 132, 6, 1, 167, 255, 168]
abbrev dktX16_sign_16 : List UInt8 := dkwX16_sign_16 ++ dktX16_sign_17
def dkwX16_sign_15 : List UInt8 := [182, 0, 83, 42, 180, 1, 86, 21, 6, 4, 100, 21, 7, 96, 50, 42, 180, 1, 86, 21, 6, 4, 100]
abbrev dktX16_sign_15 : List UInt8 := dkwX16_sign_15 ++ dktX16_sign_16
def dkwX16_sign_14 : List UInt8 := [180, 1, 58, 21, 6, 133, 42, 180, 0, 196, 28, 50, 21, 6, 47, 105, 42, 180, 1, 114, 21, 7, 47, 105]
abbrev dktX16_sign_14 : List UInt8 := dkwX16_sign_14 ++ dktX16_sign_15
def dkwX16_sign_13 : List UInt8 := [4, 54, 6, 21, 6, 21, 4, 163, 0, 87, 3, 54, 7, 21, 7, 42, 180, 2, 99, 163, 0, 69, 42]
abbrev dktX16_sign_13 : List UInt8 := dkwX16_sign_13 ++ dktX16_sign_14
def dkwX16_sign_12 : List UInt8 := [21, 6, 16, 18, 162, 0, 20, 42, 180, 1, 86, 21, 6, 50, 9, 182, 0, 83, 132, 6, 1, 167, 255, 235]
abbrev dktX16_sign_12 : List UInt8 := dkwX16_sign_12 ++ dktX16_sign_13
def dkwX16_sign_11 : List UInt8 := [180, 1, 134, 42, 180, 2, 99, 42, 180, 1, 128, 16, 7, 21, 5, 100, 182, 2, 84, 96, 172, 3, 54, 6]
abbrev dktX16_sign_11 : List UInt8 := dkwX16_sign_11 ++ dktX16_sign_12
def dkwX16_sign_10 : List UInt8 := [42, 180, 1, 131, 21, 4, 42, 180, 1, 128, 16, 7, 21, 5, 100, 182, 2, 84, 154, 0, 27, 4, 42, 42]
abbrev dktX16_sign_10 : List UInt8 := dkwX16_sign_10 ++ dktX16_sign_11
def dkwX16_sign_9 : List UInt8 := [180, 1, 125, 21, 5, 182, 2, 128, 87, 132, 5, 1, 42, 42, 180, 1, 125, 182, 2, 131, 167, 255, 190, 42]
abbrev dktX16_sign_9 : List UInt8 := dkwX16_sign_9 ++ dktX16_sign_10
def dkwX16_sign_8 : List UInt8 := [180, 1, 131, 21, 4, 42, 180, 1, 125, 16, 7, 21, 5, 100, 182, 2, 84, 154, 0, 28, 42, 42]
abbrev dktX16_sign_8 : List UInt8 := dkwX16_sign_8 ++ dktX16_sign_9
def dkwX16_sign_7 : List UInt8 := [180, 1, 131, 21, 4, 42, 180, 1, 128, 16, 7, 21, 5, 100, 182, 2, 84, 153, 0, 50, 42, 42]
abbrev dktX16_sign_7 : List UInt8 := dkwX16_sign_7 ++ dktX16_sign_8
def dkwX16_sign_6 : List UInt8 := [42, 42, 180, 1, 125, 182, 2, 131, 42, 42, 180, 0, 196, 28, 50, 21, 4, 182, 2, 102, 42, 42]
abbrev dktX16_sign_6 : List UInt8 := dkwX16_sign_6 ++ dktX16_sign_7
def dkwX16_sign_5 : List UInt8 := [167, 255, 210, 42, 180, 1, 125, 42, 180, 0, 206, 28, 50, 182, 0, 18, 42, 180, 0, 209, 28, 46, 54, 5]
abbrev dktX16_sign_5 : List UInt8 := dkwX16_sign_5 ++ dktX16_sign_6
def dkwX16_sign_4 : List UInt8 := [47, 182, 0, 83, 42, 180, 1, 134, 21, 5, 50, 42, 180, 1, 114, 21, 5, 47, 182, 0, 83, 132, 5, 1]
abbrev dktX16_sign_4 : List UInt8 := dkwX16_sign_4 ++ dktX16_sign_5
def dkwX16_sign_3 : List UInt8 := [54, 5, 21, 5, 16, 8, 163, 0, 45, 42, 180, 1, 131, 21, 5, 50, 42, 180, 0, 196, 28, 50, 21, 5]
abbrev dktX16_sign_3 : List UInt8 := dkwX16_sign_3 ++ dktX16_sign_4
def dkwX16_sign_2 : List UInt8 := [50, 182, 2, 106, 154, 0, 10, 42, 16, 250, 182, 1, 151, 172, 42, 180, 0, 199, 28, 46, 54, 4, 3]
abbrev dktX16_sign_2 : List UInt8 := dkwX16_sign_2 ++ dktX16_sign_3
def dkwX16_sign_1 : List UInt8 := [182, 1, 151, 172, 42, 180, 0, 184, 27, 50, 180, 0, 162, 154, 0, 5, 4, 172, 42, 42, 180, 0, 184, 27]
abbrev dktX16_sign_1 : List UInt8 := dkwX16_sign_1 ++ dktX16_sign_2
def dkwX16_sign_0 : List UInt8 := [42, 27, 4, 182, 1, 164, 42, 28, 6, 182, 1, 164, 184, 1, 188, 62, 29, 156, 0, 9, 42, 29]
abbrev dktX16_sign_0 : List UInt8 := dkwX16_sign_0 ++ dktX16_sign_1
theorem dksX16_sign_0 : cX16_sign.data.toList.drop 0 = dktX16_sign_0 := by decide +kernel
theorem dksX16_sign_1 : cX16_sign.data.toList.drop 22 = dktX16_sign_1 := dk_seg dksX16_sign_0 22 rfl rfl
theorem dksX16_sign_2 : cX16_sign.data.toList.drop 46 = dktX16_sign_2 := dk_seg dksX16_sign_1 24 rfl rfl
theorem dksX16_sign_3 : cX16_sign.data.toList.drop 69 = dktX16_sign_3 := dk_seg dksX16_sign_2 23 rfl rfl
theorem dksX16_sign_4 : cX16_sign.data.toList.drop 93 = dktX16_sign_4 := dk_seg dksX16_sign_3 24 rfl rfl
theorem dksX16_sign_5 : cX16_sign.data.toList.drop 117 = dktX16_sign_5 := dk_seg dksX16_sign_4 24 rfl rfl
theorem dksX16_sign_6 : cX16_sign.data.toList.drop 141 = dktX16_sign_6 := dk_seg dksX16_sign_5 24 rfl rfl
theorem dksX16_sign_7 : cX16_sign.data.toList.drop 163 = dktX16_sign_7 := dk_seg dksX16_sign_6 22 rfl rfl
theorem dksX16_sign_8 : cX16_sign.data.toList.drop 185 = dktX16_sign_8 := dk_seg dksX16_sign_7 22 rfl rfl
theorem dksX16_sign_9 : cX16_sign.data.toList.drop 207 = dktX16_sign_9 := dk_seg dksX16_sign_8 22 rfl rfl
theorem dksX16_sign_10 : cX16_sign.data.toList.drop 231 = dktX16_sign_10 := dk_seg dksX16_sign_9 24 rfl rfl
theorem dksX16_sign_11 : cX16_sign.data.toList.drop 255 = dktX16_sign_11 := dk_seg dksX16_sign_10 24 rfl rfl
theorem dksX16_sign_12 : cX16_sign.data.toList.drop 279 = dktX16_sign_12 := dk_seg dksX16_sign_11 24 rfl rfl
theorem dksX16_sign_13 : cX16_sign.data.toList.drop 303 = dktX16_sign_13 := dk_seg dksX16_sign_12 24 rfl rfl
theorem dksX16_sign_14 : cX16_sign.data.toList.drop 326 = dktX16_sign_14 := dk_seg dksX16_sign_13 23 rfl rfl
theorem dksX16_sign_15 : cX16_sign.data.toList.drop 350 = dktX16_sign_15 := dk_seg dksX16_sign_14 24 rfl rfl
theorem dksX16_sign_16 : cX16_sign.data.toList.drop 373 = dktX16_sign_16 := dk_seg dksX16_sign_15 23 rfl rfl
theorem dksX16_sign_17 : cX16_sign.data.toList.drop 397 = dktX16_sign_17 := dk_seg dksX16_sign_16 24 rfl rfl
theorem dksX16_sign_18 : cX16_sign.data.toList.drop 421 = dktX16_sign_18 := dk_seg dksX16_sign_17 24 rfl rfl
theorem dksX16_sign_19 : cX16_sign.data.toList.drop 443 = dktX16_sign_19 := dk_seg dksX16_sign_18 22 rfl rfl
theorem dksX16_sign_20 : cX16_sign.data.toList.drop 467 = dktX16_sign_20 := dk_seg dksX16_sign_19 24 rfl rfl
theorem dksX16_sign_21 : cX16_sign.data.toList.drop 490 = dktX16_sign_21 := dk_seg dksX16_sign_20 23 rfl rfl
theorem dksX16_sign_22 : cX16_sign.data.toList.drop 514 = dktX16_sign_22 := dk_seg dksX16_sign_21 24 rfl rfl
theorem dksX16_sign_23 : cX16_sign.data.toList.drop 538 = dktX16_sign_23 := dk_seg dksX16_sign_22 24 rfl rfl
theorem dX16_sign_0 : decode cX16_sign 0 = .ok (.aload_n 0, 1) := dk_42 (dk_at dksX16_sign_0 0 rfl rfl)
theorem dX16_sign_1 : decode cX16_sign 1 = .ok (.iload_n 1, 1) := dk_27 (dk_at dksX16_sign_0 1 rfl rfl)
theorem dX16_sign_2 : decode cX16_sign 2 = .ok (.iconst 1, 1) := dk_4 (dk_at dksX16_sign_0 2 rfl rfl)
theorem dX16_sign_3 : decode cX16_sign 3 = .ok (.invokevirtual 420, 3) := dk_182 1 164 (dk_at dksX16_sign_0 3 rfl rfl)
theorem dX16_sign_6 : decode cX16_sign 6 = .ok (.aload_n 0, 1) := dk_42 (dk_at dksX16_sign_0 6 rfl rfl)
theorem dX16_sign_7 : decode cX16_sign 7 = .ok (.iload_n 2, 1) := dk_28 (dk_at dksX16_sign_0 7 rfl rfl)
theorem dX16_sign_8 : decode cX16_sign 8 = .ok (.iconst 3, 1) := dk_6 (dk_at dksX16_sign_0 8 rfl rfl)
theorem dX16_sign_9 : decode cX16_sign 9 = .ok (.invokevirtual 420, 3) := dk_182 1 164 (dk_at dksX16_sign_0 9 rfl rfl)
theorem dX16_sign_12 : decode cX16_sign 12 = .ok (.invokestatic 444, 3) := dk_184 1 188 (dk_at dksX16_sign_0 12 rfl rfl)
theorem dX16_sign_15 : decode cX16_sign 15 = .ok (.istore_n 3, 1) := dk_62 (dk_at dksX16_sign_0 15 rfl rfl)
theorem dX16_sign_16 : decode cX16_sign 16 = .ok (.iload_n 3, 1) := dk_29 (dk_at dksX16_sign_0 16 rfl rfl)
theorem dX16_sign_17 : decode cX16_sign 17 = .ok (.ifCond .ge 9, 3) := dk_156 0 9 (dk_at dksX16_sign_0 17 rfl rfl)
theorem dX16_sign_20 : decode cX16_sign 20 = .ok (.aload_n 0, 1) := dk_42 (dk_at dksX16_sign_0 20 rfl rfl)
theorem dX16_sign_21 : decode cX16_sign 21 = .ok (.iload_n 3, 1) := dk_29 (dk_at dksX16_sign_0 21 rfl rfl)
theorem dX16_sign_22 : decode cX16_sign 22 = .ok (.invokevirtual 407, 3) := dk_182 1 151 (dk_at dksX16_sign_1 0 rfl rfl)
theorem dX16_sign_25 : decode cX16_sign 25 = .ok (.ireturn, 1) := dk_172 (dk_at dksX16_sign_1 3 rfl rfl)
theorem dX16_sign_26 : decode cX16_sign 26 = .ok (.aload_n 0, 1) := dk_42 (dk_at dksX16_sign_1 4 rfl rfl)
theorem dX16_sign_27 : decode cX16_sign 27 = .ok (.getfield 184, 3) := dk_180 0 184 (dk_at dksX16_sign_1 5 rfl rfl)
theorem dX16_sign_30 : decode cX16_sign 30 = .ok (.iload_n 1, 1) := dk_27 (dk_at dksX16_sign_1 8 rfl rfl)
theorem dX16_sign_31 : decode cX16_sign 31 = .ok (.aaload, 1) := dk_50 (dk_at dksX16_sign_1 9 rfl rfl)
theorem dX16_sign_32 : decode cX16_sign 32 = .ok (.getfield 162, 3) := dk_180 0 162 (dk_at dksX16_sign_1 10 rfl rfl)
theorem dX16_sign_35 : decode cX16_sign 35 = .ok (.ifCond .ne 5, 3) := dk_154 0 5 (dk_at dksX16_sign_1 13 rfl rfl)
theorem dX16_sign_38 : decode cX16_sign 38 = .ok (.iconst 1, 1) := dk_4 (dk_at dksX16_sign_1 16 rfl rfl)
theorem dX16_sign_39 : decode cX16_sign 39 = .ok (.ireturn, 1) := dk_172 (dk_at dksX16_sign_1 17 rfl rfl)
theorem dX16_sign_40 : decode cX16_sign 40 = .ok (.aload_n 0, 1) := dk_42 (dk_at dksX16_sign_1 18 rfl rfl)
theorem dX16_sign_41 : decode cX16_sign 41 = .ok (.aload_n 0, 1) := dk_42 (dk_at dksX16_sign_1 19 rfl rfl)
theorem dX16_sign_42 : decode cX16_sign 42 = .ok (.getfield 184, 3) := dk_180 0 184 (dk_at dksX16_sign_1 20 rfl rfl)
theorem dX16_sign_45 : decode cX16_sign 45 = .ok (.iload_n 1, 1) := dk_27 (dk_at dksX16_sign_1 23 rfl rfl)
theorem dX16_sign_46 : decode cX16_sign 46 = .ok (.aaload, 1) := dk_50 (dk_at dksX16_sign_2 0 rfl rfl)
theorem dX16_sign_47 : decode cX16_sign 47 = .ok (.invokevirtual 618, 3) := dk_182 2 106 (dk_at dksX16_sign_2 1 rfl rfl)
theorem dX16_sign_50 : decode cX16_sign 50 = .ok (.ifCond .ne 10, 3) := dk_154 0 10 (dk_at dksX16_sign_2 4 rfl rfl)
theorem dX16_sign_53 : decode cX16_sign 53 = .ok (.aload_n 0, 1) := dk_42 (dk_at dksX16_sign_2 7 rfl rfl)
theorem dX16_sign_54 : decode cX16_sign 54 = .ok (.bipush (-6), 2) := dk_16 250 (dk_at dksX16_sign_2 8 rfl rfl)
theorem dX16_sign_56 : decode cX16_sign 56 = .ok (.invokevirtual 407, 3) := dk_182 1 151 (dk_at dksX16_sign_2 10 rfl rfl)
theorem dX16_sign_59 : decode cX16_sign 59 = .ok (.ireturn, 1) := dk_172 (dk_at dksX16_sign_2 13 rfl rfl)
theorem dX16_sign_60 : decode cX16_sign 60 = .ok (.aload_n 0, 1) := dk_42 (dk_at dksX16_sign_2 14 rfl rfl)
theorem dX16_sign_61 : decode cX16_sign 61 = .ok (.getfield 199, 3) := dk_180 0 199 (dk_at dksX16_sign_2 15 rfl rfl)
theorem dX16_sign_64 : decode cX16_sign 64 = .ok (.iload_n 2, 1) := dk_28 (dk_at dksX16_sign_2 18 rfl rfl)
theorem dX16_sign_65 : decode cX16_sign 65 = .ok (.iaload, 1) := dk_46 (dk_at dksX16_sign_2 19 rfl rfl)
theorem dX16_sign_66 : decode cX16_sign 66 = .ok (.istore 4, 2) := dk_54 4 (dk_at dksX16_sign_2 20 rfl rfl)
theorem dX16_sign_68 : decode cX16_sign 68 = .ok (.iconst 0, 1) := dk_3 (dk_at dksX16_sign_2 22 rfl rfl)
theorem dX16_sign_69 : decode cX16_sign 69 = .ok (.istore 5, 2) := dk_54 5 (dk_at dksX16_sign_3 0 rfl rfl)
theorem dX16_sign_71 : decode cX16_sign 71 = .ok (.iload 5, 2) := dk_21 5 (dk_at dksX16_sign_3 2 rfl rfl)
theorem dX16_sign_73 : decode cX16_sign 73 = .ok (.bipush 8, 2) := dk_16 8 (dk_at dksX16_sign_3 4 rfl rfl)
theorem dX16_sign_75 : decode cX16_sign 75 = .ok (.if_icmp .gt 45, 3) := dk_163 0 45 (dk_at dksX16_sign_3 6 rfl rfl)
theorem dX16_sign_78 : decode cX16_sign 78 = .ok (.aload_n 0, 1) := dk_42 (dk_at dksX16_sign_3 9 rfl rfl)
theorem dX16_sign_79 : decode cX16_sign 79 = .ok (.getfield 387, 3) := dk_180 1 131 (dk_at dksX16_sign_3 10 rfl rfl)
theorem dX16_sign_82 : decode cX16_sign 82 = .ok (.iload 5, 2) := dk_21 5 (dk_at dksX16_sign_3 13 rfl rfl)
theorem dX16_sign_84 : decode cX16_sign 84 = .ok (.aaload, 1) := dk_50 (dk_at dksX16_sign_3 15 rfl rfl)
theorem dX16_sign_85 : decode cX16_sign 85 = .ok (.aload_n 0, 1) := dk_42 (dk_at dksX16_sign_3 16 rfl rfl)
theorem dX16_sign_86 : decode cX16_sign 86 = .ok (.getfield 196, 3) := dk_180 0 196 (dk_at dksX16_sign_3 17 rfl rfl)
theorem dX16_sign_89 : decode cX16_sign 89 = .ok (.iload_n 2, 1) := dk_28 (dk_at dksX16_sign_3 20 rfl rfl)
theorem dX16_sign_90 : decode cX16_sign 90 = .ok (.aaload, 1) := dk_50 (dk_at dksX16_sign_3 21 rfl rfl)
theorem dX16_sign_91 : decode cX16_sign 91 = .ok (.iload 5, 2) := dk_21 5 (dk_at dksX16_sign_3 22 rfl rfl)
theorem dX16_sign_93 : decode cX16_sign 93 = .ok (.laload, 1) := dk_47 (dk_at dksX16_sign_4 0 rfl rfl)
theorem dX16_sign_94 : decode cX16_sign 94 = .ok (.invokevirtual 83, 3) := dk_182 0 83 (dk_at dksX16_sign_4 1 rfl rfl)
theorem dX16_sign_97 : decode cX16_sign 97 = .ok (.aload_n 0, 1) := dk_42 (dk_at dksX16_sign_4 4 rfl rfl)
theorem dX16_sign_98 : decode cX16_sign 98 = .ok (.getfield 390, 3) := dk_180 1 134 (dk_at dksX16_sign_4 5 rfl rfl)
theorem dX16_sign_101 : decode cX16_sign 101 = .ok (.iload 5, 2) := dk_21 5 (dk_at dksX16_sign_4 8 rfl rfl)
theorem dX16_sign_103 : decode cX16_sign 103 = .ok (.aaload, 1) := dk_50 (dk_at dksX16_sign_4 10 rfl rfl)
theorem dX16_sign_104 : decode cX16_sign 104 = .ok (.aload_n 0, 1) := dk_42 (dk_at dksX16_sign_4 11 rfl rfl)
theorem dX16_sign_105 : decode cX16_sign 105 = .ok (.getfield 370, 3) := dk_180 1 114 (dk_at dksX16_sign_4 12 rfl rfl)
theorem dX16_sign_108 : decode cX16_sign 108 = .ok (.iload 5, 2) := dk_21 5 (dk_at dksX16_sign_4 15 rfl rfl)
theorem dX16_sign_110 : decode cX16_sign 110 = .ok (.laload, 1) := dk_47 (dk_at dksX16_sign_4 17 rfl rfl)
theorem dX16_sign_111 : decode cX16_sign 111 = .ok (.invokevirtual 83, 3) := dk_182 0 83 (dk_at dksX16_sign_4 18 rfl rfl)
theorem dX16_sign_114 : decode cX16_sign 114 = .ok (.iinc 5 1, 3) := dk_132 5 1 (dk_at dksX16_sign_4 21 rfl rfl)
theorem dX16_sign_117 : decode cX16_sign 117 = .ok (.goto (-46), 3) := dk_167 255 210 (dk_at dksX16_sign_5 0 rfl rfl)
theorem dX16_sign_120 : decode cX16_sign 120 = .ok (.aload_n 0, 1) := dk_42 (dk_at dksX16_sign_5 3 rfl rfl)
theorem dX16_sign_121 : decode cX16_sign 121 = .ok (.getfield 381, 3) := dk_180 1 125 (dk_at dksX16_sign_5 4 rfl rfl)
theorem dX16_sign_124 : decode cX16_sign 124 = .ok (.aload_n 0, 1) := dk_42 (dk_at dksX16_sign_5 7 rfl rfl)
theorem dX16_sign_125 : decode cX16_sign 125 = .ok (.getfield 206, 3) := dk_180 0 206 (dk_at dksX16_sign_5 8 rfl rfl)
theorem dX16_sign_128 : decode cX16_sign 128 = .ok (.iload_n 2, 1) := dk_28 (dk_at dksX16_sign_5 11 rfl rfl)
theorem dX16_sign_129 : decode cX16_sign 129 = .ok (.aaload, 1) := dk_50 (dk_at dksX16_sign_5 12 rfl rfl)
theorem dX16_sign_130 : decode cX16_sign 130 = .ok (.invokevirtual 18, 3) := dk_182 0 18 (dk_at dksX16_sign_5 13 rfl rfl)
theorem dX16_sign_133 : decode cX16_sign 133 = .ok (.aload_n 0, 1) := dk_42 (dk_at dksX16_sign_5 16 rfl rfl)
theorem dX16_sign_134 : decode cX16_sign 134 = .ok (.getfield 209, 3) := dk_180 0 209 (dk_at dksX16_sign_5 17 rfl rfl)
theorem dX16_sign_137 : decode cX16_sign 137 = .ok (.iload_n 2, 1) := dk_28 (dk_at dksX16_sign_5 20 rfl rfl)
theorem dX16_sign_138 : decode cX16_sign 138 = .ok (.iaload, 1) := dk_46 (dk_at dksX16_sign_5 21 rfl rfl)
theorem dX16_sign_139 : decode cX16_sign 139 = .ok (.istore 5, 2) := dk_54 5 (dk_at dksX16_sign_5 22 rfl rfl)
theorem dX16_sign_141 : decode cX16_sign 141 = .ok (.aload_n 0, 1) := dk_42 (dk_at dksX16_sign_6 0 rfl rfl)
theorem dX16_sign_142 : decode cX16_sign 142 = .ok (.aload_n 0, 1) := dk_42 (dk_at dksX16_sign_6 1 rfl rfl)
theorem dX16_sign_143 : decode cX16_sign 143 = .ok (.getfield 381, 3) := dk_180 1 125 (dk_at dksX16_sign_6 2 rfl rfl)
theorem dX16_sign_146 : decode cX16_sign 146 = .ok (.invokevirtual 643, 3) := dk_182 2 131 (dk_at dksX16_sign_6 5 rfl rfl)
theorem dX16_sign_149 : decode cX16_sign 149 = .ok (.aload_n 0, 1) := dk_42 (dk_at dksX16_sign_6 8 rfl rfl)
theorem dX16_sign_150 : decode cX16_sign 150 = .ok (.aload_n 0, 1) := dk_42 (dk_at dksX16_sign_6 9 rfl rfl)
theorem dX16_sign_151 : decode cX16_sign 151 = .ok (.getfield 196, 3) := dk_180 0 196 (dk_at dksX16_sign_6 10 rfl rfl)
theorem dX16_sign_154 : decode cX16_sign 154 = .ok (.iload_n 2, 1) := dk_28 (dk_at dksX16_sign_6 13 rfl rfl)
theorem dX16_sign_155 : decode cX16_sign 155 = .ok (.aaload, 1) := dk_50 (dk_at dksX16_sign_6 14 rfl rfl)
theorem dX16_sign_156 : decode cX16_sign 156 = .ok (.iload 4, 2) := dk_21 4 (dk_at dksX16_sign_6 15 rfl rfl)
theorem dX16_sign_158 : decode cX16_sign 158 = .ok (.invokevirtual 614, 3) := dk_182 2 102 (dk_at dksX16_sign_6 17 rfl rfl)
theorem dX16_sign_161 : decode cX16_sign 161 = .ok (.aload_n 0, 1) := dk_42 (dk_at dksX16_sign_6 20 rfl rfl)
theorem dX16_sign_162 : decode cX16_sign 162 = .ok (.aload_n 0, 1) := dk_42 (dk_at dksX16_sign_6 21 rfl rfl)
theorem dX16_sign_163 : decode cX16_sign 163 = .ok (.getfield 387, 3) := dk_180 1 131 (dk_at dksX16_sign_7 0 rfl rfl)
theorem dX16_sign_166 : decode cX16_sign 166 = .ok (.iload 4, 2) := dk_21 4 (dk_at dksX16_sign_7 3 rfl rfl)
theorem dX16_sign_168 : decode cX16_sign 168 = .ok (.aload_n 0, 1) := dk_42 (dk_at dksX16_sign_7 5 rfl rfl)
theorem dX16_sign_169 : decode cX16_sign 169 = .ok (.getfield 384, 3) := dk_180 1 128 (dk_at dksX16_sign_7 6 rfl rfl)
theorem dX16_sign_172 : decode cX16_sign 172 = .ok (.bipush 7, 2) := dk_16 7 (dk_at dksX16_sign_7 9 rfl rfl)
theorem dX16_sign_174 : decode cX16_sign 174 = .ok (.iload 5, 2) := dk_21 5 (dk_at dksX16_sign_7 11 rfl rfl)
theorem dX16_sign_176 : decode cX16_sign 176 = .ok (.isub, 1) := dk_100 (dk_at dksX16_sign_7 13 rfl rfl)
theorem dX16_sign_177 : decode cX16_sign 177 = .ok (.invokevirtual 596, 3) := dk_182 2 84 (dk_at dksX16_sign_7 14 rfl rfl)
theorem dX16_sign_180 : decode cX16_sign 180 = .ok (.ifCond .eq 50, 3) := dk_153 0 50 (dk_at dksX16_sign_7 17 rfl rfl)
theorem dX16_sign_183 : decode cX16_sign 183 = .ok (.aload_n 0, 1) := dk_42 (dk_at dksX16_sign_7 20 rfl rfl)
theorem dX16_sign_184 : decode cX16_sign 184 = .ok (.aload_n 0, 1) := dk_42 (dk_at dksX16_sign_7 21 rfl rfl)
theorem dX16_sign_185 : decode cX16_sign 185 = .ok (.getfield 387, 3) := dk_180 1 131 (dk_at dksX16_sign_8 0 rfl rfl)
theorem dX16_sign_188 : decode cX16_sign 188 = .ok (.iload 4, 2) := dk_21 4 (dk_at dksX16_sign_8 3 rfl rfl)
theorem dX16_sign_190 : decode cX16_sign 190 = .ok (.aload_n 0, 1) := dk_42 (dk_at dksX16_sign_8 5 rfl rfl)
theorem dX16_sign_191 : decode cX16_sign 191 = .ok (.getfield 381, 3) := dk_180 1 125 (dk_at dksX16_sign_8 6 rfl rfl)
theorem dX16_sign_194 : decode cX16_sign 194 = .ok (.bipush 7, 2) := dk_16 7 (dk_at dksX16_sign_8 9 rfl rfl)
theorem dX16_sign_196 : decode cX16_sign 196 = .ok (.iload 5, 2) := dk_21 5 (dk_at dksX16_sign_8 11 rfl rfl)
theorem dX16_sign_198 : decode cX16_sign 198 = .ok (.isub, 1) := dk_100 (dk_at dksX16_sign_8 13 rfl rfl)
theorem dX16_sign_199 : decode cX16_sign 199 = .ok (.invokevirtual 596, 3) := dk_182 2 84 (dk_at dksX16_sign_8 14 rfl rfl)
theorem dX16_sign_202 : decode cX16_sign 202 = .ok (.ifCond .ne 28, 3) := dk_154 0 28 (dk_at dksX16_sign_8 17 rfl rfl)
theorem dX16_sign_205 : decode cX16_sign 205 = .ok (.aload_n 0, 1) := dk_42 (dk_at dksX16_sign_8 20 rfl rfl)
theorem dX16_sign_206 : decode cX16_sign 206 = .ok (.aload_n 0, 1) := dk_42 (dk_at dksX16_sign_8 21 rfl rfl)
theorem dX16_sign_207 : decode cX16_sign 207 = .ok (.getfield 381, 3) := dk_180 1 125 (dk_at dksX16_sign_9 0 rfl rfl)
theorem dX16_sign_210 : decode cX16_sign 210 = .ok (.iload 5, 2) := dk_21 5 (dk_at dksX16_sign_9 3 rfl rfl)
theorem dX16_sign_212 : decode cX16_sign 212 = .ok (.invokevirtual 640, 3) := dk_182 2 128 (dk_at dksX16_sign_9 5 rfl rfl)
theorem dX16_sign_215 : decode cX16_sign 215 = .ok (.pop, 1) := dk_87 (dk_at dksX16_sign_9 8 rfl rfl)
theorem dX16_sign_216 : decode cX16_sign 216 = .ok (.iinc 5 1, 3) := dk_132 5 1 (dk_at dksX16_sign_9 9 rfl rfl)
theorem dX16_sign_219 : decode cX16_sign 219 = .ok (.aload_n 0, 1) := dk_42 (dk_at dksX16_sign_9 12 rfl rfl)
theorem dX16_sign_220 : decode cX16_sign 220 = .ok (.aload_n 0, 1) := dk_42 (dk_at dksX16_sign_9 13 rfl rfl)
theorem dX16_sign_221 : decode cX16_sign 221 = .ok (.getfield 381, 3) := dk_180 1 125 (dk_at dksX16_sign_9 14 rfl rfl)
theorem dX16_sign_224 : decode cX16_sign 224 = .ok (.invokevirtual 643, 3) := dk_182 2 131 (dk_at dksX16_sign_9 17 rfl rfl)
theorem dX16_sign_227 : decode cX16_sign 227 = .ok (.goto (-66), 3) := dk_167 255 190 (dk_at dksX16_sign_9 20 rfl rfl)
theorem dX16_sign_230 : decode cX16_sign 230 = .ok (.aload_n 0, 1) := dk_42 (dk_at dksX16_sign_9 23 rfl rfl)
theorem dX16_sign_231 : decode cX16_sign 231 = .ok (.aload_n 0, 1) := dk_42 (dk_at dksX16_sign_10 0 rfl rfl)
theorem dX16_sign_232 : decode cX16_sign 232 = .ok (.getfield 387, 3) := dk_180 1 131 (dk_at dksX16_sign_10 1 rfl rfl)
theorem dX16_sign_235 : decode cX16_sign 235 = .ok (.iload 4, 2) := dk_21 4 (dk_at dksX16_sign_10 4 rfl rfl)
theorem dX16_sign_237 : decode cX16_sign 237 = .ok (.aload_n 0, 1) := dk_42 (dk_at dksX16_sign_10 6 rfl rfl)
theorem dX16_sign_238 : decode cX16_sign 238 = .ok (.getfield 384, 3) := dk_180 1 128 (dk_at dksX16_sign_10 7 rfl rfl)
theorem dX16_sign_241 : decode cX16_sign 241 = .ok (.bipush 7, 2) := dk_16 7 (dk_at dksX16_sign_10 10 rfl rfl)
theorem dX16_sign_243 : decode cX16_sign 243 = .ok (.iload 5, 2) := dk_21 5 (dk_at dksX16_sign_10 12 rfl rfl)
theorem dX16_sign_245 : decode cX16_sign 245 = .ok (.isub, 1) := dk_100 (dk_at dksX16_sign_10 14 rfl rfl)
theorem dX16_sign_246 : decode cX16_sign 246 = .ok (.invokevirtual 596, 3) := dk_182 2 84 (dk_at dksX16_sign_10 15 rfl rfl)
theorem dX16_sign_249 : decode cX16_sign 249 = .ok (.ifCond .ne 27, 3) := dk_154 0 27 (dk_at dksX16_sign_10 18 rfl rfl)
theorem dX16_sign_252 : decode cX16_sign 252 = .ok (.iconst 1, 1) := dk_4 (dk_at dksX16_sign_10 21 rfl rfl)
theorem dX16_sign_253 : decode cX16_sign 253 = .ok (.aload_n 0, 1) := dk_42 (dk_at dksX16_sign_10 22 rfl rfl)
theorem dX16_sign_254 : decode cX16_sign 254 = .ok (.aload_n 0, 1) := dk_42 (dk_at dksX16_sign_10 23 rfl rfl)
theorem dX16_sign_255 : decode cX16_sign 255 = .ok (.getfield 390, 3) := dk_180 1 134 (dk_at dksX16_sign_11 0 rfl rfl)
theorem dX16_sign_258 : decode cX16_sign 258 = .ok (.aload_n 0, 1) := dk_42 (dk_at dksX16_sign_11 3 rfl rfl)
theorem dX16_sign_259 : decode cX16_sign 259 = .ok (.getfield 611, 3) := dk_180 2 99 (dk_at dksX16_sign_11 4 rfl rfl)
theorem dX16_sign_262 : decode cX16_sign 262 = .ok (.aload_n 0, 1) := dk_42 (dk_at dksX16_sign_11 7 rfl rfl)
theorem dX16_sign_263 : decode cX16_sign 263 = .ok (.getfield 384, 3) := dk_180 1 128 (dk_at dksX16_sign_11 8 rfl rfl)
theorem dX16_sign_266 : decode cX16_sign 266 = .ok (.bipush 7, 2) := dk_16 7 (dk_at dksX16_sign_11 11 rfl rfl)
theorem dX16_sign_268 : decode cX16_sign 268 = .ok (.iload 5, 2) := dk_21 5 (dk_at dksX16_sign_11 13 rfl rfl)
theorem dX16_sign_270 : decode cX16_sign 270 = .ok (.isub, 1) := dk_100 (dk_at dksX16_sign_11 15 rfl rfl)
theorem dX16_sign_271 : decode cX16_sign 271 = .ok (.invokevirtual 596, 3) := dk_182 2 84 (dk_at dksX16_sign_11 16 rfl rfl)
theorem dX16_sign_274 : decode cX16_sign 274 = .ok (.iadd, 1) := dk_96 (dk_at dksX16_sign_11 19 rfl rfl)
theorem dX16_sign_275 : decode cX16_sign 275 = .ok (.ireturn, 1) := dk_172 (dk_at dksX16_sign_11 20 rfl rfl)
theorem dX16_sign_276 : decode cX16_sign 276 = .ok (.iconst 0, 1) := dk_3 (dk_at dksX16_sign_11 21 rfl rfl)
theorem dX16_sign_277 : decode cX16_sign 277 = .ok (.istore 6, 2) := dk_54 6 (dk_at dksX16_sign_11 22 rfl rfl)
theorem dX16_sign_279 : decode cX16_sign 279 = .ok (.iload 6, 2) := dk_21 6 (dk_at dksX16_sign_12 0 rfl rfl)
theorem dX16_sign_281 : decode cX16_sign 281 = .ok (.bipush 18, 2) := dk_16 18 (dk_at dksX16_sign_12 2 rfl rfl)
theorem dX16_sign_283 : decode cX16_sign 283 = .ok (.if_icmp .ge 20, 3) := dk_162 0 20 (dk_at dksX16_sign_12 4 rfl rfl)
theorem dX16_sign_286 : decode cX16_sign 286 = .ok (.aload_n 0, 1) := dk_42 (dk_at dksX16_sign_12 7 rfl rfl)
theorem dX16_sign_287 : decode cX16_sign 287 = .ok (.getfield 342, 3) := dk_180 1 86 (dk_at dksX16_sign_12 8 rfl rfl)
theorem dX16_sign_290 : decode cX16_sign 290 = .ok (.iload 6, 2) := dk_21 6 (dk_at dksX16_sign_12 11 rfl rfl)
theorem dX16_sign_292 : decode cX16_sign 292 = .ok (.aaload, 1) := dk_50 (dk_at dksX16_sign_12 13 rfl rfl)
theorem dX16_sign_293 : decode cX16_sign 293 = .ok (.lconst 0, 1) := dk_9 (dk_at dksX16_sign_12 14 rfl rfl)
theorem dX16_sign_294 : decode cX16_sign 294 = .ok (.invokevirtual 83, 3) := dk_182 0 83 (dk_at dksX16_sign_12 15 rfl rfl)
theorem dX16_sign_297 : decode cX16_sign 297 = .ok (.iinc 6 1, 3) := dk_132 6 1 (dk_at dksX16_sign_12 18 rfl rfl)
theorem dX16_sign_300 : decode cX16_sign 300 = .ok (.goto (-21), 3) := dk_167 255 235 (dk_at dksX16_sign_12 21 rfl rfl)
theorem dX16_sign_303 : decode cX16_sign 303 = .ok (.iconst 1, 1) := dk_4 (dk_at dksX16_sign_13 0 rfl rfl)
theorem dX16_sign_304 : decode cX16_sign 304 = .ok (.istore 6, 2) := dk_54 6 (dk_at dksX16_sign_13 1 rfl rfl)
theorem dX16_sign_306 : decode cX16_sign 306 = .ok (.iload 6, 2) := dk_21 6 (dk_at dksX16_sign_13 3 rfl rfl)
theorem dX16_sign_308 : decode cX16_sign 308 = .ok (.iload 4, 2) := dk_21 4 (dk_at dksX16_sign_13 5 rfl rfl)
theorem dX16_sign_310 : decode cX16_sign 310 = .ok (.if_icmp .gt 87, 3) := dk_163 0 87 (dk_at dksX16_sign_13 7 rfl rfl)
theorem dX16_sign_313 : decode cX16_sign 313 = .ok (.iconst 0, 1) := dk_3 (dk_at dksX16_sign_13 10 rfl rfl)
theorem dX16_sign_314 : decode cX16_sign 314 = .ok (.istore 7, 2) := dk_54 7 (dk_at dksX16_sign_13 11 rfl rfl)
theorem dX16_sign_316 : decode cX16_sign 316 = .ok (.iload 7, 2) := dk_21 7 (dk_at dksX16_sign_13 13 rfl rfl)
theorem dX16_sign_318 : decode cX16_sign 318 = .ok (.aload_n 0, 1) := dk_42 (dk_at dksX16_sign_13 15 rfl rfl)
theorem dX16_sign_319 : decode cX16_sign 319 = .ok (.getfield 611, 3) := dk_180 2 99 (dk_at dksX16_sign_13 16 rfl rfl)
theorem dX16_sign_322 : decode cX16_sign 322 = .ok (.if_icmp .gt 69, 3) := dk_163 0 69 (dk_at dksX16_sign_13 19 rfl rfl)
theorem dX16_sign_325 : decode cX16_sign 325 = .ok (.aload_n 0, 1) := dk_42 (dk_at dksX16_sign_13 22 rfl rfl)
theorem dX16_sign_326 : decode cX16_sign 326 = .ok (.getfield 314, 3) := dk_180 1 58 (dk_at dksX16_sign_14 0 rfl rfl)
theorem dX16_sign_329 : decode cX16_sign 329 = .ok (.iload 6, 2) := dk_21 6 (dk_at dksX16_sign_14 3 rfl rfl)
theorem dX16_sign_331 : decode cX16_sign 331 = .ok (.i2l, 1) := dk_133 (dk_at dksX16_sign_14 5 rfl rfl)
theorem dX16_sign_332 : decode cX16_sign 332 = .ok (.aload_n 0, 1) := dk_42 (dk_at dksX16_sign_14 6 rfl rfl)
theorem dX16_sign_333 : decode cX16_sign 333 = .ok (.getfield 196, 3) := dk_180 0 196 (dk_at dksX16_sign_14 7 rfl rfl)
theorem dX16_sign_336 : decode cX16_sign 336 = .ok (.iload_n 2, 1) := dk_28 (dk_at dksX16_sign_14 10 rfl rfl)
theorem dX16_sign_337 : decode cX16_sign 337 = .ok (.aaload, 1) := dk_50 (dk_at dksX16_sign_14 11 rfl rfl)
theorem dX16_sign_338 : decode cX16_sign 338 = .ok (.iload 6, 2) := dk_21 6 (dk_at dksX16_sign_14 12 rfl rfl)
theorem dX16_sign_340 : decode cX16_sign 340 = .ok (.laload, 1) := dk_47 (dk_at dksX16_sign_14 14 rfl rfl)
theorem dX16_sign_341 : decode cX16_sign 341 = .ok (.lmul, 1) := dk_105 (dk_at dksX16_sign_14 15 rfl rfl)
theorem dX16_sign_342 : decode cX16_sign 342 = .ok (.aload_n 0, 1) := dk_42 (dk_at dksX16_sign_14 16 rfl rfl)
theorem dX16_sign_343 : decode cX16_sign 343 = .ok (.getfield 370, 3) := dk_180 1 114 (dk_at dksX16_sign_14 17 rfl rfl)
theorem dX16_sign_346 : decode cX16_sign 346 = .ok (.iload 7, 2) := dk_21 7 (dk_at dksX16_sign_14 20 rfl rfl)
theorem dX16_sign_348 : decode cX16_sign 348 = .ok (.laload, 1) := dk_47 (dk_at dksX16_sign_14 22 rfl rfl)
theorem dX16_sign_349 : decode cX16_sign 349 = .ok (.lmul, 1) := dk_105 (dk_at dksX16_sign_14 23 rfl rfl)
theorem dX16_sign_350 : decode cX16_sign 350 = .ok (.invokevirtual 83, 3) := dk_182 0 83 (dk_at dksX16_sign_15 0 rfl rfl)
theorem dX16_sign_353 : decode cX16_sign 353 = .ok (.aload_n 0, 1) := dk_42 (dk_at dksX16_sign_15 3 rfl rfl)
theorem dX16_sign_354 : decode cX16_sign 354 = .ok (.getfield 342, 3) := dk_180 1 86 (dk_at dksX16_sign_15 4 rfl rfl)
theorem dX16_sign_357 : decode cX16_sign 357 = .ok (.iload 6, 2) := dk_21 6 (dk_at dksX16_sign_15 7 rfl rfl)
theorem dX16_sign_359 : decode cX16_sign 359 = .ok (.iconst 1, 1) := dk_4 (dk_at dksX16_sign_15 9 rfl rfl)
theorem dX16_sign_360 : decode cX16_sign 360 = .ok (.isub, 1) := dk_100 (dk_at dksX16_sign_15 10 rfl rfl)
theorem dX16_sign_361 : decode cX16_sign 361 = .ok (.iload 7, 2) := dk_21 7 (dk_at dksX16_sign_15 11 rfl rfl)
theorem dX16_sign_363 : decode cX16_sign 363 = .ok (.iadd, 1) := dk_96 (dk_at dksX16_sign_15 13 rfl rfl)
theorem dX16_sign_364 : decode cX16_sign 364 = .ok (.aaload, 1) := dk_50 (dk_at dksX16_sign_15 14 rfl rfl)
theorem dX16_sign_365 : decode cX16_sign 365 = .ok (.aload_n 0, 1) := dk_42 (dk_at dksX16_sign_15 15 rfl rfl)
theorem dX16_sign_366 : decode cX16_sign 366 = .ok (.getfield 342, 3) := dk_180 1 86 (dk_at dksX16_sign_15 16 rfl rfl)
theorem dX16_sign_369 : decode cX16_sign 369 = .ok (.iload 6, 2) := dk_21 6 (dk_at dksX16_sign_15 19 rfl rfl)
theorem dX16_sign_371 : decode cX16_sign 371 = .ok (.iconst 1, 1) := dk_4 (dk_at dksX16_sign_15 21 rfl rfl)
theorem dX16_sign_372 : decode cX16_sign 372 = .ok (.isub, 1) := dk_100 (dk_at dksX16_sign_15 22 rfl rfl)
theorem dX16_sign_373 : decode cX16_sign 373 = .ok (.iload 7, 2) := dk_21 7 (dk_at dksX16_sign_16 0 rfl rfl)
theorem dX16_sign_375 : decode cX16_sign 375 = .ok (.iadd, 1) := dk_96 (dk_at dksX16_sign_16 2 rfl rfl)
theorem dX16_sign_376 : decode cX16_sign 376 = .ok (.aaload, 1) := dk_50 (dk_at dksX16_sign_16 3 rfl rfl)
theorem dX16_sign_377 : decode cX16_sign 377 = .ok (.aload_n 0, 1) := dk_42 (dk_at dksX16_sign_16 4 rfl rfl)
theorem dX16_sign_378 : decode cX16_sign 378 = .ok (.getfield 314, 3) := dk_180 1 58 (dk_at dksX16_sign_16 5 rfl rfl)
theorem dX16_sign_381 : decode cX16_sign 381 = .ok (.iconst 1, 1) := dk_4 (dk_at dksX16_sign_16 8 rfl rfl)
theorem dX16_sign_382 : decode cX16_sign 382 = .ok (.invokestatic 111, 3) := dk_184 0 111 (dk_at dksX16_sign_16 9 rfl rfl)
theorem dX16_sign_385 : decode cX16_sign 385 = .ok (.iinc 7 1, 3) := dk_132 7 1 (dk_at dksX16_sign_16 12 rfl rfl)
theorem dX16_sign_388 : decode cX16_sign 388 = .ok (.goto (-72), 3) := dk_167 255 184 (dk_at dksX16_sign_16 15 rfl rfl)
theorem dX16_sign_391 : decode cX16_sign 391 = .ok (.iinc 6 1, 3) := dk_132 6 1 (dk_at dksX16_sign_16 18 rfl rfl)
theorem dX16_sign_394 : decode cX16_sign 394 = .ok (.goto (-88), 3) := dk_167 255 168 (dk_at dksX16_sign_16 21 rfl rfl)
theorem dX16_sign_397 : decode cX16_sign 397 = .ok (.iload 4, 2) := dk_21 4 (dk_at dksX16_sign_17 0 rfl rfl)
theorem dX16_sign_399 : decode cX16_sign 399 = .ok (.iconst 1, 1) := dk_4 (dk_at dksX16_sign_17 2 rfl rfl)
theorem dX16_sign_400 : decode cX16_sign 400 = .ok (.isub, 1) := dk_100 (dk_at dksX16_sign_17 3 rfl rfl)
theorem dX16_sign_401 : decode cX16_sign 401 = .ok (.aload_n 0, 1) := dk_42 (dk_at dksX16_sign_17 4 rfl rfl)
theorem dX16_sign_402 : decode cX16_sign 402 = .ok (.getfield 611, 3) := dk_180 2 99 (dk_at dksX16_sign_17 5 rfl rfl)
theorem dX16_sign_405 : decode cX16_sign 405 = .ok (.iadd, 1) := dk_96 (dk_at dksX16_sign_17 8 rfl rfl)
theorem dX16_sign_406 : decode cX16_sign 406 = .ok (.istore 6, 2) := dk_54 6 (dk_at dksX16_sign_17 9 rfl rfl)
theorem dX16_sign_408 : decode cX16_sign 408 = .ok (.aload_n 0, 1) := dk_42 (dk_at dksX16_sign_17 11 rfl rfl)
theorem dX16_sign_409 : decode cX16_sign 409 = .ok (.aload_n 0, 1) := dk_42 (dk_at dksX16_sign_17 12 rfl rfl)
theorem dX16_sign_410 : decode cX16_sign 410 = .ok (.getfield 342, 3) := dk_180 1 86 (dk_at dksX16_sign_17 13 rfl rfl)
theorem dX16_sign_413 : decode cX16_sign 413 = .ok (.iload 6, 2) := dk_21 6 (dk_at dksX16_sign_17 16 rfl rfl)
theorem dX16_sign_415 : decode cX16_sign 415 = .ok (.invokevirtual 600, 3) := dk_182 2 88 (dk_at dksX16_sign_17 18 rfl rfl)
theorem dX16_sign_418 : decode cX16_sign 418 = .ok (.aload_n 0, 1) := dk_42 (dk_at dksX16_sign_17 21 rfl rfl)
theorem dX16_sign_419 : decode cX16_sign 419 = .ok (.iload 6, 2) := dk_21 6 (dk_at dksX16_sign_17 22 rfl rfl)
theorem dX16_sign_421 : decode cX16_sign 421 = .ok (.aload_n 0, 1) := dk_42 (dk_at dksX16_sign_18 0 rfl rfl)
theorem dX16_sign_422 : decode cX16_sign 422 = .ok (.getfield 387, 3) := dk_180 1 131 (dk_at dksX16_sign_18 1 rfl rfl)
theorem dX16_sign_425 : decode cX16_sign 425 = .ok (.iload 4, 2) := dk_21 4 (dk_at dksX16_sign_18 4 rfl rfl)
theorem dX16_sign_427 : decode cX16_sign 427 = .ok (.invokevirtual 604, 3) := dk_182 2 92 (dk_at dksX16_sign_18 6 rfl rfl)
theorem dX16_sign_430 : decode cX16_sign 430 = .ok (.istore 6, 2) := dk_54 6 (dk_at dksX16_sign_18 9 rfl rfl)
theorem dX16_sign_432 : decode cX16_sign 432 = .ok (.iconst 0, 1) := dk_3 (dk_at dksX16_sign_18 11 rfl rfl)
theorem dX16_sign_433 : decode cX16_sign 433 = .ok (.istore 7, 2) := dk_54 7 (dk_at dksX16_sign_18 12 rfl rfl)
theorem dX16_sign_435 : decode cX16_sign 435 = .ok (.iload 7, 2) := dk_21 7 (dk_at dksX16_sign_18 14 rfl rfl)
theorem dX16_sign_437 : decode cX16_sign 437 = .ok (.iload 4, 2) := dk_21 4 (dk_at dksX16_sign_18 16 rfl rfl)
theorem dX16_sign_439 : decode cX16_sign 439 = .ok (.if_icmp .gt 28, 3) := dk_163 0 28 (dk_at dksX16_sign_18 18 rfl rfl)
theorem dX16_sign_442 : decode cX16_sign 442 = .ok (.aload_n 0, 1) := dk_42 (dk_at dksX16_sign_18 21 rfl rfl)
theorem dX16_sign_443 : decode cX16_sign 443 = .ok (.getfield 336, 3) := dk_180 1 80 (dk_at dksX16_sign_19 0 rfl rfl)
theorem dX16_sign_446 : decode cX16_sign 446 = .ok (.iconst 0, 1) := dk_3 (dk_at dksX16_sign_19 3 rfl rfl)
theorem dX16_sign_447 : decode cX16_sign 447 = .ok (.aaload, 1) := dk_50 (dk_at dksX16_sign_19 4 rfl rfl)
theorem dX16_sign_448 : decode cX16_sign 448 = .ok (.iload 7, 2) := dk_21 7 (dk_at dksX16_sign_19 5 rfl rfl)
theorem dX16_sign_450 : decode cX16_sign 450 = .ok (.aaload, 1) := dk_50 (dk_at dksX16_sign_19 7 rfl rfl)
theorem dX16_sign_451 : decode cX16_sign 451 = .ok (.aload_n 0, 1) := dk_42 (dk_at dksX16_sign_19 8 rfl rfl)
theorem dX16_sign_452 : decode cX16_sign 452 = .ok (.getfield 387, 3) := dk_180 1 131 (dk_at dksX16_sign_19 9 rfl rfl)
theorem dX16_sign_455 : decode cX16_sign 455 = .ok (.iload 7, 2) := dk_21 7 (dk_at dksX16_sign_19 12 rfl rfl)
theorem dX16_sign_457 : decode cX16_sign 457 = .ok (.aaload, 1) := dk_50 (dk_at dksX16_sign_19 14 rfl rfl)
theorem dX16_sign_458 : decode cX16_sign 458 = .ok (.invokevirtual 18, 3) := dk_182 0 18 (dk_at dksX16_sign_19 15 rfl rfl)
theorem dX16_sign_461 : decode cX16_sign 461 = .ok (.iinc 7 1, 3) := dk_132 7 1 (dk_at dksX16_sign_19 18 rfl rfl)
theorem dX16_sign_464 : decode cX16_sign 464 = .ok (.goto (-29), 3) := dk_167 255 227 (dk_at dksX16_sign_19 21 rfl rfl)
theorem dX16_sign_467 : decode cX16_sign 467 = .ok (.iconst 0, 1) := dk_3 (dk_at dksX16_sign_20 0 rfl rfl)
theorem dX16_sign_468 : decode cX16_sign 468 = .ok (.istore 7, 2) := dk_54 7 (dk_at dksX16_sign_20 1 rfl rfl)
theorem dX16_sign_470 : decode cX16_sign 470 = .ok (.iload 7, 2) := dk_21 7 (dk_at dksX16_sign_20 3 rfl rfl)
theorem dX16_sign_472 : decode cX16_sign 472 = .ok (.iload 6, 2) := dk_21 6 (dk_at dksX16_sign_20 5 rfl rfl)
theorem dX16_sign_474 : decode cX16_sign 474 = .ok (.if_icmp .gt 28, 3) := dk_163 0 28 (dk_at dksX16_sign_20 7 rfl rfl)
theorem dX16_sign_477 : decode cX16_sign 477 = .ok (.aload_n 0, 1) := dk_42 (dk_at dksX16_sign_20 10 rfl rfl)
theorem dX16_sign_478 : decode cX16_sign 478 = .ok (.getfield 336, 3) := dk_180 1 80 (dk_at dksX16_sign_20 11 rfl rfl)
theorem dX16_sign_481 : decode cX16_sign 481 = .ok (.iconst 1, 1) := dk_4 (dk_at dksX16_sign_20 14 rfl rfl)
theorem dX16_sign_482 : decode cX16_sign 482 = .ok (.aaload, 1) := dk_50 (dk_at dksX16_sign_20 15 rfl rfl)
theorem dX16_sign_483 : decode cX16_sign 483 = .ok (.iload 7, 2) := dk_21 7 (dk_at dksX16_sign_20 16 rfl rfl)
theorem dX16_sign_485 : decode cX16_sign 485 = .ok (.aaload, 1) := dk_50 (dk_at dksX16_sign_20 18 rfl rfl)
theorem dX16_sign_486 : decode cX16_sign 486 = .ok (.aload_n 0, 1) := dk_42 (dk_at dksX16_sign_20 19 rfl rfl)
theorem dX16_sign_487 : decode cX16_sign 487 = .ok (.getfield 342, 3) := dk_180 1 86 (dk_at dksX16_sign_20 20 rfl rfl)
theorem dX16_sign_490 : decode cX16_sign 490 = .ok (.iload 7, 2) := dk_21 7 (dk_at dksX16_sign_21 0 rfl rfl)
theorem dX16_sign_492 : decode cX16_sign 492 = .ok (.aaload, 1) := dk_50 (dk_at dksX16_sign_21 2 rfl rfl)
theorem dX16_sign_493 : decode cX16_sign 493 = .ok (.invokevirtual 18, 3) := dk_182 0 18 (dk_at dksX16_sign_21 3 rfl rfl)
theorem dX16_sign_496 : decode cX16_sign 496 = .ok (.iinc 7 1, 3) := dk_132 7 1 (dk_at dksX16_sign_21 6 rfl rfl)
theorem dX16_sign_499 : decode cX16_sign 499 = .ok (.goto (-29), 3) := dk_167 255 227 (dk_at dksX16_sign_21 9 rfl rfl)
theorem dX16_sign_502 : decode cX16_sign 502 = .ok (.aload_n 0, 1) := dk_42 (dk_at dksX16_sign_21 12 rfl rfl)
theorem dX16_sign_503 : decode cX16_sign 503 = .ok (.getfield 339, 3) := dk_180 1 83 (dk_at dksX16_sign_21 13 rfl rfl)
theorem dX16_sign_506 : decode cX16_sign 506 = .ok (.iconst 0, 1) := dk_3 (dk_at dksX16_sign_21 16 rfl rfl)
theorem dX16_sign_507 : decode cX16_sign 507 = .ok (.iload 4, 2) := dk_21 4 (dk_at dksX16_sign_21 17 rfl rfl)
theorem dX16_sign_509 : decode cX16_sign 509 = .ok (.iastore, 1) := dk_79 (dk_at dksX16_sign_21 19 rfl rfl)
theorem dX16_sign_510 : decode cX16_sign 510 = .ok (.aload_n 0, 1) := dk_42 (dk_at dksX16_sign_21 20 rfl rfl)
theorem dX16_sign_511 : decode cX16_sign 511 = .ok (.getfield 339, 3) := dk_180 1 83 (dk_at dksX16_sign_21 21 rfl rfl)
theorem dX16_sign_514 : decode cX16_sign 514 = .ok (.iconst 1, 1) := dk_4 (dk_at dksX16_sign_22 0 rfl rfl)
theorem dX16_sign_515 : decode cX16_sign 515 = .ok (.iload 6, 2) := dk_21 6 (dk_at dksX16_sign_22 1 rfl rfl)
theorem dX16_sign_517 : decode cX16_sign 517 = .ok (.iastore, 1) := dk_79 (dk_at dksX16_sign_22 3 rfl rfl)
theorem dX16_sign_518 : decode cX16_sign 518 = .ok (.aload_n 0, 1) := dk_42 (dk_at dksX16_sign_22 4 rfl rfl)
theorem dX16_sign_519 : decode cX16_sign 519 = .ok (.invokevirtual 608, 3) := dk_182 2 96 (dk_at dksX16_sign_22 5 rfl rfl)
theorem dX16_sign_522 : decode cX16_sign 522 = .ok (.iconst 1, 1) := dk_4 (dk_at dksX16_sign_22 8 rfl rfl)
theorem dX16_sign_523 : decode cX16_sign 523 = .ok (.aload_n 0, 1) := dk_42 (dk_at dksX16_sign_22 9 rfl rfl)
theorem dX16_sign_524 : decode cX16_sign 524 = .ok (.aload_n 0, 1) := dk_42 (dk_at dksX16_sign_22 10 rfl rfl)
theorem dX16_sign_525 : decode cX16_sign 525 = .ok (.getfield 381, 3) := dk_180 1 125 (dk_at dksX16_sign_22 11 rfl rfl)
theorem dX16_sign_528 : decode cX16_sign 528 = .ok (.bipush 7, 2) := dk_16 7 (dk_at dksX16_sign_22 14 rfl rfl)
theorem dX16_sign_530 : decode cX16_sign 530 = .ok (.iload 5, 2) := dk_21 5 (dk_at dksX16_sign_22 16 rfl rfl)
theorem dX16_sign_532 : decode cX16_sign 532 = .ok (.isub, 1) := dk_100 (dk_at dksX16_sign_22 18 rfl rfl)
theorem dX16_sign_533 : decode cX16_sign 533 = .ok (.invokevirtual 636, 3) := dk_182 2 124 (dk_at dksX16_sign_22 19 rfl rfl)
theorem dX16_sign_536 : decode cX16_sign 536 = .ok (.iadd, 1) := dk_96 (dk_at dksX16_sign_22 22 rfl rfl)
theorem dX16_sign_537 : decode cX16_sign 537 = .ok (.aload_n 0, 1) := dk_42 (dk_at dksX16_sign_22 23 rfl rfl)
theorem dX16_sign_538 : decode cX16_sign 538 = .ok (.aload_n 0, 1) := dk_42 (dk_at dksX16_sign_23 0 rfl rfl)
theorem dX16_sign_539 : decode cX16_sign 539 = .ok (.getfield 384, 3) := dk_180 1 128 (dk_at dksX16_sign_23 1 rfl rfl)
theorem dX16_sign_542 : decode cX16_sign 542 = .ok (.bipush 7, 2) := dk_16 7 (dk_at dksX16_sign_23 4 rfl rfl)
theorem dX16_sign_544 : decode cX16_sign 544 = .ok (.iload 5, 2) := dk_21 5 (dk_at dksX16_sign_23 6 rfl rfl)
theorem dX16_sign_546 : decode cX16_sign 546 = .ok (.isub, 1) := dk_100 (dk_at dksX16_sign_23 8 rfl rfl)
theorem dX16_sign_547 : decode cX16_sign 547 = .ok (.invokevirtual 636, 3) := dk_182 2 124 (dk_at dksX16_sign_23 9 rfl rfl)
theorem dX16_sign_550 : decode cX16_sign 550 = .ok (.isub, 1) := dk_100 (dk_at dksX16_sign_23 12 rfl rfl)
theorem dX16_sign_551 : decode cX16_sign 551 = .ok (.ireturn, 1) := dk_172 (dk_at dksX16_sign_23 13 rfl rfl)
abbrev cX16_high : ByteArray := prog_21_method_89_code
def yX16_high : MethodName := ⟨RX16, "high", "(LIdealCourtModel$Num;)V"⟩
def dkwX16_high_0 : List UInt8 := [42, 180, 1, 73, 20, 1, 240, 182, 0, 83, 42, 180, 1, 128, 43, 42, 180, 1, 73, 4, 184, 0, 111, 177]
abbrev dktX16_high_0 : List UInt8 := dkwX16_high_0 ++ []
theorem dksX16_high_0 : cX16_high.data.toList.drop 0 = dktX16_high_0 := by decide +kernel
theorem dX16_high_0 : decode cX16_high 0 = .ok (.aload_n 0, 1) := dk_42 (dk_at dksX16_high_0 0 rfl rfl)
theorem dX16_high_1 : decode cX16_high 1 = .ok (.getfield 329, 3) := dk_180 1 73 (dk_at dksX16_high_0 1 rfl rfl)
theorem dX16_high_4 : decode cX16_high 4 = .ok (.ldc2_w 496, 3) := dk_20 1 240 (dk_at dksX16_high_0 4 rfl rfl)
theorem dX16_high_7 : decode cX16_high 7 = .ok (.invokevirtual 83, 3) := dk_182 0 83 (dk_at dksX16_high_0 7 rfl rfl)
theorem dX16_high_10 : decode cX16_high 10 = .ok (.aload_n 0, 1) := dk_42 (dk_at dksX16_high_0 10 rfl rfl)
theorem dX16_high_11 : decode cX16_high 11 = .ok (.getfield 384, 3) := dk_180 1 128 (dk_at dksX16_high_0 11 rfl rfl)
theorem dX16_high_14 : decode cX16_high 14 = .ok (.aload_n 1, 1) := dk_43 (dk_at dksX16_high_0 14 rfl rfl)
theorem dX16_high_15 : decode cX16_high 15 = .ok (.aload_n 0, 1) := dk_42 (dk_at dksX16_high_0 15 rfl rfl)
theorem dX16_high_16 : decode cX16_high 16 = .ok (.getfield 329, 3) := dk_180 1 73 (dk_at dksX16_high_0 16 rfl rfl)
theorem dX16_high_19 : decode cX16_high 19 = .ok (.iconst 1, 1) := dk_4 (dk_at dksX16_high_0 19 rfl rfl)
theorem dX16_high_20 : decode cX16_high 20 = .ok (.invokestatic 111, 3) := dk_184 0 111 (dk_at dksX16_high_0 20 rfl rfl)
theorem dX16_high_23 : decode cX16_high 23 = .ok (.return_, 1) := dk_177 (dk_at dksX16_high_0 23 rfl rfl)
abbrev cX16_same : ByteArray := prog_21_method_91_code
def yX16_same : MethodName := ⟨RX16, "same", "(II)I"⟩
def dkwX16_same_7 : List UInt8 := [28, 46, 160, 0, 7, 4, 167, 0, 4, 3, 54, 4, 21, 4, 153, 0, 7, 4, 167, 0, 4, 3, 172]
abbrev dktX16_same_7 : List UInt8 := dkwX16_same_7 ++ []
def dkwX16_same_6 : List UInt8 := [46, 160, 0, 32, 42, 180, 0, 181, 27, 46, 7, 159, 0, 18, 42, 180, 0, 191, 27, 46, 42, 180, 0, 191]
abbrev dktX16_same_6 : List UInt8 := dkwX16_same_6 ++ dktX16_same_7
def dkwX16_same_5 : List UInt8 := [153, 0, 7, 4, 167, 0, 4, 3, 54, 4, 167, 0, 50, 42, 180, 0, 188, 27, 46, 42, 180, 0, 188, 28]
abbrev dktX16_same_5 : List UInt8 := dkwX16_same_5 ++ dktX16_same_6
def dkwX16_same_4 : List UInt8 := [180, 0, 209, 28, 46, 160, 0, 25, 42, 180, 0, 206, 27, 50, 42, 180, 0, 206, 28, 50, 182, 2, 137]
abbrev dktX16_same_4 : List UInt8 := dkwX16_same_4 ++ dktX16_same_5
def dkwX16_same_3 : List UInt8 := [54, 4, 167, 0, 103, 42, 180, 0, 181, 27, 46, 6, 160, 0, 46, 42, 180, 0, 209, 27, 46, 42]
abbrev dktX16_same_3 : List UInt8 := dkwX16_same_3 ++ dktX16_same_4
def dkwX16_same_2 : List UInt8 := [180, 0, 181, 27, 46, 4, 160, 0, 23, 42, 180, 0, 184, 27, 50, 42, 180, 0, 184, 28, 50, 182, 2, 134]
abbrev dktX16_same_2 : List UInt8 := dkwX16_same_2 ++ dktX16_same_3
def dkwX16_same_1 : List UInt8 := [182, 1, 151, 172, 42, 180, 0, 181, 27, 46, 42, 180, 0, 181, 28, 46, 159, 0, 5, 3, 172, 42]
abbrev dktX16_same_1 : List UInt8 := dkwX16_same_1 ++ dktX16_same_2
def dkwX16_same_0 : List UInt8 := [42, 27, 3, 182, 1, 164, 42, 28, 3, 182, 1, 164, 184, 1, 188, 62, 29, 156, 0, 9, 42, 29]
abbrev dktX16_same_0 : List UInt8 := dkwX16_same_0 ++ dktX16_same_1
theorem dksX16_same_0 : cX16_same.data.toList.drop 0 = dktX16_same_0 := by decide +kernel
theorem dksX16_same_1 : cX16_same.data.toList.drop 22 = dktX16_same_1 := dk_seg dksX16_same_0 22 rfl rfl
theorem dksX16_same_2 : cX16_same.data.toList.drop 44 = dktX16_same_2 := dk_seg dksX16_same_1 22 rfl rfl
theorem dksX16_same_3 : cX16_same.data.toList.drop 68 = dktX16_same_3 := dk_seg dksX16_same_2 24 rfl rfl
theorem dksX16_same_4 : cX16_same.data.toList.drop 90 = dktX16_same_4 := dk_seg dksX16_same_3 22 rfl rfl
theorem dksX16_same_5 : cX16_same.data.toList.drop 113 = dktX16_same_5 := dk_seg dksX16_same_4 23 rfl rfl
theorem dksX16_same_6 : cX16_same.data.toList.drop 137 = dktX16_same_6 := dk_seg dksX16_same_5 24 rfl rfl
theorem dksX16_same_7 : cX16_same.data.toList.drop 161 = dktX16_same_7 := dk_seg dksX16_same_6 24 rfl rfl
theorem dX16_same_0 : decode cX16_same 0 = .ok (.aload_n 0, 1) := dk_42 (dk_at dksX16_same_0 0 rfl rfl)
theorem dX16_same_1 : decode cX16_same 1 = .ok (.iload_n 1, 1) := dk_27 (dk_at dksX16_same_0 1 rfl rfl)
theorem dX16_same_2 : decode cX16_same 2 = .ok (.iconst 0, 1) := dk_3 (dk_at dksX16_same_0 2 rfl rfl)
theorem dX16_same_3 : decode cX16_same 3 = .ok (.invokevirtual 420, 3) := dk_182 1 164 (dk_at dksX16_same_0 3 rfl rfl)
theorem dX16_same_6 : decode cX16_same 6 = .ok (.aload_n 0, 1) := dk_42 (dk_at dksX16_same_0 6 rfl rfl)
theorem dX16_same_7 : decode cX16_same 7 = .ok (.iload_n 2, 1) := dk_28 (dk_at dksX16_same_0 7 rfl rfl)
theorem dX16_same_8 : decode cX16_same 8 = .ok (.iconst 0, 1) := dk_3 (dk_at dksX16_same_0 8 rfl rfl)
theorem dX16_same_9 : decode cX16_same 9 = .ok (.invokevirtual 420, 3) := dk_182 1 164 (dk_at dksX16_same_0 9 rfl rfl)
theorem dX16_same_12 : decode cX16_same 12 = .ok (.invokestatic 444, 3) := dk_184 1 188 (dk_at dksX16_same_0 12 rfl rfl)
theorem dX16_same_15 : decode cX16_same 15 = .ok (.istore_n 3, 1) := dk_62 (dk_at dksX16_same_0 15 rfl rfl)
theorem dX16_same_16 : decode cX16_same 16 = .ok (.iload_n 3, 1) := dk_29 (dk_at dksX16_same_0 16 rfl rfl)
theorem dX16_same_17 : decode cX16_same 17 = .ok (.ifCond .ge 9, 3) := dk_156 0 9 (dk_at dksX16_same_0 17 rfl rfl)
theorem dX16_same_20 : decode cX16_same 20 = .ok (.aload_n 0, 1) := dk_42 (dk_at dksX16_same_0 20 rfl rfl)
theorem dX16_same_21 : decode cX16_same 21 = .ok (.iload_n 3, 1) := dk_29 (dk_at dksX16_same_0 21 rfl rfl)
theorem dX16_same_22 : decode cX16_same 22 = .ok (.invokevirtual 407, 3) := dk_182 1 151 (dk_at dksX16_same_1 0 rfl rfl)
theorem dX16_same_25 : decode cX16_same 25 = .ok (.ireturn, 1) := dk_172 (dk_at dksX16_same_1 3 rfl rfl)
theorem dX16_same_26 : decode cX16_same 26 = .ok (.aload_n 0, 1) := dk_42 (dk_at dksX16_same_1 4 rfl rfl)
theorem dX16_same_27 : decode cX16_same 27 = .ok (.getfield 181, 3) := dk_180 0 181 (dk_at dksX16_same_1 5 rfl rfl)
theorem dX16_same_30 : decode cX16_same 30 = .ok (.iload_n 1, 1) := dk_27 (dk_at dksX16_same_1 8 rfl rfl)
theorem dX16_same_31 : decode cX16_same 31 = .ok (.iaload, 1) := dk_46 (dk_at dksX16_same_1 9 rfl rfl)
theorem dX16_same_32 : decode cX16_same 32 = .ok (.aload_n 0, 1) := dk_42 (dk_at dksX16_same_1 10 rfl rfl)
theorem dX16_same_33 : decode cX16_same 33 = .ok (.getfield 181, 3) := dk_180 0 181 (dk_at dksX16_same_1 11 rfl rfl)
theorem dX16_same_36 : decode cX16_same 36 = .ok (.iload_n 2, 1) := dk_28 (dk_at dksX16_same_1 14 rfl rfl)
theorem dX16_same_37 : decode cX16_same 37 = .ok (.iaload, 1) := dk_46 (dk_at dksX16_same_1 15 rfl rfl)
theorem dX16_same_38 : decode cX16_same 38 = .ok (.if_icmp .eq 5, 3) := dk_159 0 5 (dk_at dksX16_same_1 16 rfl rfl)
theorem dX16_same_41 : decode cX16_same 41 = .ok (.iconst 0, 1) := dk_3 (dk_at dksX16_same_1 19 rfl rfl)
theorem dX16_same_42 : decode cX16_same 42 = .ok (.ireturn, 1) := dk_172 (dk_at dksX16_same_1 20 rfl rfl)
theorem dX16_same_43 : decode cX16_same 43 = .ok (.aload_n 0, 1) := dk_42 (dk_at dksX16_same_1 21 rfl rfl)
theorem dX16_same_44 : decode cX16_same 44 = .ok (.getfield 181, 3) := dk_180 0 181 (dk_at dksX16_same_2 0 rfl rfl)
theorem dX16_same_47 : decode cX16_same 47 = .ok (.iload_n 1, 1) := dk_27 (dk_at dksX16_same_2 3 rfl rfl)
theorem dX16_same_48 : decode cX16_same 48 = .ok (.iaload, 1) := dk_46 (dk_at dksX16_same_2 4 rfl rfl)
theorem dX16_same_49 : decode cX16_same 49 = .ok (.iconst 1, 1) := dk_4 (dk_at dksX16_same_2 5 rfl rfl)
theorem dX16_same_50 : decode cX16_same 50 = .ok (.if_icmp .ne 23, 3) := dk_160 0 23 (dk_at dksX16_same_2 6 rfl rfl)
theorem dX16_same_53 : decode cX16_same 53 = .ok (.aload_n 0, 1) := dk_42 (dk_at dksX16_same_2 9 rfl rfl)
theorem dX16_same_54 : decode cX16_same 54 = .ok (.getfield 184, 3) := dk_180 0 184 (dk_at dksX16_same_2 10 rfl rfl)
theorem dX16_same_57 : decode cX16_same 57 = .ok (.iload_n 1, 1) := dk_27 (dk_at dksX16_same_2 13 rfl rfl)
theorem dX16_same_58 : decode cX16_same 58 = .ok (.aaload, 1) := dk_50 (dk_at dksX16_same_2 14 rfl rfl)
theorem dX16_same_59 : decode cX16_same 59 = .ok (.aload_n 0, 1) := dk_42 (dk_at dksX16_same_2 15 rfl rfl)
theorem dX16_same_60 : decode cX16_same 60 = .ok (.getfield 184, 3) := dk_180 0 184 (dk_at dksX16_same_2 16 rfl rfl)
theorem dX16_same_63 : decode cX16_same 63 = .ok (.iload_n 2, 1) := dk_28 (dk_at dksX16_same_2 19 rfl rfl)
theorem dX16_same_64 : decode cX16_same 64 = .ok (.aaload, 1) := dk_50 (dk_at dksX16_same_2 20 rfl rfl)
theorem dX16_same_65 : decode cX16_same 65 = .ok (.invokevirtual 646, 3) := dk_182 2 134 (dk_at dksX16_same_2 21 rfl rfl)
theorem dX16_same_68 : decode cX16_same 68 = .ok (.istore 4, 2) := dk_54 4 (dk_at dksX16_same_3 0 rfl rfl)
theorem dX16_same_70 : decode cX16_same 70 = .ok (.goto 103, 3) := dk_167 0 103 (dk_at dksX16_same_3 2 rfl rfl)
theorem dX16_same_73 : decode cX16_same 73 = .ok (.aload_n 0, 1) := dk_42 (dk_at dksX16_same_3 5 rfl rfl)
theorem dX16_same_74 : decode cX16_same 74 = .ok (.getfield 181, 3) := dk_180 0 181 (dk_at dksX16_same_3 6 rfl rfl)
theorem dX16_same_77 : decode cX16_same 77 = .ok (.iload_n 1, 1) := dk_27 (dk_at dksX16_same_3 9 rfl rfl)
theorem dX16_same_78 : decode cX16_same 78 = .ok (.iaload, 1) := dk_46 (dk_at dksX16_same_3 10 rfl rfl)
theorem dX16_same_79 : decode cX16_same 79 = .ok (.iconst 3, 1) := dk_6 (dk_at dksX16_same_3 11 rfl rfl)
theorem dX16_same_80 : decode cX16_same 80 = .ok (.if_icmp .ne 46, 3) := dk_160 0 46 (dk_at dksX16_same_3 12 rfl rfl)
theorem dX16_same_83 : decode cX16_same 83 = .ok (.aload_n 0, 1) := dk_42 (dk_at dksX16_same_3 15 rfl rfl)
theorem dX16_same_84 : decode cX16_same 84 = .ok (.getfield 209, 3) := dk_180 0 209 (dk_at dksX16_same_3 16 rfl rfl)
theorem dX16_same_87 : decode cX16_same 87 = .ok (.iload_n 1, 1) := dk_27 (dk_at dksX16_same_3 19 rfl rfl)
theorem dX16_same_88 : decode cX16_same 88 = .ok (.iaload, 1) := dk_46 (dk_at dksX16_same_3 20 rfl rfl)
theorem dX16_same_89 : decode cX16_same 89 = .ok (.aload_n 0, 1) := dk_42 (dk_at dksX16_same_3 21 rfl rfl)
theorem dX16_same_90 : decode cX16_same 90 = .ok (.getfield 209, 3) := dk_180 0 209 (dk_at dksX16_same_4 0 rfl rfl)
theorem dX16_same_93 : decode cX16_same 93 = .ok (.iload_n 2, 1) := dk_28 (dk_at dksX16_same_4 3 rfl rfl)
theorem dX16_same_94 : decode cX16_same 94 = .ok (.iaload, 1) := dk_46 (dk_at dksX16_same_4 4 rfl rfl)
theorem dX16_same_95 : decode cX16_same 95 = .ok (.if_icmp .ne 25, 3) := dk_160 0 25 (dk_at dksX16_same_4 5 rfl rfl)
theorem dX16_same_98 : decode cX16_same 98 = .ok (.aload_n 0, 1) := dk_42 (dk_at dksX16_same_4 8 rfl rfl)
theorem dX16_same_99 : decode cX16_same 99 = .ok (.getfield 206, 3) := dk_180 0 206 (dk_at dksX16_same_4 9 rfl rfl)
theorem dX16_same_102 : decode cX16_same 102 = .ok (.iload_n 1, 1) := dk_27 (dk_at dksX16_same_4 12 rfl rfl)
theorem dX16_same_103 : decode cX16_same 103 = .ok (.aaload, 1) := dk_50 (dk_at dksX16_same_4 13 rfl rfl)
theorem dX16_same_104 : decode cX16_same 104 = .ok (.aload_n 0, 1) := dk_42 (dk_at dksX16_same_4 14 rfl rfl)
theorem dX16_same_105 : decode cX16_same 105 = .ok (.getfield 206, 3) := dk_180 0 206 (dk_at dksX16_same_4 15 rfl rfl)
theorem dX16_same_108 : decode cX16_same 108 = .ok (.iload_n 2, 1) := dk_28 (dk_at dksX16_same_4 18 rfl rfl)
theorem dX16_same_109 : decode cX16_same 109 = .ok (.aaload, 1) := dk_50 (dk_at dksX16_same_4 19 rfl rfl)
theorem dX16_same_110 : decode cX16_same 110 = .ok (.invokevirtual 649, 3) := dk_182 2 137 (dk_at dksX16_same_4 20 rfl rfl)
theorem dX16_same_113 : decode cX16_same 113 = .ok (.ifCond .eq 7, 3) := dk_153 0 7 (dk_at dksX16_same_5 0 rfl rfl)
theorem dX16_same_116 : decode cX16_same 116 = .ok (.iconst 1, 1) := dk_4 (dk_at dksX16_same_5 3 rfl rfl)
theorem dX16_same_117 : decode cX16_same 117 = .ok (.goto 4, 3) := dk_167 0 4 (dk_at dksX16_same_5 4 rfl rfl)
theorem dX16_same_120 : decode cX16_same 120 = .ok (.iconst 0, 1) := dk_3 (dk_at dksX16_same_5 7 rfl rfl)
theorem dX16_same_121 : decode cX16_same 121 = .ok (.istore 4, 2) := dk_54 4 (dk_at dksX16_same_5 8 rfl rfl)
theorem dX16_same_123 : decode cX16_same 123 = .ok (.goto 50, 3) := dk_167 0 50 (dk_at dksX16_same_5 10 rfl rfl)
theorem dX16_same_126 : decode cX16_same 126 = .ok (.aload_n 0, 1) := dk_42 (dk_at dksX16_same_5 13 rfl rfl)
theorem dX16_same_127 : decode cX16_same 127 = .ok (.getfield 188, 3) := dk_180 0 188 (dk_at dksX16_same_5 14 rfl rfl)
theorem dX16_same_130 : decode cX16_same 130 = .ok (.iload_n 1, 1) := dk_27 (dk_at dksX16_same_5 17 rfl rfl)
theorem dX16_same_131 : decode cX16_same 131 = .ok (.iaload, 1) := dk_46 (dk_at dksX16_same_5 18 rfl rfl)
theorem dX16_same_132 : decode cX16_same 132 = .ok (.aload_n 0, 1) := dk_42 (dk_at dksX16_same_5 19 rfl rfl)
theorem dX16_same_133 : decode cX16_same 133 = .ok (.getfield 188, 3) := dk_180 0 188 (dk_at dksX16_same_5 20 rfl rfl)
theorem dX16_same_136 : decode cX16_same 136 = .ok (.iload_n 2, 1) := dk_28 (dk_at dksX16_same_5 23 rfl rfl)
theorem dX16_same_137 : decode cX16_same 137 = .ok (.iaload, 1) := dk_46 (dk_at dksX16_same_6 0 rfl rfl)
theorem dX16_same_138 : decode cX16_same 138 = .ok (.if_icmp .ne 32, 3) := dk_160 0 32 (dk_at dksX16_same_6 1 rfl rfl)
theorem dX16_same_141 : decode cX16_same 141 = .ok (.aload_n 0, 1) := dk_42 (dk_at dksX16_same_6 4 rfl rfl)
theorem dX16_same_142 : decode cX16_same 142 = .ok (.getfield 181, 3) := dk_180 0 181 (dk_at dksX16_same_6 5 rfl rfl)
theorem dX16_same_145 : decode cX16_same 145 = .ok (.iload_n 1, 1) := dk_27 (dk_at dksX16_same_6 8 rfl rfl)
theorem dX16_same_146 : decode cX16_same 146 = .ok (.iaload, 1) := dk_46 (dk_at dksX16_same_6 9 rfl rfl)
theorem dX16_same_147 : decode cX16_same 147 = .ok (.iconst 4, 1) := dk_7 (dk_at dksX16_same_6 10 rfl rfl)
theorem dX16_same_148 : decode cX16_same 148 = .ok (.if_icmp .eq 18, 3) := dk_159 0 18 (dk_at dksX16_same_6 11 rfl rfl)
theorem dX16_same_151 : decode cX16_same 151 = .ok (.aload_n 0, 1) := dk_42 (dk_at dksX16_same_6 14 rfl rfl)
theorem dX16_same_152 : decode cX16_same 152 = .ok (.getfield 191, 3) := dk_180 0 191 (dk_at dksX16_same_6 15 rfl rfl)
theorem dX16_same_155 : decode cX16_same 155 = .ok (.iload_n 1, 1) := dk_27 (dk_at dksX16_same_6 18 rfl rfl)
theorem dX16_same_156 : decode cX16_same 156 = .ok (.iaload, 1) := dk_46 (dk_at dksX16_same_6 19 rfl rfl)
theorem dX16_same_157 : decode cX16_same 157 = .ok (.aload_n 0, 1) := dk_42 (dk_at dksX16_same_6 20 rfl rfl)
theorem dX16_same_158 : decode cX16_same 158 = .ok (.getfield 191, 3) := dk_180 0 191 (dk_at dksX16_same_6 21 rfl rfl)
theorem dX16_same_161 : decode cX16_same 161 = .ok (.iload_n 2, 1) := dk_28 (dk_at dksX16_same_7 0 rfl rfl)
theorem dX16_same_162 : decode cX16_same 162 = .ok (.iaload, 1) := dk_46 (dk_at dksX16_same_7 1 rfl rfl)
theorem dX16_same_163 : decode cX16_same 163 = .ok (.if_icmp .ne 7, 3) := dk_160 0 7 (dk_at dksX16_same_7 2 rfl rfl)
theorem dX16_same_166 : decode cX16_same 166 = .ok (.iconst 1, 1) := dk_4 (dk_at dksX16_same_7 5 rfl rfl)
theorem dX16_same_167 : decode cX16_same 167 = .ok (.goto 4, 3) := dk_167 0 4 (dk_at dksX16_same_7 6 rfl rfl)
theorem dX16_same_170 : decode cX16_same 170 = .ok (.iconst 0, 1) := dk_3 (dk_at dksX16_same_7 9 rfl rfl)
theorem dX16_same_171 : decode cX16_same 171 = .ok (.istore 4, 2) := dk_54 4 (dk_at dksX16_same_7 10 rfl rfl)
theorem dX16_same_173 : decode cX16_same 173 = .ok (.iload 4, 2) := dk_21 4 (dk_at dksX16_same_7 12 rfl rfl)
theorem dX16_same_175 : decode cX16_same 175 = .ok (.ifCond .eq 7, 3) := dk_153 0 7 (dk_at dksX16_same_7 14 rfl rfl)
theorem dX16_same_178 : decode cX16_same 178 = .ok (.iconst 1, 1) := dk_4 (dk_at dksX16_same_7 17 rfl rfl)
theorem dX16_same_179 : decode cX16_same 179 = .ok (.goto 4, 3) := dk_167 0 4 (dk_at dksX16_same_7 18 rfl rfl)
theorem dX16_same_182 : decode cX16_same 182 = .ok (.iconst 0, 1) := dk_3 (dk_at dksX16_same_7 21 rfl rfl)
theorem dX16_same_183 : decode cX16_same 183 = .ok (.ireturn, 1) := dk_172 (dk_at dksX16_same_7 22 rfl rfl)
abbrev cX16_kind : ByteArray := prog_21_method_92_code
def yX16_kind : MethodName := ⟨RX16, "kind", "(I)I"⟩
def dkwX16_kind_1 : List UInt8 := [46, 172]
abbrev dktX16_kind_1 : List UInt8 := dkwX16_kind_1 ++ []
def dkwX16_kind_0 : List UInt8 := [42, 27, 3, 182, 1, 164, 61, 28, 156, 0, 11, 42, 28, 182, 1, 151, 167, 0, 9, 42, 180, 0, 181, 27]
abbrev dktX16_kind_0 : List UInt8 := dkwX16_kind_0 ++ dktX16_kind_1
theorem dksX16_kind_0 : cX16_kind.data.toList.drop 0 = dktX16_kind_0 := by decide +kernel
theorem dksX16_kind_1 : cX16_kind.data.toList.drop 24 = dktX16_kind_1 := dk_seg dksX16_kind_0 24 rfl rfl
theorem dX16_kind_0 : decode cX16_kind 0 = .ok (.aload_n 0, 1) := dk_42 (dk_at dksX16_kind_0 0 rfl rfl)
theorem dX16_kind_1 : decode cX16_kind 1 = .ok (.iload_n 1, 1) := dk_27 (dk_at dksX16_kind_0 1 rfl rfl)
theorem dX16_kind_2 : decode cX16_kind 2 = .ok (.iconst 0, 1) := dk_3 (dk_at dksX16_kind_0 2 rfl rfl)
theorem dX16_kind_3 : decode cX16_kind 3 = .ok (.invokevirtual 420, 3) := dk_182 1 164 (dk_at dksX16_kind_0 3 rfl rfl)
theorem dX16_kind_6 : decode cX16_kind 6 = .ok (.istore_n 2, 1) := dk_61 (dk_at dksX16_kind_0 6 rfl rfl)
theorem dX16_kind_7 : decode cX16_kind 7 = .ok (.iload_n 2, 1) := dk_28 (dk_at dksX16_kind_0 7 rfl rfl)
theorem dX16_kind_8 : decode cX16_kind 8 = .ok (.ifCond .ge 11, 3) := dk_156 0 11 (dk_at dksX16_kind_0 8 rfl rfl)
theorem dX16_kind_11 : decode cX16_kind 11 = .ok (.aload_n 0, 1) := dk_42 (dk_at dksX16_kind_0 11 rfl rfl)
theorem dX16_kind_12 : decode cX16_kind 12 = .ok (.iload_n 2, 1) := dk_28 (dk_at dksX16_kind_0 12 rfl rfl)
theorem dX16_kind_13 : decode cX16_kind 13 = .ok (.invokevirtual 407, 3) := dk_182 1 151 (dk_at dksX16_kind_0 13 rfl rfl)
theorem dX16_kind_16 : decode cX16_kind 16 = .ok (.goto 9, 3) := dk_167 0 9 (dk_at dksX16_kind_0 16 rfl rfl)
theorem dX16_kind_19 : decode cX16_kind 19 = .ok (.aload_n 0, 1) := dk_42 (dk_at dksX16_kind_0 19 rfl rfl)
theorem dX16_kind_20 : decode cX16_kind 20 = .ok (.getfield 181, 3) := dk_180 0 181 (dk_at dksX16_kind_0 20 rfl rfl)
theorem dX16_kind_23 : decode cX16_kind 23 = .ok (.iload_n 1, 1) := dk_27 (dk_at dksX16_kind_0 23 rfl rfl)
theorem dX16_kind_24 : decode cX16_kind 24 = .ok (.iaload, 1) := dk_46 (dk_at dksX16_kind_1 0 rfl rfl)
theorem dX16_kind_25 : decode cX16_kind 25 = .ok (.ireturn, 1) := dk_172 (dk_at dksX16_kind_1 1 rfl rfl)
abbrev cX16_put_2 : ByteArray := prog_21_method_93_code
def yX16_put_2 : MethodName := ⟨RX16, "put", "(II)I"⟩
def dkwX16_put_2_7 : List UInt8 := [80, 132, 4, 1, 167, 255, 228, 42, 180, 0, 181, 28, 46, 172]
abbrev dktX16_put_2_7 : List UInt8 := dkwX16_put_2_7 ++ []
def dkwX16_put_2_6 : List UInt8 := [21, 4, 16, 8, 163, 0, 27, 42, 180, 0, 196, 28, 50, 21, 4, 42, 180, 0, 196, 27, 50, 21, 4, 47]
abbrev dktX16_put_2_6 : List UInt8 := dkwX16_put_2_6 ++ dktX16_put_2_7
def dkwX16_put_2_5 : List UInt8 := [28, 42, 180, 0, 209, 27, 46, 79, 42, 180, 0, 199, 28, 42, 180, 0, 199, 27, 46, 79, 3, 54, 4]
abbrev dktX16_put_2_5 : List UInt8 := dkwX16_put_2_5 ++ dktX16_put_2_6
def dkwX16_put_2_4 : List UInt8 := [46, 6, 160, 0, 76, 42, 180, 0, 206, 28, 50, 42, 180, 0, 206, 27, 50, 182, 0, 18, 42, 180, 0, 209]
abbrev dktX16_put_2_4 : List UInt8 := dkwX16_put_2_4 ++ dktX16_put_2_5
def dkwX16_put_2_3 : List UInt8 := [4, 160, 0, 18, 42, 180, 0, 184, 28, 50, 42, 180, 0, 184, 27, 50, 182, 1, 144, 42, 180, 0, 181, 27]
abbrev dktX16_put_2_3 : List UInt8 := dkwX16_put_2_3 ++ dktX16_put_2_4
def dkwX16_put_2_2 : List UInt8 := [180, 0, 188, 27, 46, 79, 42, 180, 0, 191, 28, 42, 180, 0, 191, 27, 46, 79, 42, 180, 0, 181, 27, 46]
abbrev dktX16_put_2_2 : List UInt8 := dkwX16_put_2_2 ++ dktX16_put_2_3
def dkwX16_put_2_1 : List UInt8 := [172, 27, 28, 159, 0, 147, 42, 180, 0, 181, 28, 42, 180, 0, 181, 27, 46, 79, 42, 180, 0, 188, 28, 42]
abbrev dktX16_put_2_1 : List UInt8 := dkwX16_put_2_1 ++ dktX16_put_2_2
def dkwX16_put_2_0 : List UInt8 := [42, 27, 3, 182, 1, 164, 42, 28, 182, 1, 161, 184, 1, 188, 62, 29, 156, 0, 9, 42, 29, 182, 1, 151]
abbrev dktX16_put_2_0 : List UInt8 := dkwX16_put_2_0 ++ dktX16_put_2_1
theorem dksX16_put_2_0 : cX16_put_2.data.toList.drop 0 = dktX16_put_2_0 := by decide +kernel
theorem dksX16_put_2_1 : cX16_put_2.data.toList.drop 24 = dktX16_put_2_1 := dk_seg dksX16_put_2_0 24 rfl rfl
theorem dksX16_put_2_2 : cX16_put_2.data.toList.drop 48 = dktX16_put_2_2 := dk_seg dksX16_put_2_1 24 rfl rfl
theorem dksX16_put_2_3 : cX16_put_2.data.toList.drop 72 = dktX16_put_2_3 := dk_seg dksX16_put_2_2 24 rfl rfl
theorem dksX16_put_2_4 : cX16_put_2.data.toList.drop 96 = dktX16_put_2_4 := dk_seg dksX16_put_2_3 24 rfl rfl
theorem dksX16_put_2_5 : cX16_put_2.data.toList.drop 120 = dktX16_put_2_5 := dk_seg dksX16_put_2_4 24 rfl rfl
theorem dksX16_put_2_6 : cX16_put_2.data.toList.drop 143 = dktX16_put_2_6 := dk_seg dksX16_put_2_5 23 rfl rfl
theorem dksX16_put_2_7 : cX16_put_2.data.toList.drop 167 = dktX16_put_2_7 := dk_seg dksX16_put_2_6 24 rfl rfl
theorem dX16_put_2_0 : decode cX16_put_2 0 = .ok (.aload_n 0, 1) := dk_42 (dk_at dksX16_put_2_0 0 rfl rfl)
theorem dX16_put_2_1 : decode cX16_put_2 1 = .ok (.iload_n 1, 1) := dk_27 (dk_at dksX16_put_2_0 1 rfl rfl)
theorem dX16_put_2_2 : decode cX16_put_2 2 = .ok (.iconst 0, 1) := dk_3 (dk_at dksX16_put_2_0 2 rfl rfl)
theorem dX16_put_2_3 : decode cX16_put_2 3 = .ok (.invokevirtual 420, 3) := dk_182 1 164 (dk_at dksX16_put_2_0 3 rfl rfl)
theorem dX16_put_2_6 : decode cX16_put_2 6 = .ok (.aload_n 0, 1) := dk_42 (dk_at dksX16_put_2_0 6 rfl rfl)
theorem dX16_put_2_7 : decode cX16_put_2 7 = .ok (.iload_n 2, 1) := dk_28 (dk_at dksX16_put_2_0 7 rfl rfl)
theorem dX16_put_2_8 : decode cX16_put_2 8 = .ok (.invokevirtual 417, 3) := dk_182 1 161 (dk_at dksX16_put_2_0 8 rfl rfl)
theorem dX16_put_2_11 : decode cX16_put_2 11 = .ok (.invokestatic 444, 3) := dk_184 1 188 (dk_at dksX16_put_2_0 11 rfl rfl)
theorem dX16_put_2_14 : decode cX16_put_2 14 = .ok (.istore_n 3, 1) := dk_62 (dk_at dksX16_put_2_0 14 rfl rfl)
theorem dX16_put_2_15 : decode cX16_put_2 15 = .ok (.iload_n 3, 1) := dk_29 (dk_at dksX16_put_2_0 15 rfl rfl)
theorem dX16_put_2_16 : decode cX16_put_2 16 = .ok (.ifCond .ge 9, 3) := dk_156 0 9 (dk_at dksX16_put_2_0 16 rfl rfl)
theorem dX16_put_2_19 : decode cX16_put_2 19 = .ok (.aload_n 0, 1) := dk_42 (dk_at dksX16_put_2_0 19 rfl rfl)
theorem dX16_put_2_20 : decode cX16_put_2 20 = .ok (.iload_n 3, 1) := dk_29 (dk_at dksX16_put_2_0 20 rfl rfl)
theorem dX16_put_2_21 : decode cX16_put_2 21 = .ok (.invokevirtual 407, 3) := dk_182 1 151 (dk_at dksX16_put_2_0 21 rfl rfl)
theorem dX16_put_2_24 : decode cX16_put_2 24 = .ok (.ireturn, 1) := dk_172 (dk_at dksX16_put_2_1 0 rfl rfl)
theorem dX16_put_2_25 : decode cX16_put_2 25 = .ok (.iload_n 1, 1) := dk_27 (dk_at dksX16_put_2_1 1 rfl rfl)
theorem dX16_put_2_26 : decode cX16_put_2 26 = .ok (.iload_n 2, 1) := dk_28 (dk_at dksX16_put_2_1 2 rfl rfl)
theorem dX16_put_2_27 : decode cX16_put_2 27 = .ok (.if_icmp .eq 147, 3) := dk_159 0 147 (dk_at dksX16_put_2_1 3 rfl rfl)
theorem dX16_put_2_30 : decode cX16_put_2 30 = .ok (.aload_n 0, 1) := dk_42 (dk_at dksX16_put_2_1 6 rfl rfl)
theorem dX16_put_2_31 : decode cX16_put_2 31 = .ok (.getfield 181, 3) := dk_180 0 181 (dk_at dksX16_put_2_1 7 rfl rfl)
theorem dX16_put_2_34 : decode cX16_put_2 34 = .ok (.iload_n 2, 1) := dk_28 (dk_at dksX16_put_2_1 10 rfl rfl)
theorem dX16_put_2_35 : decode cX16_put_2 35 = .ok (.aload_n 0, 1) := dk_42 (dk_at dksX16_put_2_1 11 rfl rfl)
theorem dX16_put_2_36 : decode cX16_put_2 36 = .ok (.getfield 181, 3) := dk_180 0 181 (dk_at dksX16_put_2_1 12 rfl rfl)
theorem dX16_put_2_39 : decode cX16_put_2 39 = .ok (.iload_n 1, 1) := dk_27 (dk_at dksX16_put_2_1 15 rfl rfl)
theorem dX16_put_2_40 : decode cX16_put_2 40 = .ok (.iaload, 1) := dk_46 (dk_at dksX16_put_2_1 16 rfl rfl)
theorem dX16_put_2_41 : decode cX16_put_2 41 = .ok (.iastore, 1) := dk_79 (dk_at dksX16_put_2_1 17 rfl rfl)
theorem dX16_put_2_42 : decode cX16_put_2 42 = .ok (.aload_n 0, 1) := dk_42 (dk_at dksX16_put_2_1 18 rfl rfl)
theorem dX16_put_2_43 : decode cX16_put_2 43 = .ok (.getfield 188, 3) := dk_180 0 188 (dk_at dksX16_put_2_1 19 rfl rfl)
theorem dX16_put_2_46 : decode cX16_put_2 46 = .ok (.iload_n 2, 1) := dk_28 (dk_at dksX16_put_2_1 22 rfl rfl)
theorem dX16_put_2_47 : decode cX16_put_2 47 = .ok (.aload_n 0, 1) := dk_42 (dk_at dksX16_put_2_1 23 rfl rfl)
theorem dX16_put_2_48 : decode cX16_put_2 48 = .ok (.getfield 188, 3) := dk_180 0 188 (dk_at dksX16_put_2_2 0 rfl rfl)
theorem dX16_put_2_51 : decode cX16_put_2 51 = .ok (.iload_n 1, 1) := dk_27 (dk_at dksX16_put_2_2 3 rfl rfl)
theorem dX16_put_2_52 : decode cX16_put_2 52 = .ok (.iaload, 1) := dk_46 (dk_at dksX16_put_2_2 4 rfl rfl)
theorem dX16_put_2_53 : decode cX16_put_2 53 = .ok (.iastore, 1) := dk_79 (dk_at dksX16_put_2_2 5 rfl rfl)
theorem dX16_put_2_54 : decode cX16_put_2 54 = .ok (.aload_n 0, 1) := dk_42 (dk_at dksX16_put_2_2 6 rfl rfl)
theorem dX16_put_2_55 : decode cX16_put_2 55 = .ok (.getfield 191, 3) := dk_180 0 191 (dk_at dksX16_put_2_2 7 rfl rfl)
theorem dX16_put_2_58 : decode cX16_put_2 58 = .ok (.iload_n 2, 1) := dk_28 (dk_at dksX16_put_2_2 10 rfl rfl)
theorem dX16_put_2_59 : decode cX16_put_2 59 = .ok (.aload_n 0, 1) := dk_42 (dk_at dksX16_put_2_2 11 rfl rfl)
theorem dX16_put_2_60 : decode cX16_put_2 60 = .ok (.getfield 191, 3) := dk_180 0 191 (dk_at dksX16_put_2_2 12 rfl rfl)
theorem dX16_put_2_63 : decode cX16_put_2 63 = .ok (.iload_n 1, 1) := dk_27 (dk_at dksX16_put_2_2 15 rfl rfl)
theorem dX16_put_2_64 : decode cX16_put_2 64 = .ok (.iaload, 1) := dk_46 (dk_at dksX16_put_2_2 16 rfl rfl)
theorem dX16_put_2_65 : decode cX16_put_2 65 = .ok (.iastore, 1) := dk_79 (dk_at dksX16_put_2_2 17 rfl rfl)
theorem dX16_put_2_66 : decode cX16_put_2 66 = .ok (.aload_n 0, 1) := dk_42 (dk_at dksX16_put_2_2 18 rfl rfl)
theorem dX16_put_2_67 : decode cX16_put_2 67 = .ok (.getfield 181, 3) := dk_180 0 181 (dk_at dksX16_put_2_2 19 rfl rfl)
theorem dX16_put_2_70 : decode cX16_put_2 70 = .ok (.iload_n 1, 1) := dk_27 (dk_at dksX16_put_2_2 22 rfl rfl)
theorem dX16_put_2_71 : decode cX16_put_2 71 = .ok (.iaload, 1) := dk_46 (dk_at dksX16_put_2_2 23 rfl rfl)
theorem dX16_put_2_72 : decode cX16_put_2 72 = .ok (.iconst 1, 1) := dk_4 (dk_at dksX16_put_2_3 0 rfl rfl)
theorem dX16_put_2_73 : decode cX16_put_2 73 = .ok (.if_icmp .ne 18, 3) := dk_160 0 18 (dk_at dksX16_put_2_3 1 rfl rfl)
theorem dX16_put_2_76 : decode cX16_put_2 76 = .ok (.aload_n 0, 1) := dk_42 (dk_at dksX16_put_2_3 4 rfl rfl)
theorem dX16_put_2_77 : decode cX16_put_2 77 = .ok (.getfield 184, 3) := dk_180 0 184 (dk_at dksX16_put_2_3 5 rfl rfl)
theorem dX16_put_2_80 : decode cX16_put_2 80 = .ok (.iload_n 2, 1) := dk_28 (dk_at dksX16_put_2_3 8 rfl rfl)
theorem dX16_put_2_81 : decode cX16_put_2 81 = .ok (.aaload, 1) := dk_50 (dk_at dksX16_put_2_3 9 rfl rfl)
theorem dX16_put_2_82 : decode cX16_put_2 82 = .ok (.aload_n 0, 1) := dk_42 (dk_at dksX16_put_2_3 10 rfl rfl)
theorem dX16_put_2_83 : decode cX16_put_2 83 = .ok (.getfield 184, 3) := dk_180 0 184 (dk_at dksX16_put_2_3 11 rfl rfl)
theorem dX16_put_2_86 : decode cX16_put_2 86 = .ok (.iload_n 1, 1) := dk_27 (dk_at dksX16_put_2_3 14 rfl rfl)
theorem dX16_put_2_87 : decode cX16_put_2 87 = .ok (.aaload, 1) := dk_50 (dk_at dksX16_put_2_3 15 rfl rfl)
theorem dX16_put_2_88 : decode cX16_put_2 88 = .ok (.invokevirtual 400, 3) := dk_182 1 144 (dk_at dksX16_put_2_3 16 rfl rfl)
theorem dX16_put_2_91 : decode cX16_put_2 91 = .ok (.aload_n 0, 1) := dk_42 (dk_at dksX16_put_2_3 19 rfl rfl)
theorem dX16_put_2_92 : decode cX16_put_2 92 = .ok (.getfield 181, 3) := dk_180 0 181 (dk_at dksX16_put_2_3 20 rfl rfl)
theorem dX16_put_2_95 : decode cX16_put_2 95 = .ok (.iload_n 1, 1) := dk_27 (dk_at dksX16_put_2_3 23 rfl rfl)
theorem dX16_put_2_96 : decode cX16_put_2 96 = .ok (.iaload, 1) := dk_46 (dk_at dksX16_put_2_4 0 rfl rfl)
theorem dX16_put_2_97 : decode cX16_put_2 97 = .ok (.iconst 3, 1) := dk_6 (dk_at dksX16_put_2_4 1 rfl rfl)
theorem dX16_put_2_98 : decode cX16_put_2 98 = .ok (.if_icmp .ne 76, 3) := dk_160 0 76 (dk_at dksX16_put_2_4 2 rfl rfl)
theorem dX16_put_2_101 : decode cX16_put_2 101 = .ok (.aload_n 0, 1) := dk_42 (dk_at dksX16_put_2_4 5 rfl rfl)
theorem dX16_put_2_102 : decode cX16_put_2 102 = .ok (.getfield 206, 3) := dk_180 0 206 (dk_at dksX16_put_2_4 6 rfl rfl)
theorem dX16_put_2_105 : decode cX16_put_2 105 = .ok (.iload_n 2, 1) := dk_28 (dk_at dksX16_put_2_4 9 rfl rfl)
theorem dX16_put_2_106 : decode cX16_put_2 106 = .ok (.aaload, 1) := dk_50 (dk_at dksX16_put_2_4 10 rfl rfl)
theorem dX16_put_2_107 : decode cX16_put_2 107 = .ok (.aload_n 0, 1) := dk_42 (dk_at dksX16_put_2_4 11 rfl rfl)
theorem dX16_put_2_108 : decode cX16_put_2 108 = .ok (.getfield 206, 3) := dk_180 0 206 (dk_at dksX16_put_2_4 12 rfl rfl)
theorem dX16_put_2_111 : decode cX16_put_2 111 = .ok (.iload_n 1, 1) := dk_27 (dk_at dksX16_put_2_4 15 rfl rfl)
theorem dX16_put_2_112 : decode cX16_put_2 112 = .ok (.aaload, 1) := dk_50 (dk_at dksX16_put_2_4 16 rfl rfl)
theorem dX16_put_2_113 : decode cX16_put_2 113 = .ok (.invokevirtual 18, 3) := dk_182 0 18 (dk_at dksX16_put_2_4 17 rfl rfl)
theorem dX16_put_2_116 : decode cX16_put_2 116 = .ok (.aload_n 0, 1) := dk_42 (dk_at dksX16_put_2_4 20 rfl rfl)
theorem dX16_put_2_117 : decode cX16_put_2 117 = .ok (.getfield 209, 3) := dk_180 0 209 (dk_at dksX16_put_2_4 21 rfl rfl)
theorem dX16_put_2_120 : decode cX16_put_2 120 = .ok (.iload_n 2, 1) := dk_28 (dk_at dksX16_put_2_5 0 rfl rfl)
theorem dX16_put_2_121 : decode cX16_put_2 121 = .ok (.aload_n 0, 1) := dk_42 (dk_at dksX16_put_2_5 1 rfl rfl)
theorem dX16_put_2_122 : decode cX16_put_2 122 = .ok (.getfield 209, 3) := dk_180 0 209 (dk_at dksX16_put_2_5 2 rfl rfl)
theorem dX16_put_2_125 : decode cX16_put_2 125 = .ok (.iload_n 1, 1) := dk_27 (dk_at dksX16_put_2_5 5 rfl rfl)
theorem dX16_put_2_126 : decode cX16_put_2 126 = .ok (.iaload, 1) := dk_46 (dk_at dksX16_put_2_5 6 rfl rfl)
theorem dX16_put_2_127 : decode cX16_put_2 127 = .ok (.iastore, 1) := dk_79 (dk_at dksX16_put_2_5 7 rfl rfl)
theorem dX16_put_2_128 : decode cX16_put_2 128 = .ok (.aload_n 0, 1) := dk_42 (dk_at dksX16_put_2_5 8 rfl rfl)
theorem dX16_put_2_129 : decode cX16_put_2 129 = .ok (.getfield 199, 3) := dk_180 0 199 (dk_at dksX16_put_2_5 9 rfl rfl)
theorem dX16_put_2_132 : decode cX16_put_2 132 = .ok (.iload_n 2, 1) := dk_28 (dk_at dksX16_put_2_5 12 rfl rfl)
theorem dX16_put_2_133 : decode cX16_put_2 133 = .ok (.aload_n 0, 1) := dk_42 (dk_at dksX16_put_2_5 13 rfl rfl)
theorem dX16_put_2_134 : decode cX16_put_2 134 = .ok (.getfield 199, 3) := dk_180 0 199 (dk_at dksX16_put_2_5 14 rfl rfl)
theorem dX16_put_2_137 : decode cX16_put_2 137 = .ok (.iload_n 1, 1) := dk_27 (dk_at dksX16_put_2_5 17 rfl rfl)
theorem dX16_put_2_138 : decode cX16_put_2 138 = .ok (.iaload, 1) := dk_46 (dk_at dksX16_put_2_5 18 rfl rfl)
theorem dX16_put_2_139 : decode cX16_put_2 139 = .ok (.iastore, 1) := dk_79 (dk_at dksX16_put_2_5 19 rfl rfl)
theorem dX16_put_2_140 : decode cX16_put_2 140 = .ok (.iconst 0, 1) := dk_3 (dk_at dksX16_put_2_5 20 rfl rfl)
theorem dX16_put_2_141 : decode cX16_put_2 141 = .ok (.istore 4, 2) := dk_54 4 (dk_at dksX16_put_2_5 21 rfl rfl)
theorem dX16_put_2_143 : decode cX16_put_2 143 = .ok (.iload 4, 2) := dk_21 4 (dk_at dksX16_put_2_6 0 rfl rfl)
theorem dX16_put_2_145 : decode cX16_put_2 145 = .ok (.bipush 8, 2) := dk_16 8 (dk_at dksX16_put_2_6 2 rfl rfl)
theorem dX16_put_2_147 : decode cX16_put_2 147 = .ok (.if_icmp .gt 27, 3) := dk_163 0 27 (dk_at dksX16_put_2_6 4 rfl rfl)
theorem dX16_put_2_150 : decode cX16_put_2 150 = .ok (.aload_n 0, 1) := dk_42 (dk_at dksX16_put_2_6 7 rfl rfl)
theorem dX16_put_2_151 : decode cX16_put_2 151 = .ok (.getfield 196, 3) := dk_180 0 196 (dk_at dksX16_put_2_6 8 rfl rfl)
theorem dX16_put_2_154 : decode cX16_put_2 154 = .ok (.iload_n 2, 1) := dk_28 (dk_at dksX16_put_2_6 11 rfl rfl)
theorem dX16_put_2_155 : decode cX16_put_2 155 = .ok (.aaload, 1) := dk_50 (dk_at dksX16_put_2_6 12 rfl rfl)
theorem dX16_put_2_156 : decode cX16_put_2 156 = .ok (.iload 4, 2) := dk_21 4 (dk_at dksX16_put_2_6 13 rfl rfl)
theorem dX16_put_2_158 : decode cX16_put_2 158 = .ok (.aload_n 0, 1) := dk_42 (dk_at dksX16_put_2_6 15 rfl rfl)
theorem dX16_put_2_159 : decode cX16_put_2 159 = .ok (.getfield 196, 3) := dk_180 0 196 (dk_at dksX16_put_2_6 16 rfl rfl)
theorem dX16_put_2_162 : decode cX16_put_2 162 = .ok (.iload_n 1, 1) := dk_27 (dk_at dksX16_put_2_6 19 rfl rfl)
theorem dX16_put_2_163 : decode cX16_put_2 163 = .ok (.aaload, 1) := dk_50 (dk_at dksX16_put_2_6 20 rfl rfl)
theorem dX16_put_2_164 : decode cX16_put_2 164 = .ok (.iload 4, 2) := dk_21 4 (dk_at dksX16_put_2_6 21 rfl rfl)
theorem dX16_put_2_166 : decode cX16_put_2 166 = .ok (.laload, 1) := dk_47 (dk_at dksX16_put_2_6 23 rfl rfl)
theorem dX16_put_2_167 : decode cX16_put_2 167 = .ok (.lastore, 1) := dk_80 (dk_at dksX16_put_2_7 0 rfl rfl)
theorem dX16_put_2_168 : decode cX16_put_2 168 = .ok (.iinc 4 1, 3) := dk_132 4 1 (dk_at dksX16_put_2_7 1 rfl rfl)
theorem dX16_put_2_171 : decode cX16_put_2 171 = .ok (.goto (-28), 3) := dk_167 255 228 (dk_at dksX16_put_2_7 4 rfl rfl)
theorem dX16_put_2_174 : decode cX16_put_2 174 = .ok (.aload_n 0, 1) := dk_42 (dk_at dksX16_put_2_7 7 rfl rfl)
theorem dX16_put_2_175 : decode cX16_put_2 175 = .ok (.getfield 181, 3) := dk_180 0 181 (dk_at dksX16_put_2_7 8 rfl rfl)
theorem dX16_put_2_178 : decode cX16_put_2 178 = .ok (.iload_n 2, 1) := dk_28 (dk_at dksX16_put_2_7 11 rfl rfl)
theorem dX16_put_2_179 : decode cX16_put_2 179 = .ok (.iaload, 1) := dk_46 (dk_at dksX16_put_2_7 12 rfl rfl)
theorem dX16_put_2_180 : decode cX16_put_2 180 = .ok (.ireturn, 1) := dk_172 (dk_at dksX16_put_2_7 13 rfl rfl)
abbrev cX16_gone : ByteArray := prog_21_method_94_code
def yX16_gone : MethodName := ⟨RX16, "gone", "(I)I"⟩
def dkwX16_gone_0 : List UInt8 := [42, 27, 182, 1, 161, 156, 0, 9, 42, 2, 182, 1, 151, 172, 42, 180, 0, 181, 27, 3, 79, 3, 172]
abbrev dktX16_gone_0 : List UInt8 := dkwX16_gone_0 ++ []
theorem dksX16_gone_0 : cX16_gone.data.toList.drop 0 = dktX16_gone_0 := by decide +kernel
theorem dX16_gone_0 : decode cX16_gone 0 = .ok (.aload_n 0, 1) := dk_42 (dk_at dksX16_gone_0 0 rfl rfl)
theorem dX16_gone_1 : decode cX16_gone 1 = .ok (.iload_n 1, 1) := dk_27 (dk_at dksX16_gone_0 1 rfl rfl)
theorem dX16_gone_2 : decode cX16_gone 2 = .ok (.invokevirtual 417, 3) := dk_182 1 161 (dk_at dksX16_gone_0 2 rfl rfl)
theorem dX16_gone_5 : decode cX16_gone 5 = .ok (.ifCond .ge 9, 3) := dk_156 0 9 (dk_at dksX16_gone_0 5 rfl rfl)
theorem dX16_gone_8 : decode cX16_gone 8 = .ok (.aload_n 0, 1) := dk_42 (dk_at dksX16_gone_0 8 rfl rfl)
theorem dX16_gone_9 : decode cX16_gone 9 = .ok (.iconst (-1), 1) := dk_2 (dk_at dksX16_gone_0 9 rfl rfl)
theorem dX16_gone_10 : decode cX16_gone 10 = .ok (.invokevirtual 407, 3) := dk_182 1 151 (dk_at dksX16_gone_0 10 rfl rfl)
theorem dX16_gone_13 : decode cX16_gone 13 = .ok (.ireturn, 1) := dk_172 (dk_at dksX16_gone_0 13 rfl rfl)
theorem dX16_gone_14 : decode cX16_gone 14 = .ok (.aload_n 0, 1) := dk_42 (dk_at dksX16_gone_0 14 rfl rfl)
theorem dX16_gone_15 : decode cX16_gone 15 = .ok (.getfield 181, 3) := dk_180 0 181 (dk_at dksX16_gone_0 15 rfl rfl)
theorem dX16_gone_18 : decode cX16_gone 18 = .ok (.iload_n 1, 1) := dk_27 (dk_at dksX16_gone_0 18 rfl rfl)
theorem dX16_gone_19 : decode cX16_gone 19 = .ok (.iconst 0, 1) := dk_3 (dk_at dksX16_gone_0 19 rfl rfl)
theorem dX16_gone_20 : decode cX16_gone 20 = .ok (.iastore, 1) := dk_79 (dk_at dksX16_gone_0 20 rfl rfl)
theorem dX16_gone_21 : decode cX16_gone 21 = .ok (.iconst 0, 1) := dk_3 (dk_at dksX16_gone_0 21 rfl rfl)
theorem dX16_gone_22 : decode cX16_gone 22 = .ok (.ireturn, 1) := dk_172 (dk_at dksX16_gone_0 22 rfl rfl)
abbrev cX16_keep : ByteArray := prog_21_method_95_code
def yX16_keep : MethodName := ⟨RX16, "keep", "(I)I"⟩
def dkwX16_keep_2 : List UInt8 := [180, 1, 137, 79, 42, 180, 0, 191, 27, 3, 79, 42, 180, 1, 137, 116, 172]
abbrev dktX16_keep_2 : List UInt8 := dkwX16_keep_2 ++ []
def dkwX16_keep_1 : List UInt8 := [167, 0, 5, 16, 249, 182, 1, 151, 172, 42, 180, 0, 181, 27, 7, 79, 42, 180, 0, 188, 27, 42]
abbrev dktX16_keep_1 : List UInt8 := dkwX16_keep_1 ++ dktX16_keep_2
def dkwX16_keep_0 : List UInt8 := [42, 27, 182, 1, 161, 61, 28, 155, 0, 10, 42, 180, 1, 137, 154, 0, 18, 42, 28, 156, 0, 7, 28]
abbrev dktX16_keep_0 : List UInt8 := dkwX16_keep_0 ++ dktX16_keep_1
theorem dksX16_keep_0 : cX16_keep.data.toList.drop 0 = dktX16_keep_0 := by decide +kernel
theorem dksX16_keep_1 : cX16_keep.data.toList.drop 23 = dktX16_keep_1 := dk_seg dksX16_keep_0 23 rfl rfl
theorem dksX16_keep_2 : cX16_keep.data.toList.drop 45 = dktX16_keep_2 := dk_seg dksX16_keep_1 22 rfl rfl
theorem dX16_keep_0 : decode cX16_keep 0 = .ok (.aload_n 0, 1) := dk_42 (dk_at dksX16_keep_0 0 rfl rfl)
theorem dX16_keep_1 : decode cX16_keep 1 = .ok (.iload_n 1, 1) := dk_27 (dk_at dksX16_keep_0 1 rfl rfl)
theorem dX16_keep_2 : decode cX16_keep 2 = .ok (.invokevirtual 417, 3) := dk_182 1 161 (dk_at dksX16_keep_0 2 rfl rfl)
theorem dX16_keep_5 : decode cX16_keep 5 = .ok (.istore_n 2, 1) := dk_61 (dk_at dksX16_keep_0 5 rfl rfl)
theorem dX16_keep_6 : decode cX16_keep 6 = .ok (.iload_n 2, 1) := dk_28 (dk_at dksX16_keep_0 6 rfl rfl)
theorem dX16_keep_7 : decode cX16_keep 7 = .ok (.ifCond .lt 10, 3) := dk_155 0 10 (dk_at dksX16_keep_0 7 rfl rfl)
theorem dX16_keep_10 : decode cX16_keep 10 = .ok (.aload_n 0, 1) := dk_42 (dk_at dksX16_keep_0 10 rfl rfl)
theorem dX16_keep_11 : decode cX16_keep 11 = .ok (.getfield 393, 3) := dk_180 1 137 (dk_at dksX16_keep_0 11 rfl rfl)
theorem dX16_keep_14 : decode cX16_keep 14 = .ok (.ifCond .ne 18, 3) := dk_154 0 18 (dk_at dksX16_keep_0 14 rfl rfl)
theorem dX16_keep_17 : decode cX16_keep 17 = .ok (.aload_n 0, 1) := dk_42 (dk_at dksX16_keep_0 17 rfl rfl)
theorem dX16_keep_18 : decode cX16_keep 18 = .ok (.iload_n 2, 1) := dk_28 (dk_at dksX16_keep_0 18 rfl rfl)
theorem dX16_keep_19 : decode cX16_keep 19 = .ok (.ifCond .ge 7, 3) := dk_156 0 7 (dk_at dksX16_keep_0 19 rfl rfl)
theorem dX16_keep_22 : decode cX16_keep 22 = .ok (.iload_n 2, 1) := dk_28 (dk_at dksX16_keep_0 22 rfl rfl)
theorem dX16_keep_23 : decode cX16_keep 23 = .ok (.goto 5, 3) := dk_167 0 5 (dk_at dksX16_keep_1 0 rfl rfl)
theorem dX16_keep_26 : decode cX16_keep 26 = .ok (.bipush (-7), 2) := dk_16 249 (dk_at dksX16_keep_1 3 rfl rfl)
theorem dX16_keep_28 : decode cX16_keep 28 = .ok (.invokevirtual 407, 3) := dk_182 1 151 (dk_at dksX16_keep_1 5 rfl rfl)
theorem dX16_keep_31 : decode cX16_keep 31 = .ok (.ireturn, 1) := dk_172 (dk_at dksX16_keep_1 8 rfl rfl)
theorem dX16_keep_32 : decode cX16_keep 32 = .ok (.aload_n 0, 1) := dk_42 (dk_at dksX16_keep_1 9 rfl rfl)
theorem dX16_keep_33 : decode cX16_keep 33 = .ok (.getfield 181, 3) := dk_180 0 181 (dk_at dksX16_keep_1 10 rfl rfl)
theorem dX16_keep_36 : decode cX16_keep 36 = .ok (.iload_n 1, 1) := dk_27 (dk_at dksX16_keep_1 13 rfl rfl)
theorem dX16_keep_37 : decode cX16_keep 37 = .ok (.iconst 4, 1) := dk_7 (dk_at dksX16_keep_1 14 rfl rfl)
theorem dX16_keep_38 : decode cX16_keep 38 = .ok (.iastore, 1) := dk_79 (dk_at dksX16_keep_1 15 rfl rfl)
theorem dX16_keep_39 : decode cX16_keep 39 = .ok (.aload_n 0, 1) := dk_42 (dk_at dksX16_keep_1 16 rfl rfl)
theorem dX16_keep_40 : decode cX16_keep 40 = .ok (.getfield 188, 3) := dk_180 0 188 (dk_at dksX16_keep_1 17 rfl rfl)
theorem dX16_keep_43 : decode cX16_keep 43 = .ok (.iload_n 1, 1) := dk_27 (dk_at dksX16_keep_1 20 rfl rfl)
theorem dX16_keep_44 : decode cX16_keep 44 = .ok (.aload_n 0, 1) := dk_42 (dk_at dksX16_keep_1 21 rfl rfl)
theorem dX16_keep_45 : decode cX16_keep 45 = .ok (.getfield 393, 3) := dk_180 1 137 (dk_at dksX16_keep_2 0 rfl rfl)
theorem dX16_keep_48 : decode cX16_keep 48 = .ok (.iastore, 1) := dk_79 (dk_at dksX16_keep_2 3 rfl rfl)
theorem dX16_keep_49 : decode cX16_keep 49 = .ok (.aload_n 0, 1) := dk_42 (dk_at dksX16_keep_2 4 rfl rfl)
theorem dX16_keep_50 : decode cX16_keep 50 = .ok (.getfield 191, 3) := dk_180 0 191 (dk_at dksX16_keep_2 5 rfl rfl)
theorem dX16_keep_53 : decode cX16_keep 53 = .ok (.iload_n 1, 1) := dk_27 (dk_at dksX16_keep_2 8 rfl rfl)
theorem dX16_keep_54 : decode cX16_keep 54 = .ok (.iconst 0, 1) := dk_3 (dk_at dksX16_keep_2 9 rfl rfl)
theorem dX16_keep_55 : decode cX16_keep 55 = .ok (.iastore, 1) := dk_79 (dk_at dksX16_keep_2 10 rfl rfl)
theorem dX16_keep_56 : decode cX16_keep 56 = .ok (.aload_n 0, 1) := dk_42 (dk_at dksX16_keep_2 11 rfl rfl)
theorem dX16_keep_57 : decode cX16_keep 57 = .ok (.getfield 393, 3) := dk_180 1 137 (dk_at dksX16_keep_2 12 rfl rfl)
theorem dX16_keep_60 : decode cX16_keep 60 = .ok (.ineg, 1) := dk_116 (dk_at dksX16_keep_2 15 rfl rfl)
theorem dX16_keep_61 : decode cX16_keep 61 = .ok (.ireturn, 1) := dk_172 (dk_at dksX16_keep_2 16 rfl rfl)
abbrev cX16_raise : ByteArray := prog_21_method_96_code
def yX16_raise : MethodName := ⟨RX16, "raise", "(I)I"⟩
def dkwX16_raise_1 : List UInt8 := [46, 116, 172]
abbrev dktX16_raise_1 : List UInt8 := dkwX16_raise_1 ++ []
def dkwX16_raise_0 : List UInt8 := [42, 27, 7, 182, 1, 164, 61, 28, 156, 0, 11, 42, 28, 182, 1, 151, 167, 0, 10, 42, 180, 0, 188, 27]
abbrev dktX16_raise_0 : List UInt8 := dkwX16_raise_0 ++ dktX16_raise_1
theorem dksX16_raise_0 : cX16_raise.data.toList.drop 0 = dktX16_raise_0 := by decide +kernel
theorem dksX16_raise_1 : cX16_raise.data.toList.drop 24 = dktX16_raise_1 := dk_seg dksX16_raise_0 24 rfl rfl
theorem dX16_raise_0 : decode cX16_raise 0 = .ok (.aload_n 0, 1) := dk_42 (dk_at dksX16_raise_0 0 rfl rfl)
theorem dX16_raise_1 : decode cX16_raise 1 = .ok (.iload_n 1, 1) := dk_27 (dk_at dksX16_raise_0 1 rfl rfl)
theorem dX16_raise_2 : decode cX16_raise 2 = .ok (.iconst 4, 1) := dk_7 (dk_at dksX16_raise_0 2 rfl rfl)
theorem dX16_raise_3 : decode cX16_raise 3 = .ok (.invokevirtual 420, 3) := dk_182 1 164 (dk_at dksX16_raise_0 3 rfl rfl)
theorem dX16_raise_6 : decode cX16_raise 6 = .ok (.istore_n 2, 1) := dk_61 (dk_at dksX16_raise_0 6 rfl rfl)
theorem dX16_raise_7 : decode cX16_raise 7 = .ok (.iload_n 2, 1) := dk_28 (dk_at dksX16_raise_0 7 rfl rfl)
theorem dX16_raise_8 : decode cX16_raise 8 = .ok (.ifCond .ge 11, 3) := dk_156 0 11 (dk_at dksX16_raise_0 8 rfl rfl)
theorem dX16_raise_11 : decode cX16_raise 11 = .ok (.aload_n 0, 1) := dk_42 (dk_at dksX16_raise_0 11 rfl rfl)
theorem dX16_raise_12 : decode cX16_raise 12 = .ok (.iload_n 2, 1) := dk_28 (dk_at dksX16_raise_0 12 rfl rfl)
theorem dX16_raise_13 : decode cX16_raise 13 = .ok (.invokevirtual 407, 3) := dk_182 1 151 (dk_at dksX16_raise_0 13 rfl rfl)
theorem dX16_raise_16 : decode cX16_raise 16 = .ok (.goto 10, 3) := dk_167 0 10 (dk_at dksX16_raise_0 16 rfl rfl)
theorem dX16_raise_19 : decode cX16_raise 19 = .ok (.aload_n 0, 1) := dk_42 (dk_at dksX16_raise_0 19 rfl rfl)
theorem dX16_raise_20 : decode cX16_raise 20 = .ok (.getfield 188, 3) := dk_180 0 188 (dk_at dksX16_raise_0 20 rfl rfl)
theorem dX16_raise_23 : decode cX16_raise 23 = .ok (.iload_n 1, 1) := dk_27 (dk_at dksX16_raise_0 23 rfl rfl)
theorem dX16_raise_24 : decode cX16_raise 24 = .ok (.iaload, 1) := dk_46 (dk_at dksX16_raise_1 0 rfl rfl)
theorem dX16_raise_25 : decode cX16_raise 25 = .ok (.ineg, 1) := dk_116 (dk_at dksX16_raise_1 1 rfl rfl)
theorem dX16_raise_26 : decode cX16_raise 26 = .ok (.ireturn, 1) := dk_172 (dk_at dksX16_raise_1 2 rfl rfl)
abbrev cX16_found : ByteArray := prog_21_method_97_code
def yX16_found : MethodName := ⟨RX16, "found", "(I)I"⟩
def dkwX16_found_1 : List UInt8 := [182, 1, 151, 172]
abbrev dktX16_found_1 : List UInt8 := dkwX16_found_1 ++ []
def dkwX16_found_0 : List UInt8 := [27, 156, 0, 19, 27, 16, 249, 161, 0, 13, 42, 180, 0, 212, 27, 116, 46, 167, 0, 9, 42, 16, 249]
abbrev dktX16_found_0 : List UInt8 := dkwX16_found_0 ++ dktX16_found_1
theorem dksX16_found_0 : cX16_found.data.toList.drop 0 = dktX16_found_0 := by decide +kernel
theorem dksX16_found_1 : cX16_found.data.toList.drop 23 = dktX16_found_1 := dk_seg dksX16_found_0 23 rfl rfl
theorem dX16_found_0 : decode cX16_found 0 = .ok (.iload_n 1, 1) := dk_27 (dk_at dksX16_found_0 0 rfl rfl)
theorem dX16_found_1 : decode cX16_found 1 = .ok (.ifCond .ge 19, 3) := dk_156 0 19 (dk_at dksX16_found_0 1 rfl rfl)
theorem dX16_found_4 : decode cX16_found 4 = .ok (.iload_n 1, 1) := dk_27 (dk_at dksX16_found_0 4 rfl rfl)
theorem dX16_found_5 : decode cX16_found 5 = .ok (.bipush (-7), 2) := dk_16 249 (dk_at dksX16_found_0 5 rfl rfl)
theorem dX16_found_7 : decode cX16_found 7 = .ok (.if_icmp .lt 13, 3) := dk_161 0 13 (dk_at dksX16_found_0 7 rfl rfl)
theorem dX16_found_10 : decode cX16_found 10 = .ok (.aload_n 0, 1) := dk_42 (dk_at dksX16_found_0 10 rfl rfl)
theorem dX16_found_11 : decode cX16_found 11 = .ok (.getfield 212, 3) := dk_180 0 212 (dk_at dksX16_found_0 11 rfl rfl)
theorem dX16_found_14 : decode cX16_found 14 = .ok (.iload_n 1, 1) := dk_27 (dk_at dksX16_found_0 14 rfl rfl)
theorem dX16_found_15 : decode cX16_found 15 = .ok (.ineg, 1) := dk_116 (dk_at dksX16_found_0 15 rfl rfl)
theorem dX16_found_16 : decode cX16_found 16 = .ok (.iaload, 1) := dk_46 (dk_at dksX16_found_0 16 rfl rfl)
theorem dX16_found_17 : decode cX16_found 17 = .ok (.goto 9, 3) := dk_167 0 9 (dk_at dksX16_found_0 17 rfl rfl)
theorem dX16_found_20 : decode cX16_found 20 = .ok (.aload_n 0, 1) := dk_42 (dk_at dksX16_found_0 20 rfl rfl)
theorem dX16_found_21 : decode cX16_found 21 = .ok (.bipush (-7), 2) := dk_16 249 (dk_at dksX16_found_0 21 rfl rfl)
theorem dX16_found_23 : decode cX16_found 23 = .ok (.invokevirtual 407, 3) := dk_182 1 151 (dk_at dksX16_found_1 0 rfl rfl)
theorem dX16_found_26 : decode cX16_found 26 = .ok (.ireturn, 1) := dk_172 (dk_at dksX16_found_1 3 rfl rfl)
theorem q118 : (Jvm.Cond.initialized "IdealCourtModel") ∈ lw_all := lw_g (lw_at lw_m1 20 rfl) rfl
theorem q1647 : (Jvm.Cond.instantiable "IdealCourtModel" (92 : Nat)) ∈ lw_all := lw_g (lw_at lw_m7 109 rfl) rfl
theorem q1649 : (Jvm.Cond.instanceMethod ({ cls := "IdealCourtModel", name := "<init>", desc := "()V" } : Jvm.MethodName)) ∈ lw_all := lw_g (lw_at lw_m7 111 rfl) rfl
theorem q1650 : (Jvm.Cond.code ({ cls := "IdealCourtModel", name := "<init>", desc := "()V" } : Jvm.MethodName) prog_21_method_19_code (2 : Nat) (Option.none : Option Jvm.ClassFile.FieldType)) ∈ lw_all := lw_g (lw_at lw_m7 112 rfl) rfl
theorem q1651 : (Jvm.Cond.methodLink "IdealCourtModel" (176 : Nat) ({ cls := "java/lang/Object", name := "<init>", desc := "()V" } : Jvm.MethodName)) ∈ lw_all := lw_g (lw_at lw_m7 113 rfl) rfl
theorem q1652 : (Jvm.Cond.classLink "IdealCourtModel" (1 : Nat) "IdealCourtModel$Num") ∈ lw_all := lw_g (lw_at lw_m7 114 rfl) rfl
theorem q1654 : (Jvm.Cond.methodLink "IdealCourtModel" (3 : Nat) ({ cls := "IdealCourtModel$Num", name := "<init>", desc := "(I)V" } : Jvm.MethodName)) ∈ lw_all := lw_g (lw_at lw_m7 116 rfl) rfl
theorem q1659 : (Jvm.Cond.fieldLinkNest "IdealCourtModel" (11 : Nat) "IdealCourtModel$Num" "d" "[I" "IdealCourtModel") ∈ lw_tbl := lw_at lw_m7 121 rfl
theorem q1662 : (Jvm.Cond.fieldLinkNest "IdealCourtModel" (15 : Nat) "IdealCourtModel$Num" "sign" "I" "IdealCourtModel") ∈ lw_tbl := lw_at lw_m7 124 rfl
theorem q1664 : (Jvm.Cond.fieldLinkNest "IdealCourtModel" (7 : Nat) "IdealCourtModel$Num" "len" "I" "IdealCourtModel") ∈ lw_tbl := lw_at lw_m7 126 rfl
theorem q1674 : (Jvm.Cond.classLink "IdealCourtModel" (163 : Nat) "IdealCourtModel$Poly") ∈ lw_all := lw_g (lw_at lw_m7 136 rfl) rfl
theorem q1676 : (Jvm.Cond.classLink "IdealCourtModel" (194 : Nat) "[[J") ∈ lw_all := lw_g (lw_at lw_m7 138 rfl) rfl
theorem q1678 : (Jvm.Cond.methodLink "IdealCourtModel" (202 : Nat) ({ cls := "IdealCourtModel", name := "nums", desc := "(II)[LIdealCourtModel$Num;" } : Jvm.MethodName)) ∈ lw_all := lw_g (lw_at lw_m7 140 rfl) rfl
theorem q1679 : (Jvm.Cond.static ({ cls := "IdealCourtModel", name := "nums", desc := "(II)[LIdealCourtModel$Num;" } : Jvm.MethodName)) ∈ lw_all := lw_g (lw_at lw_m7 141 rfl) rfl
theorem q1680 : (Jvm.Cond.code ({ cls := "IdealCourtModel", name := "nums", desc := "(II)[LIdealCourtModel$Num;" } : Jvm.MethodName) prog_21_method_1_code (4 : Nat) (Option.some (Jvm.ClassFile.FieldType.array (Jvm.ClassFile.FieldType.object "IdealCourtModel$Num")))) ∈ lw_all := lw_g (lw_at lw_m7 142 rfl) rfl
theorem q1683 : (Jvm.Cond.methodLinkNest "IdealCourtModel" (221 : Nat) ({ cls := "IdealCourtModel$Poly", name := "<init>", desc := "()V" } : Jvm.MethodName) "IdealCourtModel") ∈ lw_tbl := lw_at lw_m7 145 rfl
theorem q1690 : (Jvm.Cond.fieldLinkNest "IdealCourtModel" (162 : Nat) "IdealCourtModel$Poly" "many" "I" "IdealCourtModel") ∈ lw_tbl := lw_at lw_m7 152 rfl
theorem q1693 : (Jvm.Cond.fieldLinkNest "IdealCourtModel" (167 : Nat) "IdealCourtModel$Poly" "code" "[I" "IdealCourtModel") ∈ lw_tbl := lw_at lw_m7 155 rfl
theorem q1696 : (Jvm.Cond.fieldLinkNest "IdealCourtModel" (170 : Nat) "IdealCourtModel$Poly" "num" "[LIdealCourtModel$Num;" "IdealCourtModel") ∈ lw_tbl := lw_at lw_m7 158 rfl
theorem q1699 : (Jvm.Cond.fieldLinkNest "IdealCourtModel" (171 : Nat) "IdealCourtModel$Poly" "den" "[LIdealCourtModel$Num;" "IdealCourtModel") ∈ lw_tbl := lw_at lw_m7 161 rfl
theorem q1710 : (Jvm.Cond.classLink "IdealCourtModel" (138 : Nat) "IdealCourtModel$Sum") ∈ lw_all := lw_g (lw_at lw_m7 172 rfl) rfl
theorem q1712 : (Jvm.Cond.methodLink "IdealCourtModel" (229 : Nat) ({ cls := "IdealCourtModel$Sum", name := "<init>", desc := "()V" } : Jvm.MethodName)) ∈ lw_all := lw_g (lw_at lw_m7 174 rfl) rfl
theorem q1719 : (Jvm.Cond.fieldLinkNest "IdealCourtModel" (502 : Nat) "IdealCourtModel$Sum" "code" "[I" "IdealCourtModel") ∈ lw_tbl := lw_at lw_m7 181 rfl
theorem q1722 : (Jvm.Cond.fieldLinkNest "IdealCourtModel" (145 : Nat) "IdealCourtModel$Sum" "num" "[LIdealCourtModel$Num;" "IdealCourtModel") ∈ lw_tbl := lw_at lw_m7 184 rfl
theorem q1724 : (Jvm.Cond.fieldLinkNest "IdealCourtModel" (152 : Nat) "IdealCourtModel$Sum" "den" "[LIdealCourtModel$Num;" "IdealCourtModel") ∈ lw_tbl := lw_at lw_m7 186 rfl
theorem q1736 : (Jvm.Cond.methodLink "IdealCourtModel" (272 : Nat) ({ cls := "IdealCourtModel", name := "quotientParts", desc := "()[LIdealCourtModel$Poly;" } : Jvm.MethodName)) ∈ lw_all := lw_g (lw_at lw_m7 198 rfl) rfl
theorem q1737 : (Jvm.Cond.static ({ cls := "IdealCourtModel", name := "quotientParts", desc := "()[LIdealCourtModel$Poly;" } : Jvm.MethodName)) ∈ lw_all := lw_g (lw_at lw_m7 199 rfl) rfl
theorem q1738 : (Jvm.Cond.code ({ cls := "IdealCourtModel", name := "quotientParts", desc := "()[LIdealCourtModel$Poly;" } : Jvm.MethodName) prog_21_method_49_code (2 : Nat) (Option.some (Jvm.ClassFile.FieldType.array (Jvm.ClassFile.FieldType.object "IdealCourtModel$Poly")))) ∈ lw_all := lw_g (lw_at lw_m7 200 rfl) rfl
theorem q1739 : (Jvm.Cond.methodLink "IdealCourtModel" (291 : Nat) ({ cls := "IdealCourtModel", name := "rowsOf", desc := "(I)[[LIdealCourtModel$Num;" } : Jvm.MethodName)) ∈ lw_all := lw_g (lw_at lw_m7 201 rfl) rfl
theorem q1740 : (Jvm.Cond.static ({ cls := "IdealCourtModel", name := "rowsOf", desc := "(I)[[LIdealCourtModel$Num;" } : Jvm.MethodName)) ∈ lw_all := lw_g (lw_at lw_m7 202 rfl) rfl
theorem q1741 : (Jvm.Cond.code ({ cls := "IdealCourtModel", name := "rowsOf", desc := "(I)[[LIdealCourtModel$Num;" } : Jvm.MethodName) prog_21_method_57_code (3 : Nat) (Option.some (Jvm.ClassFile.FieldType.array (Jvm.ClassFile.FieldType.array (Jvm.ClassFile.FieldType.object "IdealCourtModel$Num"))))) ∈ lw_all := lw_g (lw_at lw_m7 203 rfl) rfl
theorem q1742 : (Jvm.Cond.classLink "IdealCourtModel" (528 : Nat) "[LIdealCourtModel$Num;") ∈ lw_all := lw_g (lw_at lw_m7 204 rfl) rfl
theorem q1744 : (Jvm.Cond.methodLink "IdealCourtModel" (332 : Nat) ({ cls := "IdealCourtModel", name := "chainOf", desc := "()[[LIdealCourtModel$Num;" } : Jvm.MethodName)) ∈ lw_all := lw_g (lw_at lw_m7 206 rfl) rfl
theorem q1745 : (Jvm.Cond.static ({ cls := "IdealCourtModel", name := "chainOf", desc := "()[[LIdealCourtModel$Num;" } : Jvm.MethodName)) ∈ lw_all := lw_g (lw_at lw_m7 207 rfl) rfl
theorem q1746 : (Jvm.Cond.code ({ cls := "IdealCourtModel", name := "chainOf", desc := "()[[LIdealCourtModel$Num;" } : Jvm.MethodName) prog_21_method_75_code (2 : Nat) (Option.some (Jvm.ClassFile.FieldType.array (Jvm.ClassFile.FieldType.array (Jvm.ClassFile.FieldType.object "IdealCourtModel$Num"))))) ∈ lw_all := lw_g (lw_at lw_m7 208 rfl) rfl
theorem q1747 : (Jvm.Cond.fieldLink "IdealCourtModel" (40 : Nat) "IdealCourtModel" "wide" "[I") ∈ lw_all := lw_g (lw_at lw_m7 209 rfl) rfl
theorem q1748 : (Jvm.Cond.fieldLink "IdealCourtModel" (43 : Nat) "IdealCourtModel" "upper" "[I") ∈ lw_all := lw_g (lw_at lw_m7 210 rfl) rfl
theorem q1749 : (Jvm.Cond.fieldLink "IdealCourtModel" (46 : Nat) "IdealCourtModel" "lower" "[I") ∈ lw_all := lw_g (lw_at lw_m7 211 rfl) rfl
theorem q1750 : (Jvm.Cond.fieldLink "IdealCourtModel" (49 : Nat) "IdealCourtModel" "whole" "[I") ∈ lw_all := lw_g (lw_at lw_m7 212 rfl) rfl
theorem q1751 : (Jvm.Cond.fieldLink "IdealCourtModel" (65 : Nat) "IdealCourtModel" "gcdA" "LIdealCourtModel$Num;") ∈ lw_all := lw_g (lw_at lw_m7 213 rfl) rfl
theorem q1752 : (Jvm.Cond.fieldLink "IdealCourtModel" (69 : Nat) "IdealCourtModel" "gcdB" "LIdealCourtModel$Num;") ∈ lw_all := lw_g (lw_at lw_m7 214 rfl) rfl
theorem q1753 : (Jvm.Cond.fieldLink "IdealCourtModel" (72 : Nat) "IdealCourtModel" "gcdC" "LIdealCourtModel$Num;") ∈ lw_all := lw_g (lw_at lw_m7 215 rfl) rfl
theorem q1754 : (Jvm.Cond.fieldLink "IdealCourtModel" (102 : Nat) "IdealCourtModel" "wa" "LIdealCourtModel$Num;") ∈ lw_all := lw_g (lw_at lw_m7 216 rfl) rfl
theorem q1755 : (Jvm.Cond.fieldLink "IdealCourtModel" (108 : Nat) "IdealCourtModel" "wb" "LIdealCourtModel$Num;") ∈ lw_all := lw_g (lw_at lw_m7 217 rfl) rfl
theorem q1756 : (Jvm.Cond.fieldLink "IdealCourtModel" (95 : Nat) "IdealCourtModel" "wg" "LIdealCourtModel$Num;") ∈ lw_all := lw_g (lw_at lw_m7 218 rfl) rfl
theorem q1757 : (Jvm.Cond.fieldLink "IdealCourtModel" (142 : Nat) "IdealCourtModel" "fn" "LIdealCourtModel$Num;") ∈ lw_all := lw_g (lw_at lw_m7 219 rfl) rfl
theorem q1758 : (Jvm.Cond.fieldLink "IdealCourtModel" (149 : Nat) "IdealCourtModel" "fd" "LIdealCourtModel$Num;") ∈ lw_all := lw_g (lw_at lw_m7 220 rfl) rfl
theorem q1759 : (Jvm.Cond.fieldLink "IdealCourtModel" (181 : Nat) "IdealCourtModel" "kinds" "[I") ∈ lw_all := lw_g (lw_at lw_m7 221 rfl) rfl
theorem q1760 : (Jvm.Cond.fieldLink "IdealCourtModel" (184 : Nat) "IdealCourtModel" "polys" "[LIdealCourtModel$Poly;") ∈ lw_all := lw_g (lw_at lw_m7 222 rfl) rfl
theorem q1761 : (Jvm.Cond.fieldLink "IdealCourtModel" (188 : Nat) "IdealCourtModel" "first" "[I") ∈ lw_all := lw_g (lw_at lw_m7 223 rfl) rfl
theorem q1762 : (Jvm.Cond.fieldLink "IdealCourtModel" (191 : Nat) "IdealCourtModel" "second" "[I") ∈ lw_all := lw_g (lw_at lw_m7 224 rfl) rfl
theorem q1763 : (Jvm.Cond.fieldLink "IdealCourtModel" (196 : Nat) "IdealCourtModel" "rootPoly" "[[J") ∈ lw_all := lw_g (lw_at lw_m7 225 rfl) rfl
theorem q1764 : (Jvm.Cond.fieldLink "IdealCourtModel" (199 : Nat) "IdealCourtModel" "rootDegree" "[I") ∈ lw_all := lw_g (lw_at lw_m7 226 rfl) rfl
theorem q1765 : (Jvm.Cond.fieldLink "IdealCourtModel" (206 : Nat) "IdealCourtModel" "low" "[LIdealCourtModel$Num;") ∈ lw_all := lw_g (lw_at lw_m7 227 rfl) rfl
theorem q1766 : (Jvm.Cond.fieldLink "IdealCourtModel" (209 : Nat) "IdealCourtModel" "depth" "[I") ∈ lw_all := lw_g (lw_at lw_m7 228 rfl) rfl
theorem q1767 : (Jvm.Cond.fieldLink "IdealCourtModel" (393 : Nat) "IdealCourtModel" "latest" "I") ∈ lw_all := lw_g (lw_at lw_m7 229 rfl) rfl
theorem q1768 : (Jvm.Cond.fieldLink "IdealCourtModel" (212 : Nat) "IdealCourtModel" "counts" "[I") ∈ lw_all := lw_g (lw_at lw_m7 230 rfl) rfl
theorem q1769 : (Jvm.Cond.fieldLink "IdealCourtModel" (215 : Nat) "IdealCourtModel" "row" "[LIdealCourtModel$Poly;") ∈ lw_all := lw_g (lw_at lw_m7 231 rfl) rfl
theorem q1770 : (Jvm.Cond.fieldLink "IdealCourtModel" (498 : Nat) "IdealCourtModel" "rowMany" "I") ∈ lw_all := lw_g (lw_at lw_m7 232 rfl) rfl
theorem q1771 : (Jvm.Cond.fieldLink "IdealCourtModel" (218 : Nat) "IdealCourtModel" "quotients" "[LIdealCourtModel$Poly;") ∈ lw_all := lw_g (lw_at lw_m7 233 rfl) rfl
theorem q1772 : (Jvm.Cond.fieldLink "IdealCourtModel" (519 : Nat) "IdealCourtModel" "quotientMany" "I") ∈ lw_all := lw_g (lw_at lw_m7 234 rfl) rfl
theorem q1773 : (Jvm.Cond.fieldLink "IdealCourtModel" (222 : Nat) "IdealCourtModel" "rest" "LIdealCourtModel$Poly;") ∈ lw_all := lw_g (lw_at lw_m7 235 rfl) rfl
theorem q1774 : (Jvm.Cond.fieldLink "IdealCourtModel" (515 : Nat) "IdealCourtModel" "hasRest" "Z") ∈ lw_all := lw_g (lw_at lw_m7 236 rfl) rfl
theorem q1775 : (Jvm.Cond.fieldLink "IdealCourtModel" (226 : Nat) "IdealCourtModel" "made" "LIdealCourtModel$Poly;") ∈ lw_all := lw_g (lw_at lw_m7 237 rfl) rfl
theorem q1776 : (Jvm.Cond.fieldLink "IdealCourtModel" (230 : Nat) "IdealCourtModel" "sum" "LIdealCourtModel$Sum;") ∈ lw_all := lw_g (lw_at lw_m7 238 rfl) rfl
theorem q1777 : (Jvm.Cond.fieldLink "IdealCourtModel" (234 : Nat) "IdealCourtModel" "other" "LIdealCourtModel$Sum;") ∈ lw_all := lw_g (lw_at lw_m7 239 rfl) rfl
theorem q1778 : (Jvm.Cond.fieldLink "IdealCourtModel" (525 : Nat) "IdealCourtModel" "idealMany" "I") ∈ lw_all := lw_g (lw_at lw_m8 0 rfl) rfl
theorem q1779 : (Jvm.Cond.fieldLink "IdealCourtModel" (237 : Nat) "IdealCourtModel" "idealTerms" "[I") ∈ lw_all := lw_g (lw_at lw_m8 1 rfl) rfl
theorem q1780 : (Jvm.Cond.fieldLink "IdealCourtModel" (240 : Nat) "IdealCourtModel" "idealCode" "[I") ∈ lw_all := lw_g (lw_at lw_m8 2 rfl) rfl
theorem q1781 : (Jvm.Cond.fieldLink "IdealCourtModel" (243 : Nat) "IdealCourtModel" "idealNumber" "[I") ∈ lw_all := lw_g (lw_at lw_m8 3 rfl) rfl
theorem q1782 : (Jvm.Cond.fieldLink "IdealCourtModel" (246 : Nat) "IdealCourtModel" "tn" "LIdealCourtModel$Num;") ∈ lw_all := lw_g (lw_at lw_m8 4 rfl) rfl
theorem q1783 : (Jvm.Cond.fieldLink "IdealCourtModel" (249 : Nat) "IdealCourtModel" "td" "LIdealCourtModel$Num;") ∈ lw_all := lw_g (lw_at lw_m8 5 rfl) rfl
theorem q1784 : (Jvm.Cond.fieldLink "IdealCourtModel" (252 : Nat) "IdealCourtModel" "text" "[B") ∈ lw_all := lw_g (lw_at lw_m8 6 rfl) rfl
theorem q1785 : (Jvm.Cond.fieldLink "IdealCourtModel" (256 : Nat) "IdealCourtModel" "size" "I") ∈ lw_all := lw_g (lw_at lw_m8 7 rfl) rfl
theorem q1786 : (Jvm.Cond.fieldLink "IdealCourtModel" (259 : Nat) "IdealCourtModel" "isPut" "[Z") ∈ lw_all := lw_g (lw_at lw_m8 8 rfl) rfl
theorem q1787 : (Jvm.Cond.fieldLink "IdealCourtModel" (263 : Nat) "IdealCourtModel" "wentTo" "[I") ∈ lw_all := lw_g (lw_at lw_m8 9 rfl) rfl
theorem q1788 : (Jvm.Cond.fieldLink "IdealCourtModel" (266 : Nat) "IdealCourtModel" "wn" "LIdealCourtModel$Num;") ∈ lw_all := lw_g (lw_at lw_m8 10 rfl) rfl
theorem q1789 : (Jvm.Cond.fieldLink "IdealCourtModel" (269 : Nat) "IdealCourtModel" "wd" "LIdealCourtModel$Num;") ∈ lw_all := lw_g (lw_at lw_m8 11 rfl) rfl
theorem q1790 : (Jvm.Cond.fieldLink "IdealCourtModel" (276 : Nat) "IdealCourtModel" "parts" "[LIdealCourtModel$Poly;") ∈ lw_all := lw_g (lw_at lw_m8 12 rfl) rfl
theorem q1791 : (Jvm.Cond.fieldLink "IdealCourtModel" (551 : Nat) "IdealCourtModel" "hasSpan" "Z") ∈ lw_all := lw_g (lw_at lw_m8 13 rfl) rfl
theorem q1792 : (Jvm.Cond.fieldLink "IdealCourtModel" (535 : Nat) "IdealCourtModel" "spanKind" "I") ∈ lw_all := lw_g (lw_at lw_m8 14 rfl) rfl
theorem q1793 : (Jvm.Cond.fieldLink "IdealCourtModel" (538 : Nat) "IdealCourtModel" "spanN" "I") ∈ lw_all := lw_g (lw_at lw_m8 15 rfl) rfl
theorem q1794 : (Jvm.Cond.fieldLink "IdealCourtModel" (532 : Nat) "IdealCourtModel" "spanDegree" "I") ∈ lw_all := lw_g (lw_at lw_m8 16 rfl) rfl
theorem q1795 : (Jvm.Cond.fieldLink "IdealCourtModel" (554 : Nat) "IdealCourtModel" "spanIdeal" "I") ∈ lw_all := lw_g (lw_at lw_m8 17 rfl) rfl
theorem q1796 : (Jvm.Cond.fieldLink "IdealCourtModel" (529 : Nat) "IdealCourtModel" "columns" "I") ∈ lw_all := lw_g (lw_at lw_m8 18 rfl) rfl
theorem q1797 : (Jvm.Cond.fieldLink "IdealCourtModel" (279 : Nat) "IdealCourtModel" "columnCode" "[I") ∈ lw_all := lw_g (lw_at lw_m8 19 rfl) rfl
theorem q1798 : (Jvm.Cond.fieldLink "IdealCourtModel" (282 : Nat) "IdealCourtModel" "columnOf" "[I") ∈ lw_all := lw_g (lw_at lw_m8 20 rfl) rfl
theorem q1799 : (Jvm.Cond.fieldLink "IdealCourtModel" (541 : Nat) "IdealCourtModel" "used" "I") ∈ lw_all := lw_g (lw_at lw_m8 21 rfl) rfl
theorem q1800 : (Jvm.Cond.fieldLink "IdealCourtModel" (285 : Nat) "IdealCourtModel" "usedOf" "[I") ∈ lw_all := lw_g (lw_at lw_m8 22 rfl) rfl
theorem q1801 : (Jvm.Cond.fieldLink "IdealCourtModel" (288 : Nat) "IdealCourtModel" "usedBy" "[I") ∈ lw_all := lw_g (lw_at lw_m8 23 rfl) rfl
theorem q1802 : (Jvm.Cond.fieldLink "IdealCourtModel" (295 : Nat) "IdealCourtModel" "rows" "[[LIdealCourtModel$Num;") ∈ lw_all := lw_g (lw_at lw_m8 24 rfl) rfl
theorem q1803 : (Jvm.Cond.fieldLink "IdealCourtModel" (299 : Nat) "IdealCourtModel" "pivot" "[I") ∈ lw_all := lw_g (lw_at lw_m8 25 rfl) rfl
theorem q1804 : (Jvm.Cond.fieldLink "IdealCourtModel" (544 : Nat) "IdealCourtModel" "rowsMany" "I") ∈ lw_all := lw_g (lw_at lw_m8 26 rfl) rfl
theorem q1805 : (Jvm.Cond.fieldLink "IdealCourtModel" (302 : Nat) "IdealCourtModel" "elements" "[LIdealCourtModel$Poly;") ∈ lw_all := lw_g (lw_at lw_m8 27 rfl) rfl
theorem q1806 : (Jvm.Cond.fieldLink "IdealCourtModel" (305 : Nat) "IdealCourtModel" "elementRow" "[I") ∈ lw_all := lw_g (lw_at lw_m8 28 rfl) rfl
theorem q1807 : (Jvm.Cond.fieldLink "IdealCourtModel" (308 : Nat) "IdealCourtModel" "ra" "LIdealCourtModel$Num;") ∈ lw_all := lw_g (lw_at lw_m8 29 rfl) rfl
theorem q1808 : (Jvm.Cond.fieldLink "IdealCourtModel" (311 : Nat) "IdealCourtModel" "rb" "LIdealCourtModel$Num;") ∈ lw_all := lw_g (lw_at lw_m8 30 rfl) rfl
theorem q1809 : (Jvm.Cond.fieldLink "IdealCourtModel" (314 : Nat) "IdealCourtModel" "rc" "LIdealCourtModel$Num;") ∈ lw_all := lw_g (lw_at lw_m8 31 rfl) rfl
theorem q1810 : (Jvm.Cond.fieldLink "IdealCourtModel" (317 : Nat) "IdealCourtModel" "rg" "LIdealCourtModel$Num;") ∈ lw_all := lw_g (lw_at lw_m8 32 rfl) rfl
theorem q1811 : (Jvm.Cond.fieldLink "IdealCourtModel" (320 : Nat) "IdealCourtModel" "minimal" "[LIdealCourtModel$Poly;") ∈ lw_all := lw_g (lw_at lw_m8 33 rfl) rfl
theorem q1812 : (Jvm.Cond.fieldLink "IdealCourtModel" (323 : Nat) "IdealCourtModel" "minimalLead" "[I") ∈ lw_all := lw_g (lw_at lw_m8 34 rfl) rfl
theorem q1813 : (Jvm.Cond.fieldLink "IdealCourtModel" (326 : Nat) "IdealCourtModel" "tp" "LIdealCourtModel$Num;") ∈ lw_all := lw_g (lw_at lw_m8 35 rfl) rfl
theorem q1814 : (Jvm.Cond.fieldLink "IdealCourtModel" (329 : Nat) "IdealCourtModel" "te" "LIdealCourtModel$Num;") ∈ lw_all := lw_g (lw_at lw_m8 36 rfl) rfl
theorem q1815 : (Jvm.Cond.fieldLink "IdealCourtModel" (336 : Nat) "IdealCourtModel" "chain" "[[LIdealCourtModel$Num;") ∈ lw_all := lw_g (lw_at lw_m8 37 rfl) rfl
theorem q1816 : (Jvm.Cond.fieldLink "IdealCourtModel" (339 : Nat) "IdealCourtModel" "chainDegree" "[I") ∈ lw_all := lw_g (lw_at lw_m8 38 rfl) rfl
theorem q1817 : (Jvm.Cond.fieldLink "IdealCourtModel" (593 : Nat) "IdealCourtModel" "chainMany" "I") ∈ lw_all := lw_g (lw_at lw_m8 39 rfl) rfl
theorem q1818 : (Jvm.Cond.fieldLink "IdealCourtModel" (342 : Nat) "IdealCourtModel" "work" "[LIdealCourtModel$Num;") ∈ lw_all := lw_g (lw_at lw_m8 40 rfl) rfl
theorem q1819 : (Jvm.Cond.fieldLink "IdealCourtModel" (625 : Nat) "IdealCourtModel" "rootMany" "I") ∈ lw_all := lw_g (lw_at lw_m8 41 rfl) rfl
theorem q1820 : (Jvm.Cond.fieldLink "IdealCourtModel" (345 : Nat) "IdealCourtModel" "toldLow" "[LIdealCourtModel$Num;") ∈ lw_all := lw_g (lw_at lw_m8 42 rfl) rfl
theorem q1821 : (Jvm.Cond.fieldLink "IdealCourtModel" (348 : Nat) "IdealCourtModel" "toldDepth" "[I") ∈ lw_all := lw_g (lw_at lw_m8 43 rfl) rfl
theorem q1822 : (Jvm.Cond.fieldLink "IdealCourtModel" (351 : Nat) "IdealCourtModel" "toldPoly" "[J") ∈ lw_all := lw_g (lw_at lw_m8 44 rfl) rfl
theorem q1823 : (Jvm.Cond.fieldLink "IdealCourtModel" (631 : Nat) "IdealCourtModel" "toldDegree" "I") ∈ lw_all := lw_g (lw_at lw_m8 45 rfl) rfl
theorem q1824 : (Jvm.Cond.fieldLink "IdealCourtModel" (622 : Nat) "IdealCourtModel" "hasRoots" "Z") ∈ lw_all := lw_g (lw_at lw_m8 46 rfl) rfl
theorem q1825 : (Jvm.Cond.fieldLink "IdealCourtModel" (355 : Nat) "IdealCourtModel" "tw" "LIdealCourtModel$Num;") ∈ lw_all := lw_g (lw_at lw_m8 47 rfl) rfl
theorem q1826 : (Jvm.Cond.fieldLink "IdealCourtModel" (358 : Nat) "IdealCourtModel" "ea" "LIdealCourtModel$Num;") ∈ lw_all := lw_g (lw_at lw_m8 48 rfl) rfl
theorem q1827 : (Jvm.Cond.fieldLink "IdealCourtModel" (361 : Nat) "IdealCourtModel" "eb" "LIdealCourtModel$Num;") ∈ lw_all := lw_g (lw_at lw_m8 49 rfl) rfl
theorem q1828 : (Jvm.Cond.fieldLink "IdealCourtModel" (364 : Nat) "IdealCourtModel" "es" "LIdealCourtModel$Num;") ∈ lw_all := lw_g (lw_at lw_m8 50 rfl) rfl
theorem q1829 : (Jvm.Cond.fieldLink "IdealCourtModel" (367 : Nat) "IdealCourtModel" "ep" "LIdealCourtModel$Num;") ∈ lw_all := lw_g (lw_at lw_m8 51 rfl) rfl
theorem q1830 : (Jvm.Cond.fieldLink "IdealCourtModel" (370 : Nat) "IdealCourtModel" "plain" "[J") ∈ lw_all := lw_g (lw_at lw_m8 52 rfl) rfl
theorem q1831 : (Jvm.Cond.fieldLink "IdealCourtModel" (611 : Nat) "IdealCourtModel" "plainDegree" "I") ∈ lw_all := lw_g (lw_at lw_m8 53 rfl) rfl
theorem q1832 : (Jvm.Cond.fieldLink "IdealCourtModel" (372 : Nat) "IdealCourtModel" "stackLow" "[LIdealCourtModel$Num;") ∈ lw_all := lw_g (lw_at lw_m8 54 rfl) rfl
theorem q1833 : (Jvm.Cond.fieldLink "IdealCourtModel" (375 : Nat) "IdealCourtModel" "stackDepth" "[I") ∈ lw_all := lw_g (lw_at lw_m8 55 rfl) rfl
theorem q1834 : (Jvm.Cond.fieldLink "IdealCourtModel" (378 : Nat) "IdealCourtModel" "three" "[LIdealCourtModel$Num;") ∈ lw_all := lw_g (lw_at lw_m8 56 rfl) rfl
theorem q1835 : (Jvm.Cond.fieldLink "IdealCourtModel" (381 : Nat) "IdealCourtModel" "sl" "LIdealCourtModel$Num;") ∈ lw_all := lw_g (lw_at lw_m8 57 rfl) rfl
theorem q1836 : (Jvm.Cond.fieldLink "IdealCourtModel" (384 : Nat) "IdealCourtModel" "sh" "LIdealCourtModel$Num;") ∈ lw_all := lw_g (lw_at lw_m8 58 rfl) rfl
theorem q1837 : (Jvm.Cond.fieldLink "IdealCourtModel" (387 : Nat) "IdealCourtModel" "rootNums" "[LIdealCourtModel$Num;") ∈ lw_all := lw_g (lw_at lw_m8 59 rfl) rfl
theorem q1838 : (Jvm.Cond.fieldLink "IdealCourtModel" (390 : Nat) "IdealCourtModel" "plainNums" "[LIdealCourtModel$Num;") ∈ lw_all := lw_g (lw_at lw_m8 60 rfl) rfl
theorem q1839 : (Jvm.Cond.laysFinal "IdealCourtModel" "IdealCourtModel" "wide" "[I") ∈ lw_all := lw_g (lw_at lw_m8 61 rfl) rfl
theorem q1840 : (Jvm.Cond.soleField "IdealCourtModel" "wide") ∈ lw_all := lw_g (lw_at lw_m8 62 rfl) rfl
theorem q1841 : (Jvm.Cond.laysFinal "IdealCourtModel" "IdealCourtModel" "upper" "[I") ∈ lw_all := lw_g (lw_at lw_m8 63 rfl) rfl
theorem q1842 : (Jvm.Cond.soleField "IdealCourtModel" "upper") ∈ lw_all := lw_g (lw_at lw_m8 64 rfl) rfl
theorem q1843 : (Jvm.Cond.laysFinal "IdealCourtModel" "IdealCourtModel" "lower" "[I") ∈ lw_all := lw_g (lw_at lw_m8 65 rfl) rfl
theorem q1844 : (Jvm.Cond.soleField "IdealCourtModel" "lower") ∈ lw_all := lw_g (lw_at lw_m8 66 rfl) rfl
theorem q1845 : (Jvm.Cond.laysFinal "IdealCourtModel" "IdealCourtModel" "whole" "[I") ∈ lw_all := lw_g (lw_at lw_m8 67 rfl) rfl
theorem q1846 : (Jvm.Cond.soleField "IdealCourtModel" "whole") ∈ lw_all := lw_g (lw_at lw_m8 68 rfl) rfl
theorem q1847 : (Jvm.Cond.laysFinal "IdealCourtModel" "IdealCourtModel" "gcdA" "LIdealCourtModel$Num;") ∈ lw_all := lw_g (lw_at lw_m8 69 rfl) rfl
theorem q1848 : (Jvm.Cond.soleField "IdealCourtModel" "gcdA") ∈ lw_all := lw_g (lw_at lw_m8 70 rfl) rfl
theorem q1849 : (Jvm.Cond.laysFinal "IdealCourtModel" "IdealCourtModel" "gcdB" "LIdealCourtModel$Num;") ∈ lw_all := lw_g (lw_at lw_m8 71 rfl) rfl
theorem q1850 : (Jvm.Cond.soleField "IdealCourtModel" "gcdB") ∈ lw_all := lw_g (lw_at lw_m8 72 rfl) rfl
theorem q1851 : (Jvm.Cond.laysFinal "IdealCourtModel" "IdealCourtModel" "gcdC" "LIdealCourtModel$Num;") ∈ lw_all := lw_g (lw_at lw_m8 73 rfl) rfl
theorem q1852 : (Jvm.Cond.soleField "IdealCourtModel" "gcdC") ∈ lw_all := lw_g (lw_at lw_m8 74 rfl) rfl
theorem q1853 : (Jvm.Cond.laysFinal "IdealCourtModel" "IdealCourtModel" "wa" "LIdealCourtModel$Num;") ∈ lw_all := lw_g (lw_at lw_m8 75 rfl) rfl
theorem q1854 : (Jvm.Cond.soleField "IdealCourtModel" "wa") ∈ lw_all := lw_g (lw_at lw_m8 76 rfl) rfl
theorem q1855 : (Jvm.Cond.laysFinal "IdealCourtModel" "IdealCourtModel" "wb" "LIdealCourtModel$Num;") ∈ lw_all := lw_g (lw_at lw_m8 77 rfl) rfl
theorem q1856 : (Jvm.Cond.soleField "IdealCourtModel" "wb") ∈ lw_all := lw_g (lw_at lw_m8 78 rfl) rfl
theorem q1857 : (Jvm.Cond.laysFinal "IdealCourtModel" "IdealCourtModel" "wg" "LIdealCourtModel$Num;") ∈ lw_all := lw_g (lw_at lw_m8 79 rfl) rfl
theorem q1858 : (Jvm.Cond.soleField "IdealCourtModel" "wg") ∈ lw_all := lw_g (lw_at lw_m8 80 rfl) rfl
theorem q1859 : (Jvm.Cond.laysFinal "IdealCourtModel" "IdealCourtModel" "fn" "LIdealCourtModel$Num;") ∈ lw_all := lw_g (lw_at lw_m8 81 rfl) rfl
theorem q1860 : (Jvm.Cond.soleField "IdealCourtModel" "fn") ∈ lw_all := lw_g (lw_at lw_m8 82 rfl) rfl
theorem q1861 : (Jvm.Cond.laysFinal "IdealCourtModel" "IdealCourtModel" "fd" "LIdealCourtModel$Num;") ∈ lw_all := lw_g (lw_at lw_m8 83 rfl) rfl
theorem q1862 : (Jvm.Cond.soleField "IdealCourtModel" "fd") ∈ lw_all := lw_g (lw_at lw_m8 84 rfl) rfl
theorem q1863 : (Jvm.Cond.laysFinal "IdealCourtModel" "IdealCourtModel" "kinds" "[I") ∈ lw_all := lw_g (lw_at lw_m8 85 rfl) rfl
theorem q1864 : (Jvm.Cond.soleField "IdealCourtModel" "kinds") ∈ lw_all := lw_g (lw_at lw_m8 86 rfl) rfl
theorem q1865 : (Jvm.Cond.laysFinal "IdealCourtModel" "IdealCourtModel" "polys" "[LIdealCourtModel$Poly;") ∈ lw_all := lw_g (lw_at lw_m8 87 rfl) rfl
theorem q1866 : (Jvm.Cond.soleField "IdealCourtModel" "polys") ∈ lw_all := lw_g (lw_at lw_m8 88 rfl) rfl
theorem q1867 : (Jvm.Cond.laysFinal "IdealCourtModel" "IdealCourtModel" "first" "[I") ∈ lw_all := lw_g (lw_at lw_m8 89 rfl) rfl
theorem q1868 : (Jvm.Cond.soleField "IdealCourtModel" "first") ∈ lw_all := lw_g (lw_at lw_m8 90 rfl) rfl
theorem q1869 : (Jvm.Cond.laysFinal "IdealCourtModel" "IdealCourtModel" "second" "[I") ∈ lw_all := lw_g (lw_at lw_m8 91 rfl) rfl
theorem q1870 : (Jvm.Cond.soleField "IdealCourtModel" "second") ∈ lw_all := lw_g (lw_at lw_m8 92 rfl) rfl
theorem q1871 : (Jvm.Cond.laysFinal "IdealCourtModel" "IdealCourtModel" "rootPoly" "[[J") ∈ lw_all := lw_g (lw_at lw_m8 93 rfl) rfl
theorem q1872 : (Jvm.Cond.soleField "IdealCourtModel" "rootPoly") ∈ lw_all := lw_g (lw_at lw_m8 94 rfl) rfl
theorem q1873 : (Jvm.Cond.laysFinal "IdealCourtModel" "IdealCourtModel" "rootDegree" "[I") ∈ lw_all := lw_g (lw_at lw_m8 95 rfl) rfl
theorem q1874 : (Jvm.Cond.soleField "IdealCourtModel" "rootDegree") ∈ lw_all := lw_g (lw_at lw_m8 96 rfl) rfl
theorem q1875 : (Jvm.Cond.laysFinal "IdealCourtModel" "IdealCourtModel" "low" "[LIdealCourtModel$Num;") ∈ lw_all := lw_g (lw_at lw_m8 97 rfl) rfl
theorem q1876 : (Jvm.Cond.soleField "IdealCourtModel" "low") ∈ lw_all := lw_g (lw_at lw_m8 98 rfl) rfl
theorem q1877 : (Jvm.Cond.laysFinal "IdealCourtModel" "IdealCourtModel" "depth" "[I") ∈ lw_all := lw_g (lw_at lw_m8 99 rfl) rfl
theorem q1878 : (Jvm.Cond.soleField "IdealCourtModel" "depth") ∈ lw_all := lw_g (lw_at lw_m8 100 rfl) rfl
theorem q1879 : (Jvm.Cond.lays "IdealCourtModel" "IdealCourtModel" "latest" "I") ∈ lw_all := lw_g (lw_at lw_m8 101 rfl) rfl
theorem q1880 : (Jvm.Cond.soleField "IdealCourtModel" "latest") ∈ lw_all := lw_g (lw_at lw_m8 102 rfl) rfl
theorem q1881 : (Jvm.Cond.laysFinal "IdealCourtModel" "IdealCourtModel" "counts" "[I") ∈ lw_all := lw_g (lw_at lw_m8 103 rfl) rfl
theorem q1882 : (Jvm.Cond.soleField "IdealCourtModel" "counts") ∈ lw_all := lw_g (lw_at lw_m8 104 rfl) rfl
theorem q1883 : (Jvm.Cond.laysFinal "IdealCourtModel" "IdealCourtModel" "row" "[LIdealCourtModel$Poly;") ∈ lw_all := lw_g (lw_at lw_m8 105 rfl) rfl
theorem q1884 : (Jvm.Cond.soleField "IdealCourtModel" "row") ∈ lw_all := lw_g (lw_at lw_m8 106 rfl) rfl
theorem q1885 : (Jvm.Cond.lays "IdealCourtModel" "IdealCourtModel" "rowMany" "I") ∈ lw_all := lw_g (lw_at lw_m8 107 rfl) rfl
theorem q1886 : (Jvm.Cond.soleField "IdealCourtModel" "rowMany") ∈ lw_all := lw_g (lw_at lw_m8 108 rfl) rfl
theorem q1887 : (Jvm.Cond.laysFinal "IdealCourtModel" "IdealCourtModel" "quotients" "[LIdealCourtModel$Poly;") ∈ lw_all := lw_g (lw_at lw_m8 109 rfl) rfl
theorem q1888 : (Jvm.Cond.soleField "IdealCourtModel" "quotients") ∈ lw_all := lw_g (lw_at lw_m8 110 rfl) rfl
theorem q1889 : (Jvm.Cond.lays "IdealCourtModel" "IdealCourtModel" "quotientMany" "I") ∈ lw_all := lw_g (lw_at lw_m8 111 rfl) rfl
theorem q1890 : (Jvm.Cond.soleField "IdealCourtModel" "quotientMany") ∈ lw_all := lw_g (lw_at lw_m8 112 rfl) rfl
theorem q1891 : (Jvm.Cond.laysFinal "IdealCourtModel" "IdealCourtModel" "rest" "LIdealCourtModel$Poly;") ∈ lw_all := lw_g (lw_at lw_m8 113 rfl) rfl
theorem q1892 : (Jvm.Cond.soleField "IdealCourtModel" "rest") ∈ lw_all := lw_g (lw_at lw_m8 114 rfl) rfl
theorem q1893 : (Jvm.Cond.lays "IdealCourtModel" "IdealCourtModel" "hasRest" "Z") ∈ lw_all := lw_g (lw_at lw_m8 115 rfl) rfl
theorem q1894 : (Jvm.Cond.soleField "IdealCourtModel" "hasRest") ∈ lw_all := lw_g (lw_at lw_m8 116 rfl) rfl
theorem q1895 : (Jvm.Cond.laysFinal "IdealCourtModel" "IdealCourtModel" "made" "LIdealCourtModel$Poly;") ∈ lw_all := lw_g (lw_at lw_m8 117 rfl) rfl
theorem q1896 : (Jvm.Cond.soleField "IdealCourtModel" "made") ∈ lw_all := lw_g (lw_at lw_m8 118 rfl) rfl
theorem q1897 : (Jvm.Cond.laysFinal "IdealCourtModel" "IdealCourtModel" "sum" "LIdealCourtModel$Sum;") ∈ lw_all := lw_g (lw_at lw_m8 119 rfl) rfl
theorem q1898 : (Jvm.Cond.soleField "IdealCourtModel" "sum") ∈ lw_all := lw_g (lw_at lw_m8 120 rfl) rfl
theorem q1899 : (Jvm.Cond.laysFinal "IdealCourtModel" "IdealCourtModel" "other" "LIdealCourtModel$Sum;") ∈ lw_all := lw_g (lw_at lw_m8 121 rfl) rfl
theorem q1900 : (Jvm.Cond.soleField "IdealCourtModel" "other") ∈ lw_all := lw_g (lw_at lw_m8 122 rfl) rfl
theorem q1901 : (Jvm.Cond.lays "IdealCourtModel" "IdealCourtModel" "idealMany" "I") ∈ lw_all := lw_g (lw_at lw_m8 123 rfl) rfl
theorem q1902 : (Jvm.Cond.soleField "IdealCourtModel" "idealMany") ∈ lw_all := lw_g (lw_at lw_m8 124 rfl) rfl
theorem q1903 : (Jvm.Cond.laysFinal "IdealCourtModel" "IdealCourtModel" "idealTerms" "[I") ∈ lw_all := lw_g (lw_at lw_m8 125 rfl) rfl
theorem q1904 : (Jvm.Cond.soleField "IdealCourtModel" "idealTerms") ∈ lw_all := lw_g (lw_at lw_m8 126 rfl) rfl
theorem q1905 : (Jvm.Cond.laysFinal "IdealCourtModel" "IdealCourtModel" "idealCode" "[I") ∈ lw_all := lw_g (lw_at lw_m8 127 rfl) rfl
theorem q1906 : (Jvm.Cond.soleField "IdealCourtModel" "idealCode") ∈ lw_all := lw_g (lw_at lw_m8 128 rfl) rfl
theorem q1907 : (Jvm.Cond.laysFinal "IdealCourtModel" "IdealCourtModel" "idealNumber" "[I") ∈ lw_all := lw_g (lw_at lw_m8 129 rfl) rfl
theorem q1908 : (Jvm.Cond.soleField "IdealCourtModel" "idealNumber") ∈ lw_all := lw_g (lw_at lw_m8 130 rfl) rfl
theorem q1909 : (Jvm.Cond.laysFinal "IdealCourtModel" "IdealCourtModel" "tn" "LIdealCourtModel$Num;") ∈ lw_all := lw_g (lw_at lw_m8 131 rfl) rfl
theorem q1910 : (Jvm.Cond.soleField "IdealCourtModel" "tn") ∈ lw_all := lw_g (lw_at lw_m8 132 rfl) rfl
theorem q1911 : (Jvm.Cond.laysFinal "IdealCourtModel" "IdealCourtModel" "td" "LIdealCourtModel$Num;") ∈ lw_all := lw_g (lw_at lw_m8 133 rfl) rfl
theorem q1912 : (Jvm.Cond.soleField "IdealCourtModel" "td") ∈ lw_all := lw_g (lw_at lw_m8 134 rfl) rfl
theorem q1913 : (Jvm.Cond.laysFinal "IdealCourtModel" "IdealCourtModel" "text" "[B") ∈ lw_all := lw_g (lw_at lw_m8 135 rfl) rfl
theorem q1914 : (Jvm.Cond.soleField "IdealCourtModel" "text") ∈ lw_all := lw_g (lw_at lw_m8 136 rfl) rfl
theorem q1915 : (Jvm.Cond.lays "IdealCourtModel" "IdealCourtModel" "size" "I") ∈ lw_all := lw_g (lw_at lw_m8 137 rfl) rfl
theorem q1916 : (Jvm.Cond.soleField "IdealCourtModel" "size") ∈ lw_all := lw_g (lw_at lw_m8 138 rfl) rfl
theorem q1917 : (Jvm.Cond.laysFinal "IdealCourtModel" "IdealCourtModel" "isPut" "[Z") ∈ lw_all := lw_g (lw_at lw_m8 139 rfl) rfl
theorem q1918 : (Jvm.Cond.soleField "IdealCourtModel" "isPut") ∈ lw_all := lw_g (lw_at lw_m8 140 rfl) rfl
theorem q1919 : (Jvm.Cond.laysFinal "IdealCourtModel" "IdealCourtModel" "wentTo" "[I") ∈ lw_all := lw_g (lw_at lw_m8 141 rfl) rfl
theorem q1920 : (Jvm.Cond.soleField "IdealCourtModel" "wentTo") ∈ lw_all := lw_g (lw_at lw_m8 142 rfl) rfl
theorem q1921 : (Jvm.Cond.laysFinal "IdealCourtModel" "IdealCourtModel" "wn" "LIdealCourtModel$Num;") ∈ lw_all := lw_g (lw_at lw_m8 143 rfl) rfl
theorem q1922 : (Jvm.Cond.soleField "IdealCourtModel" "wn") ∈ lw_all := lw_g (lw_at lw_m8 144 rfl) rfl
theorem q1923 : (Jvm.Cond.laysFinal "IdealCourtModel" "IdealCourtModel" "wd" "LIdealCourtModel$Num;") ∈ lw_all := lw_g (lw_at lw_m8 145 rfl) rfl
theorem q1924 : (Jvm.Cond.soleField "IdealCourtModel" "wd") ∈ lw_all := lw_g (lw_at lw_m8 146 rfl) rfl
theorem q1925 : (Jvm.Cond.laysFinal "IdealCourtModel" "IdealCourtModel" "parts" "[LIdealCourtModel$Poly;") ∈ lw_all := lw_g (lw_at lw_m8 147 rfl) rfl
theorem q1926 : (Jvm.Cond.soleField "IdealCourtModel" "parts") ∈ lw_all := lw_g (lw_at lw_m8 148 rfl) rfl
theorem q1927 : (Jvm.Cond.lays "IdealCourtModel" "IdealCourtModel" "hasSpan" "Z") ∈ lw_all := lw_g (lw_at lw_m8 149 rfl) rfl
theorem q1928 : (Jvm.Cond.soleField "IdealCourtModel" "hasSpan") ∈ lw_all := lw_g (lw_at lw_m8 150 rfl) rfl
theorem q1929 : (Jvm.Cond.lays "IdealCourtModel" "IdealCourtModel" "spanKind" "I") ∈ lw_all := lw_g (lw_at lw_m8 151 rfl) rfl
theorem q1930 : (Jvm.Cond.soleField "IdealCourtModel" "spanKind") ∈ lw_all := lw_g (lw_at lw_m8 152 rfl) rfl
theorem q1931 : (Jvm.Cond.lays "IdealCourtModel" "IdealCourtModel" "spanN" "I") ∈ lw_all := lw_g (lw_at lw_m8 153 rfl) rfl
theorem q1932 : (Jvm.Cond.soleField "IdealCourtModel" "spanN") ∈ lw_all := lw_g (lw_at lw_m8 154 rfl) rfl
theorem q1933 : (Jvm.Cond.lays "IdealCourtModel" "IdealCourtModel" "spanDegree" "I") ∈ lw_all := lw_g (lw_at lw_m8 155 rfl) rfl
theorem q1934 : (Jvm.Cond.soleField "IdealCourtModel" "spanDegree") ∈ lw_all := lw_g (lw_at lw_m8 156 rfl) rfl
theorem q1935 : (Jvm.Cond.lays "IdealCourtModel" "IdealCourtModel" "spanIdeal" "I") ∈ lw_all := lw_g (lw_at lw_m8 157 rfl) rfl
theorem q1936 : (Jvm.Cond.soleField "IdealCourtModel" "spanIdeal") ∈ lw_all := lw_g (lw_at lw_m8 158 rfl) rfl
theorem q1937 : (Jvm.Cond.lays "IdealCourtModel" "IdealCourtModel" "columns" "I") ∈ lw_all := lw_g (lw_at lw_m8 159 rfl) rfl
theorem q1938 : (Jvm.Cond.soleField "IdealCourtModel" "columns") ∈ lw_all := lw_g (lw_at lw_m8 160 rfl) rfl
theorem q1939 : (Jvm.Cond.laysFinal "IdealCourtModel" "IdealCourtModel" "columnCode" "[I") ∈ lw_all := lw_g (lw_at lw_m8 161 rfl) rfl
theorem q1940 : (Jvm.Cond.soleField "IdealCourtModel" "columnCode") ∈ lw_all := lw_g (lw_at lw_m8 162 rfl) rfl
theorem q1941 : (Jvm.Cond.laysFinal "IdealCourtModel" "IdealCourtModel" "columnOf" "[I") ∈ lw_all := lw_g (lw_at lw_m8 163 rfl) rfl
theorem q1942 : (Jvm.Cond.soleField "IdealCourtModel" "columnOf") ∈ lw_all := lw_g (lw_at lw_m8 164 rfl) rfl
theorem q1943 : (Jvm.Cond.lays "IdealCourtModel" "IdealCourtModel" "used" "I") ∈ lw_all := lw_g (lw_at lw_m8 165 rfl) rfl
theorem q1944 : (Jvm.Cond.soleField "IdealCourtModel" "used") ∈ lw_all := lw_g (lw_at lw_m8 166 rfl) rfl
theorem q1945 : (Jvm.Cond.laysFinal "IdealCourtModel" "IdealCourtModel" "usedOf" "[I") ∈ lw_all := lw_g (lw_at lw_m8 167 rfl) rfl
theorem q1946 : (Jvm.Cond.soleField "IdealCourtModel" "usedOf") ∈ lw_all := lw_g (lw_at lw_m8 168 rfl) rfl
theorem q1947 : (Jvm.Cond.laysFinal "IdealCourtModel" "IdealCourtModel" "usedBy" "[I") ∈ lw_all := lw_g (lw_at lw_m8 169 rfl) rfl
theorem q1948 : (Jvm.Cond.soleField "IdealCourtModel" "usedBy") ∈ lw_all := lw_g (lw_at lw_m8 170 rfl) rfl
theorem q1949 : (Jvm.Cond.laysFinal "IdealCourtModel" "IdealCourtModel" "rows" "[[LIdealCourtModel$Num;") ∈ lw_all := lw_g (lw_at lw_m8 171 rfl) rfl
theorem q1950 : (Jvm.Cond.soleField "IdealCourtModel" "rows") ∈ lw_all := lw_g (lw_at lw_m8 172 rfl) rfl
theorem q1951 : (Jvm.Cond.laysFinal "IdealCourtModel" "IdealCourtModel" "pivot" "[I") ∈ lw_all := lw_g (lw_at lw_m8 173 rfl) rfl
theorem q1952 : (Jvm.Cond.soleField "IdealCourtModel" "pivot") ∈ lw_all := lw_g (lw_at lw_m8 174 rfl) rfl
theorem q1953 : (Jvm.Cond.lays "IdealCourtModel" "IdealCourtModel" "rowsMany" "I") ∈ lw_all := lw_g (lw_at lw_m8 175 rfl) rfl
theorem q1954 : (Jvm.Cond.soleField "IdealCourtModel" "rowsMany") ∈ lw_all := lw_g (lw_at lw_m8 176 rfl) rfl
theorem q1955 : (Jvm.Cond.laysFinal "IdealCourtModel" "IdealCourtModel" "elements" "[LIdealCourtModel$Poly;") ∈ lw_all := lw_g (lw_at lw_m8 177 rfl) rfl
theorem q1956 : (Jvm.Cond.soleField "IdealCourtModel" "elements") ∈ lw_all := lw_g (lw_at lw_m8 178 rfl) rfl
theorem q1957 : (Jvm.Cond.laysFinal "IdealCourtModel" "IdealCourtModel" "elementRow" "[I") ∈ lw_all := lw_g (lw_at lw_m8 179 rfl) rfl
theorem q1958 : (Jvm.Cond.soleField "IdealCourtModel" "elementRow") ∈ lw_all := lw_g (lw_at lw_m8 180 rfl) rfl
theorem q1959 : (Jvm.Cond.laysFinal "IdealCourtModel" "IdealCourtModel" "ra" "LIdealCourtModel$Num;") ∈ lw_all := lw_g (lw_at lw_m8 181 rfl) rfl
theorem q1960 : (Jvm.Cond.soleField "IdealCourtModel" "ra") ∈ lw_all := lw_g (lw_at lw_m8 182 rfl) rfl
theorem q1961 : (Jvm.Cond.laysFinal "IdealCourtModel" "IdealCourtModel" "rb" "LIdealCourtModel$Num;") ∈ lw_all := lw_g (lw_at lw_m8 183 rfl) rfl
theorem q1962 : (Jvm.Cond.soleField "IdealCourtModel" "rb") ∈ lw_all := lw_g (lw_at lw_m8 184 rfl) rfl
theorem q1963 : (Jvm.Cond.laysFinal "IdealCourtModel" "IdealCourtModel" "rc" "LIdealCourtModel$Num;") ∈ lw_all := lw_g (lw_at lw_m8 185 rfl) rfl
theorem q1964 : (Jvm.Cond.soleField "IdealCourtModel" "rc") ∈ lw_all := lw_g (lw_at lw_m8 186 rfl) rfl
theorem q1965 : (Jvm.Cond.laysFinal "IdealCourtModel" "IdealCourtModel" "rg" "LIdealCourtModel$Num;") ∈ lw_all := lw_g (lw_at lw_m8 187 rfl) rfl
theorem q1966 : (Jvm.Cond.soleField "IdealCourtModel" "rg") ∈ lw_all := lw_g (lw_at lw_m8 188 rfl) rfl
theorem q1967 : (Jvm.Cond.laysFinal "IdealCourtModel" "IdealCourtModel" "minimal" "[LIdealCourtModel$Poly;") ∈ lw_all := lw_g (lw_at lw_m8 189 rfl) rfl
theorem q1968 : (Jvm.Cond.soleField "IdealCourtModel" "minimal") ∈ lw_all := lw_g (lw_at lw_m8 190 rfl) rfl
theorem q1969 : (Jvm.Cond.laysFinal "IdealCourtModel" "IdealCourtModel" "minimalLead" "[I") ∈ lw_all := lw_g (lw_at lw_m8 191 rfl) rfl
theorem q1970 : (Jvm.Cond.soleField "IdealCourtModel" "minimalLead") ∈ lw_all := lw_g (lw_at lw_m8 192 rfl) rfl
theorem q1971 : (Jvm.Cond.laysFinal "IdealCourtModel" "IdealCourtModel" "tp" "LIdealCourtModel$Num;") ∈ lw_all := lw_g (lw_at lw_m8 193 rfl) rfl
theorem q1972 : (Jvm.Cond.soleField "IdealCourtModel" "tp") ∈ lw_all := lw_g (lw_at lw_m8 194 rfl) rfl
theorem q1973 : (Jvm.Cond.laysFinal "IdealCourtModel" "IdealCourtModel" "te" "LIdealCourtModel$Num;") ∈ lw_all := lw_g (lw_at lw_m8 195 rfl) rfl
theorem q1974 : (Jvm.Cond.soleField "IdealCourtModel" "te") ∈ lw_all := lw_g (lw_at lw_m8 196 rfl) rfl
theorem q1975 : (Jvm.Cond.laysFinal "IdealCourtModel" "IdealCourtModel" "chain" "[[LIdealCourtModel$Num;") ∈ lw_all := lw_g (lw_at lw_m8 197 rfl) rfl
theorem q1976 : (Jvm.Cond.soleField "IdealCourtModel" "chain") ∈ lw_all := lw_g (lw_at lw_m8 198 rfl) rfl
theorem q1977 : (Jvm.Cond.laysFinal "IdealCourtModel" "IdealCourtModel" "chainDegree" "[I") ∈ lw_all := lw_g (lw_at lw_m8 199 rfl) rfl
theorem q1978 : (Jvm.Cond.soleField "IdealCourtModel" "chainDegree") ∈ lw_all := lw_g (lw_at lw_m8 200 rfl) rfl
theorem q1979 : (Jvm.Cond.lays "IdealCourtModel" "IdealCourtModel" "chainMany" "I") ∈ lw_all := lw_g (lw_at lw_m8 201 rfl) rfl
theorem q1980 : (Jvm.Cond.soleField "IdealCourtModel" "chainMany") ∈ lw_all := lw_g (lw_at lw_m8 202 rfl) rfl
theorem q1981 : (Jvm.Cond.laysFinal "IdealCourtModel" "IdealCourtModel" "work" "[LIdealCourtModel$Num;") ∈ lw_all := lw_g (lw_at lw_m8 203 rfl) rfl
theorem q1982 : (Jvm.Cond.soleField "IdealCourtModel" "work") ∈ lw_all := lw_g (lw_at lw_m8 204 rfl) rfl
theorem q1983 : (Jvm.Cond.lays "IdealCourtModel" "IdealCourtModel" "rootMany" "I") ∈ lw_all := lw_g (lw_at lw_m8 205 rfl) rfl
theorem q1984 : (Jvm.Cond.soleField "IdealCourtModel" "rootMany") ∈ lw_all := lw_g (lw_at lw_m8 206 rfl) rfl
theorem q1985 : (Jvm.Cond.laysFinal "IdealCourtModel" "IdealCourtModel" "toldLow" "[LIdealCourtModel$Num;") ∈ lw_all := lw_g (lw_at lw_m8 207 rfl) rfl
theorem q1986 : (Jvm.Cond.soleField "IdealCourtModel" "toldLow") ∈ lw_all := lw_g (lw_at lw_m8 208 rfl) rfl
theorem q1987 : (Jvm.Cond.laysFinal "IdealCourtModel" "IdealCourtModel" "toldDepth" "[I") ∈ lw_all := lw_g (lw_at lw_m8 209 rfl) rfl
theorem q1988 : (Jvm.Cond.soleField "IdealCourtModel" "toldDepth") ∈ lw_all := lw_g (lw_at lw_m8 210 rfl) rfl
theorem q1989 : (Jvm.Cond.laysFinal "IdealCourtModel" "IdealCourtModel" "toldPoly" "[J") ∈ lw_all := lw_g (lw_at lw_m8 211 rfl) rfl
theorem q1990 : (Jvm.Cond.soleField "IdealCourtModel" "toldPoly") ∈ lw_all := lw_g (lw_at lw_m8 212 rfl) rfl
theorem q1991 : (Jvm.Cond.lays "IdealCourtModel" "IdealCourtModel" "toldDegree" "I") ∈ lw_all := lw_g (lw_at lw_m8 213 rfl) rfl
theorem q1992 : (Jvm.Cond.soleField "IdealCourtModel" "toldDegree") ∈ lw_all := lw_g (lw_at lw_m8 214 rfl) rfl
theorem q1993 : (Jvm.Cond.lays "IdealCourtModel" "IdealCourtModel" "hasRoots" "Z") ∈ lw_all := lw_g (lw_at lw_m8 215 rfl) rfl
theorem q1994 : (Jvm.Cond.soleField "IdealCourtModel" "hasRoots") ∈ lw_all := lw_g (lw_at lw_m8 216 rfl) rfl
theorem q1995 : (Jvm.Cond.laysFinal "IdealCourtModel" "IdealCourtModel" "tw" "LIdealCourtModel$Num;") ∈ lw_all := lw_g (lw_at lw_m8 217 rfl) rfl
theorem q1996 : (Jvm.Cond.soleField "IdealCourtModel" "tw") ∈ lw_all := lw_g (lw_at lw_m8 218 rfl) rfl
theorem q1997 : (Jvm.Cond.laysFinal "IdealCourtModel" "IdealCourtModel" "ea" "LIdealCourtModel$Num;") ∈ lw_all := lw_g (lw_at lw_m8 219 rfl) rfl
theorem q1998 : (Jvm.Cond.soleField "IdealCourtModel" "ea") ∈ lw_all := lw_g (lw_at lw_m8 220 rfl) rfl
theorem q1999 : (Jvm.Cond.laysFinal "IdealCourtModel" "IdealCourtModel" "eb" "LIdealCourtModel$Num;") ∈ lw_all := lw_g (lw_at lw_m8 221 rfl) rfl
theorem q2000 : (Jvm.Cond.soleField "IdealCourtModel" "eb") ∈ lw_all := lw_g (lw_at lw_m8 222 rfl) rfl
theorem q2001 : (Jvm.Cond.laysFinal "IdealCourtModel" "IdealCourtModel" "es" "LIdealCourtModel$Num;") ∈ lw_all := lw_g (lw_at lw_m8 223 rfl) rfl
theorem q2002 : (Jvm.Cond.soleField "IdealCourtModel" "es") ∈ lw_all := lw_g (lw_at lw_m8 224 rfl) rfl
theorem q2003 : (Jvm.Cond.laysFinal "IdealCourtModel" "IdealCourtModel" "ep" "LIdealCourtModel$Num;") ∈ lw_all := lw_g (lw_at lw_m8 225 rfl) rfl
theorem q2004 : (Jvm.Cond.soleField "IdealCourtModel" "ep") ∈ lw_all := lw_g (lw_at lw_m8 226 rfl) rfl
theorem q2005 : (Jvm.Cond.laysFinal "IdealCourtModel" "IdealCourtModel" "plain" "[J") ∈ lw_all := lw_g (lw_at lw_m8 227 rfl) rfl
theorem q2006 : (Jvm.Cond.soleField "IdealCourtModel" "plain") ∈ lw_all := lw_g (lw_at lw_m8 228 rfl) rfl
theorem q2007 : (Jvm.Cond.lays "IdealCourtModel" "IdealCourtModel" "plainDegree" "I") ∈ lw_all := lw_g (lw_at lw_m8 229 rfl) rfl
theorem q2008 : (Jvm.Cond.soleField "IdealCourtModel" "plainDegree") ∈ lw_all := lw_g (lw_at lw_m8 230 rfl) rfl
theorem q2009 : (Jvm.Cond.laysFinal "IdealCourtModel" "IdealCourtModel" "stackLow" "[LIdealCourtModel$Num;") ∈ lw_all := lw_g (lw_at lw_m8 231 rfl) rfl
theorem q2010 : (Jvm.Cond.soleField "IdealCourtModel" "stackLow") ∈ lw_all := lw_g (lw_at lw_m8 232 rfl) rfl
theorem q2011 : (Jvm.Cond.laysFinal "IdealCourtModel" "IdealCourtModel" "stackDepth" "[I") ∈ lw_all := lw_g (lw_at lw_m8 233 rfl) rfl
theorem q2012 : (Jvm.Cond.soleField "IdealCourtModel" "stackDepth") ∈ lw_all := lw_g (lw_at lw_m8 234 rfl) rfl
theorem q2013 : (Jvm.Cond.laysFinal "IdealCourtModel" "IdealCourtModel" "three" "[LIdealCourtModel$Num;") ∈ lw_all := lw_g (lw_at lw_m8 235 rfl) rfl
theorem q2014 : (Jvm.Cond.soleField "IdealCourtModel" "three") ∈ lw_all := lw_g (lw_at lw_m8 236 rfl) rfl
theorem q2015 : (Jvm.Cond.laysFinal "IdealCourtModel" "IdealCourtModel" "sl" "LIdealCourtModel$Num;") ∈ lw_all := lw_g (lw_at lw_m8 237 rfl) rfl
theorem q2016 : (Jvm.Cond.soleField "IdealCourtModel" "sl") ∈ lw_all := lw_g (lw_at lw_m8 238 rfl) rfl
theorem q2017 : (Jvm.Cond.laysFinal "IdealCourtModel" "IdealCourtModel" "sh" "LIdealCourtModel$Num;") ∈ lw_all := lw_g (lw_at lw_m8 239 rfl) rfl
theorem q2018 : (Jvm.Cond.soleField "IdealCourtModel" "sh") ∈ lw_all := lw_g (lw_at lw_m9 0 rfl) rfl
theorem q2019 : (Jvm.Cond.laysFinal "IdealCourtModel" "IdealCourtModel" "rootNums" "[LIdealCourtModel$Num;") ∈ lw_all := lw_g (lw_at lw_m9 1 rfl) rfl
theorem q2020 : (Jvm.Cond.soleField "IdealCourtModel" "rootNums") ∈ lw_all := lw_g (lw_at lw_m9 2 rfl) rfl
theorem q2021 : (Jvm.Cond.laysFinal "IdealCourtModel" "IdealCourtModel" "plainNums" "[LIdealCourtModel$Num;") ∈ lw_all := lw_g (lw_at lw_m9 3 rfl) rfl
theorem q2022 : (Jvm.Cond.soleField "IdealCourtModel" "plainNums") ∈ lw_all := lw_g (lw_at lw_m9 4 rfl) rfl
theorem q2023 : (Jvm.Cond.superclass "IdealCourtModel" "java/lang/Object") ∈ lw_all := lw_g (lw_at lw_m9 5 rfl) rfl
theorem q2026 : (Jvm.Cond.instanceMethod ({ cls := "IdealCourtModel", name := "order", desc := "(III)I" } : Jvm.MethodName)) ∈ lw_all := lw_g (lw_at lw_m9 8 rfl) rfl
theorem q2027 : (Jvm.Cond.selects "IdealCourtModel" ({ cls := "IdealCourtModel", name := "order", desc := "(III)I" } : Jvm.MethodName) ({ cls := "IdealCourtModel", name := "order", desc := "(III)I" } : Jvm.MethodName)) ∈ lw_all := lw_g (lw_at lw_m9 9 rfl) rfl
theorem q2028 : (Jvm.Cond.code ({ cls := "IdealCourtModel", name := "order", desc := "(III)I" } : Jvm.MethodName) prog_21_method_28_code (5 : Nat) (Option.some Jvm.ClassFile.FieldType.int)) ∈ lw_all := lw_g (lw_at lw_m9 10 rfl) rfl
theorem q2029 : (Jvm.Cond.methodLink "IdealCourtModel" (417 : Nat) ({ cls := "IdealCourtModel", name := "goal", desc := "(I)I" } : Jvm.MethodName)) ∈ lw_all := lw_g (lw_at lw_m9 11 rfl) rfl
theorem q2030 : (Jvm.Cond.privateMethod ({ cls := "IdealCourtModel", name := "goal", desc := "(I)I" } : Jvm.MethodName)) ∈ lw_tbl := lw_at lw_m9 12 rfl
theorem q2031 : (Jvm.Cond.instanceMethod ({ cls := "IdealCourtModel", name := "goal", desc := "(I)I" } : Jvm.MethodName)) ∈ lw_all := lw_g (lw_at lw_m9 13 rfl) rfl
theorem q2032 : (Jvm.Cond.code ({ cls := "IdealCourtModel", name := "goal", desc := "(I)I" } : Jvm.MethodName) prog_21_method_23_code (2 : Nat) (Option.some Jvm.ClassFile.FieldType.int)) ∈ lw_all := lw_g (lw_at lw_m9 14 rfl) rfl
theorem q2033 : (Jvm.Cond.methodLink "IdealCourtModel" (396 : Nat) ({ cls := "IdealCourtModel", name := "isPlace", desc := "(I)Z" } : Jvm.MethodName)) ∈ lw_all := lw_g (lw_at lw_m9 15 rfl) rfl
theorem q2034 : (Jvm.Cond.static ({ cls := "IdealCourtModel", name := "isPlace", desc := "(I)Z" } : Jvm.MethodName)) ∈ lw_all := lw_g (lw_at lw_m9 16 rfl) rfl
theorem q2035 : (Jvm.Cond.code ({ cls := "IdealCourtModel", name := "isPlace", desc := "(I)Z" } : Jvm.MethodName) prog_21_method_21_code (1 : Nat) (Option.some Jvm.ClassFile.FieldType.boolean)) ∈ lw_all := lw_g (lw_at lw_m9 17 rfl) rfl
theorem q2036 : (Jvm.Cond.methodLink "IdealCourtModel" (407 : Nat) ({ cls := "IdealCourtModel", name := "answer", desc := "(I)I" } : Jvm.MethodName)) ∈ lw_all := lw_g (lw_at lw_m9 18 rfl) rfl
theorem q2037 : (Jvm.Cond.privateMethod ({ cls := "IdealCourtModel", name := "answer", desc := "(I)I" } : Jvm.MethodName)) ∈ lw_tbl := lw_at lw_m9 19 rfl
theorem q2038 : (Jvm.Cond.instanceMethod ({ cls := "IdealCourtModel", name := "answer", desc := "(I)I" } : Jvm.MethodName)) ∈ lw_all := lw_g (lw_at lw_m9 20 rfl) rfl
theorem q2039 : (Jvm.Cond.code ({ cls := "IdealCourtModel", name := "answer", desc := "(I)I" } : Jvm.MethodName) prog_21_method_20_code (2 : Nat) (Option.some Jvm.ClassFile.FieldType.int)) ∈ lw_all := lw_g (lw_at lw_m9 21 rfl) rfl
theorem q2041 : (Jvm.Cond.instanceMethod ({ cls := "IdealCourtModel", name := "zero", desc := "(I)I" } : Jvm.MethodName)) ∈ lw_all := lw_g (lw_at lw_m9 23 rfl) rfl
theorem q2042 : (Jvm.Cond.selects "IdealCourtModel" ({ cls := "IdealCourtModel", name := "zero", desc := "(I)I" } : Jvm.MethodName) ({ cls := "IdealCourtModel", name := "zero", desc := "(I)I" } : Jvm.MethodName)) ∈ lw_all := lw_g (lw_at lw_m9 24 rfl) rfl
theorem q2043 : (Jvm.Cond.code ({ cls := "IdealCourtModel", name := "zero", desc := "(I)I" } : Jvm.MethodName) prog_21_method_29_code (2 : Nat) (Option.some Jvm.ClassFile.FieldType.int)) ∈ lw_all := lw_g (lw_at lw_m9 25 rfl) rfl
theorem q2044 : (Jvm.Cond.methodLink "IdealCourtModel" (413 : Nat) ({ cls := "IdealCourtModel", name := "stand", desc := "(ILIdealCourtModel$Poly;)I" } : Jvm.MethodName)) ∈ lw_all := lw_g (lw_at lw_m9 26 rfl) rfl
theorem q2045 : (Jvm.Cond.privateMethod ({ cls := "IdealCourtModel", name := "stand", desc := "(ILIdealCourtModel$Poly;)I" } : Jvm.MethodName)) ∈ lw_tbl := lw_at lw_m9 27 rfl
theorem q2046 : (Jvm.Cond.instanceMethod ({ cls := "IdealCourtModel", name := "stand", desc := "(ILIdealCourtModel$Poly;)I" } : Jvm.MethodName)) ∈ lw_all := lw_g (lw_at lw_m9 28 rfl) rfl
theorem q2047 : (Jvm.Cond.code ({ cls := "IdealCourtModel", name := "stand", desc := "(ILIdealCourtModel$Poly;)I" } : Jvm.MethodName) prog_21_method_26_code (3 : Nat) (Option.some Jvm.ClassFile.FieldType.int)) ∈ lw_all := lw_g (lw_at lw_m9 29 rfl) rfl
theorem q2048 : (Jvm.Cond.methodLink "IdealCourtModel" (400 : Nat) ({ cls := "IdealCourtModel$Poly", name := "copy", desc := "(LIdealCourtModel$Poly;)V" } : Jvm.MethodName)) ∈ lw_all := lw_g (lw_at lw_m9 30 rfl) rfl
theorem q2057 : (Jvm.Cond.instanceMethod ({ cls := "IdealCourtModel", name := "term", desc := "(IIII)I" } : Jvm.MethodName)) ∈ lw_all := lw_g (lw_at lw_m9 39 rfl) rfl
theorem q2058 : (Jvm.Cond.selects "IdealCourtModel" ({ cls := "IdealCourtModel", name := "term", desc := "(IIII)I" } : Jvm.MethodName) ({ cls := "IdealCourtModel", name := "term", desc := "(IIII)I" } : Jvm.MethodName)) ∈ lw_all := lw_g (lw_at lw_m9 40 rfl) rfl
theorem q2059 : (Jvm.Cond.code ({ cls := "IdealCourtModel", name := "term", desc := "(IIII)I" } : Jvm.MethodName) prog_21_method_30_code (7 : Nat) (Option.some Jvm.ClassFile.FieldType.int)) ∈ lw_all := lw_g (lw_at lw_m9 41 rfl) rfl
theorem q2060 : (Jvm.Cond.methodLink "IdealCourtModel" (420 : Nat) ({ cls := "IdealCourtModel", name := "look", desc := "(II)I" } : Jvm.MethodName)) ∈ lw_all := lw_g (lw_at lw_m9 42 rfl) rfl
theorem q2061 : (Jvm.Cond.privateMethod ({ cls := "IdealCourtModel", name := "look", desc := "(II)I" } : Jvm.MethodName)) ∈ lw_tbl := lw_at lw_m9 43 rfl
theorem q2062 : (Jvm.Cond.instanceMethod ({ cls := "IdealCourtModel", name := "look", desc := "(II)I" } : Jvm.MethodName)) ∈ lw_all := lw_g (lw_at lw_m9 44 rfl) rfl
theorem q2063 : (Jvm.Cond.code ({ cls := "IdealCourtModel", name := "look", desc := "(II)I" } : Jvm.MethodName) prog_21_method_22_code (3 : Nat) (Option.some Jvm.ClassFile.FieldType.int)) ∈ lw_all := lw_g (lw_at lw_m9 45 rfl) rfl
theorem q2064 : (Jvm.Cond.methodLink "IdealCourtModel" (125 : Nat) ({ cls := "IdealCourtModel", name := "degreeOf", desc := "(I)I" } : Jvm.MethodName)) ∈ lw_all := lw_g (lw_at lw_m9 46 rfl) rfl
theorem q2065 : (Jvm.Cond.static ({ cls := "IdealCourtModel", name := "degreeOf", desc := "(I)I" } : Jvm.MethodName)) ∈ lw_all := lw_g (lw_at lw_m9 47 rfl) rfl
theorem q2066 : (Jvm.Cond.code ({ cls := "IdealCourtModel", name := "degreeOf", desc := "(I)I" } : Jvm.MethodName) prog_21_method_12_code (1 : Nat) (Option.some Jvm.ClassFile.FieldType.int)) ∈ lw_all := lw_g (lw_at lw_m9 48 rfl) rfl
theorem q2067 : (Jvm.Cond.methodLink "IdealCourtModel" (119 : Nat) ({ cls := "IdealCourtModel", name := "exponent", desc := "(II)I" } : Jvm.MethodName)) ∈ lw_all := lw_g (lw_at lw_m9 49 rfl) rfl
theorem q2068 : (Jvm.Cond.static ({ cls := "IdealCourtModel", name := "exponent", desc := "(II)I" } : Jvm.MethodName)) ∈ lw_all := lw_g (lw_at lw_m9 50 rfl) rfl
theorem q2069 : (Jvm.Cond.code ({ cls := "IdealCourtModel", name := "exponent", desc := "(II)I" } : Jvm.MethodName) prog_21_method_11_code (2 : Nat) (Option.some Jvm.ClassFile.FieldType.int)) ∈ lw_all := lw_g (lw_at lw_m9 51 rfl) rfl
theorem q2070 : (Jvm.Cond.methodLink "IdealCourtModel" (423 : Nat) ({ cls := "IdealCourtModel$Sum", name := "clear", desc := "()V" } : Jvm.MethodName)) ∈ lw_all := lw_g (lw_at lw_m9 52 rfl) rfl
theorem q2074 : (Jvm.Cond.methodLink "IdealCourtModel" (426 : Nat) ({ cls := "IdealCourtModel", name := "gatherAll", desc := "(LIdealCourtModel$Sum;LIdealCourtModel$Poly;I)Z" } : Jvm.MethodName)) ∈ lw_all := lw_g (lw_at lw_m9 56 rfl) rfl
theorem q2075 : (Jvm.Cond.privateMethod ({ cls := "IdealCourtModel", name := "gatherAll", desc := "(LIdealCourtModel$Sum;LIdealCourtModel$Poly;I)Z" } : Jvm.MethodName)) ∈ lw_tbl := lw_at lw_m9 57 rfl
theorem q2076 : (Jvm.Cond.instanceMethod ({ cls := "IdealCourtModel", name := "gatherAll", desc := "(LIdealCourtModel$Sum;LIdealCourtModel$Poly;I)Z" } : Jvm.MethodName)) ∈ lw_all := lw_g (lw_at lw_m9 58 rfl) rfl
theorem q2077 : (Jvm.Cond.code ({ cls := "IdealCourtModel", name := "gatherAll", desc := "(LIdealCourtModel$Sum;LIdealCourtModel$Poly;I)Z" } : Jvm.MethodName) prog_21_method_18_code (5 : Nat) (Option.some Jvm.ClassFile.FieldType.boolean)) ∈ lw_all := lw_g (lw_at lw_m9 59 rfl) rfl
theorem q2078 : (Jvm.Cond.methodLink "IdealCourtModel" (172 : Nat) ({ cls := "IdealCourtModel", name := "gather", desc := "(LIdealCourtModel$Sum;ILIdealCourtModel$Num;LIdealCourtModel$Num;I)Z" } : Jvm.MethodName)) ∈ lw_all := lw_g (lw_at lw_m9 60 rfl) rfl
theorem q2079 : (Jvm.Cond.privateMethod ({ cls := "IdealCourtModel", name := "gather", desc := "(LIdealCourtModel$Sum;ILIdealCourtModel$Num;LIdealCourtModel$Num;I)Z" } : Jvm.MethodName)) ∈ lw_tbl := lw_at lw_m9 61 rfl
theorem q2080 : (Jvm.Cond.instanceMethod ({ cls := "IdealCourtModel", name := "gather", desc := "(LIdealCourtModel$Sum;ILIdealCourtModel$Num;LIdealCourtModel$Num;I)Z" } : Jvm.MethodName)) ∈ lw_all := lw_g (lw_at lw_m9 62 rfl) rfl
theorem q2081 : (Jvm.Cond.code ({ cls := "IdealCourtModel", name := "gather", desc := "(LIdealCourtModel$Sum;ILIdealCourtModel$Num;LIdealCourtModel$Num;I)Z" } : Jvm.MethodName) prog_21_method_17_code (7 : Nat) (Option.some Jvm.ClassFile.FieldType.boolean)) ∈ lw_all := lw_g (lw_at lw_m9 63 rfl) rfl
theorem q2082 : (Jvm.Cond.methodLink "IdealCourtModel" (137 : Nat) ({ cls := "IdealCourtModel$Sum", name := "place", desc := "(I)I" } : Jvm.MethodName)) ∈ lw_all := lw_g (lw_at lw_m9 64 rfl) rfl
theorem q2091 : (Jvm.Cond.methodLink "IdealCourtModel" (18 : Nat) ({ cls := "IdealCourtModel$Num", name := "copy", desc := "(LIdealCourtModel$Num;)V" } : Jvm.MethodName)) ∈ lw_all := lw_g (lw_at lw_m9 73 rfl) rfl
theorem q2092 : (Jvm.Cond.methodLink "IdealCourtModel" (155 : Nat) ({ cls := "IdealCourtModel", name := "fractionAdd", desc := "(LIdealCourtModel$Num;LIdealCourtModel$Num;LIdealCourtModel$Num;LIdealCourtModel$Num;I)V" } : Jvm.MethodName)) ∈ lw_all := lw_g (lw_at lw_m9 74 rfl) rfl
theorem q2093 : (Jvm.Cond.privateMethod ({ cls := "IdealCourtModel", name := "fractionAdd", desc := "(LIdealCourtModel$Num;LIdealCourtModel$Num;LIdealCourtModel$Num;LIdealCourtModel$Num;I)V" } : Jvm.MethodName)) ∈ lw_tbl := lw_at lw_m9 75 rfl
theorem q2094 : (Jvm.Cond.instanceMethod ({ cls := "IdealCourtModel", name := "fractionAdd", desc := "(LIdealCourtModel$Num;LIdealCourtModel$Num;LIdealCourtModel$Num;LIdealCourtModel$Num;I)V" } : Jvm.MethodName)) ∈ lw_all := lw_g (lw_at lw_m9 76 rfl) rfl
theorem q2095 : (Jvm.Cond.code ({ cls := "IdealCourtModel", name := "fractionAdd", desc := "(LIdealCourtModel$Num;LIdealCourtModel$Num;LIdealCourtModel$Num;LIdealCourtModel$Num;I)V" } : Jvm.MethodName) prog_21_method_10_code (6 : Nat) (Option.none : Option Jvm.ClassFile.FieldType)) ∈ lw_all := lw_g (lw_at lw_m9 77 rfl) rfl
theorem q2096 : (Jvm.Cond.methodLink "IdealCourtModel" (105 : Nat) ({ cls := "IdealCourtModel", name := "multiply", desc := "(LIdealCourtModel$Num;LIdealCourtModel$Num;LIdealCourtModel$Num;)V" } : Jvm.MethodName)) ∈ lw_all := lw_g (lw_at lw_m9 78 rfl) rfl
theorem q2097 : (Jvm.Cond.privateMethod ({ cls := "IdealCourtModel", name := "multiply", desc := "(LIdealCourtModel$Num;LIdealCourtModel$Num;LIdealCourtModel$Num;)V" } : Jvm.MethodName)) ∈ lw_tbl := lw_at lw_m9 79 rfl
theorem q2098 : (Jvm.Cond.instanceMethod ({ cls := "IdealCourtModel", name := "multiply", desc := "(LIdealCourtModel$Num;LIdealCourtModel$Num;LIdealCourtModel$Num;)V" } : Jvm.MethodName)) ∈ lw_all := lw_g (lw_at lw_m9 80 rfl) rfl
theorem q2099 : (Jvm.Cond.code ({ cls := "IdealCourtModel", name := "multiply", desc := "(LIdealCourtModel$Num;LIdealCourtModel$Num;LIdealCourtModel$Num;)V" } : Jvm.MethodName) prog_21_method_5_code (9 : Nat) (Option.none : Option Jvm.ClassFile.FieldType)) ∈ lw_all := lw_g (lw_at lw_m9 81 rfl) rfl
theorem q2100 : (Jvm.Cond.constantLong "IdealCourtModel" (30 : Nat) (1000000000 : Int64)) ∈ lw_all := lw_g (lw_at lw_m9 82 rfl) rfl
theorem q2101 : (Jvm.Cond.methodLink "IdealCourtModel" (111 : Nat) ({ cls := "IdealCourtModel", name := "add", desc := "(LIdealCourtModel$Num;LIdealCourtModel$Num;LIdealCourtModel$Num;I)V" } : Jvm.MethodName)) ∈ lw_all := lw_g (lw_at lw_m9 83 rfl) rfl
theorem q2102 : (Jvm.Cond.static ({ cls := "IdealCourtModel", name := "add", desc := "(LIdealCourtModel$Num;LIdealCourtModel$Num;LIdealCourtModel$Num;I)V" } : Jvm.MethodName)) ∈ lw_all := lw_g (lw_at lw_m9 84 rfl) rfl
theorem q2103 : (Jvm.Cond.code ({ cls := "IdealCourtModel", name := "add", desc := "(LIdealCourtModel$Num;LIdealCourtModel$Num;LIdealCourtModel$Num;I)V" } : Jvm.MethodName) prog_21_method_4_code (16 : Nat) (Option.none : Option Jvm.ClassFile.FieldType)) ∈ lw_all := lw_g (lw_at lw_m9 85 rfl) rfl
theorem q2104 : (Jvm.Cond.methodLink "IdealCourtModel" (22 : Nat) ({ cls := "java/lang/Math", name := "max", desc := "(II)I" } : Jvm.MethodName)) ∈ lw_all := lw_g (lw_at lw_m9 86 rfl) rfl
theorem q2105 : (Jvm.Cond.methodLink "IdealCourtModel" (32 : Nat) ({ cls := "IdealCourtModel", name := "compare", desc := "(LIdealCourtModel$Num;LIdealCourtModel$Num;)I" } : Jvm.MethodName)) ∈ lw_all := lw_g (lw_at lw_m9 87 rfl) rfl
theorem q2106 : (Jvm.Cond.static ({ cls := "IdealCourtModel", name := "compare", desc := "(LIdealCourtModel$Num;LIdealCourtModel$Num;)I" } : Jvm.MethodName)) ∈ lw_all := lw_g (lw_at lw_m9 88 rfl) rfl
theorem q2107 : (Jvm.Cond.code ({ cls := "IdealCourtModel", name := "compare", desc := "(LIdealCourtModel$Num;LIdealCourtModel$Num;)I" } : Jvm.MethodName) prog_21_method_2_code (3 : Nat) (Option.some Jvm.ClassFile.FieldType.int)) ∈ lw_all := lw_g (lw_at lw_m9 89 rfl) rfl
theorem q2108 : (Jvm.Cond.methodLink "IdealCourtModel" (36 : Nat) ({ cls := "IdealCourtModel", name := "trim", desc := "(LIdealCourtModel$Num;I)V" } : Jvm.MethodName)) ∈ lw_all := lw_g (lw_at lw_m9 90 rfl) rfl
theorem q2109 : (Jvm.Cond.static ({ cls := "IdealCourtModel", name := "trim", desc := "(LIdealCourtModel$Num;I)V" } : Jvm.MethodName)) ∈ lw_all := lw_g (lw_at lw_m9 91 rfl) rfl
theorem q2110 : (Jvm.Cond.code ({ cls := "IdealCourtModel", name := "trim", desc := "(LIdealCourtModel$Num;I)V" } : Jvm.MethodName) prog_21_method_3_code (2 : Nat) (Option.none : Option Jvm.ClassFile.FieldType)) ∈ lw_all := lw_g (lw_at lw_m9 92 rfl) rfl
theorem q2111 : (Jvm.Cond.methodLink "IdealCourtModel" (115 : Nat) ({ cls := "IdealCourtModel", name := "lowest", desc := "(LIdealCourtModel$Num;LIdealCourtModel$Num;)V" } : Jvm.MethodName)) ∈ lw_all := lw_g (lw_at lw_m9 93 rfl) rfl
theorem q2112 : (Jvm.Cond.privateMethod ({ cls := "IdealCourtModel", name := "lowest", desc := "(LIdealCourtModel$Num;LIdealCourtModel$Num;)V" } : Jvm.MethodName)) ∈ lw_tbl := lw_at lw_m9 94 rfl
theorem q2113 : (Jvm.Cond.instanceMethod ({ cls := "IdealCourtModel", name := "lowest", desc := "(LIdealCourtModel$Num;LIdealCourtModel$Num;)V" } : Jvm.MethodName)) ∈ lw_all := lw_g (lw_at lw_m9 95 rfl) rfl
theorem q2114 : (Jvm.Cond.code ({ cls := "IdealCourtModel", name := "lowest", desc := "(LIdealCourtModel$Num;LIdealCourtModel$Num;)V" } : Jvm.MethodName) prog_21_method_9_code (3 : Nat) (Option.none : Option Jvm.ClassFile.FieldType)) ∈ lw_all := lw_g (lw_at lw_m9 96 rfl) rfl
theorem q2115 : (Jvm.Cond.methodLink "IdealCourtModel" (83 : Nat) ({ cls := "IdealCourtModel$Num", name := "set", desc := "(J)V" } : Jvm.MethodName)) ∈ lw_all := lw_g (lw_at lw_m9 97 rfl) rfl
theorem q2116 : (Jvm.Cond.methodLink "IdealCourtModel" (91 : Nat) ({ cls := "IdealCourtModel$Num", name := "isOne", desc := "()Z" } : Jvm.MethodName)) ∈ lw_all := lw_g (lw_at lw_m9 98 rfl) rfl
theorem q2120 : (Jvm.Cond.methodLink "IdealCourtModel" (98 : Nat) ({ cls := "IdealCourtModel", name := "gcd", desc := "(LIdealCourtModel$Num;LIdealCourtModel$Num;LIdealCourtModel$Num;)V" } : Jvm.MethodName)) ∈ lw_all := lw_g (lw_at lw_m9 102 rfl) rfl
theorem q2121 : (Jvm.Cond.privateMethod ({ cls := "IdealCourtModel", name := "gcd", desc := "(LIdealCourtModel$Num;LIdealCourtModel$Num;LIdealCourtModel$Num;)V" } : Jvm.MethodName)) ∈ lw_tbl := lw_at lw_m9 103 rfl
theorem q2122 : (Jvm.Cond.instanceMethod ({ cls := "IdealCourtModel", name := "gcd", desc := "(LIdealCourtModel$Num;LIdealCourtModel$Num;LIdealCourtModel$Num;)V" } : Jvm.MethodName)) ∈ lw_all := lw_g (lw_at lw_m9 104 rfl) rfl
theorem q2123 : (Jvm.Cond.code ({ cls := "IdealCourtModel", name := "gcd", desc := "(LIdealCourtModel$Num;LIdealCourtModel$Num;LIdealCourtModel$Num;)V" } : Jvm.MethodName) prog_21_method_8_code (13 : Nat) (Option.none : Option Jvm.ClassFile.FieldType)) ∈ lw_all := lw_g (lw_at lw_m9 105 rfl) rfl
theorem q2124 : (Jvm.Cond.methodLink "IdealCourtModel" (75 : Nat) ({ cls := "IdealCourtModel$Num", name := "plain", desc := "()J" } : Jvm.MethodName)) ∈ lw_all := lw_g (lw_at lw_m9 106 rfl) rfl
theorem q2128 : (Jvm.Cond.methodLink "IdealCourtModel" (79 : Nat) ({ cls := "java/lang/Math", name := "abs", desc := "(J)J" } : Jvm.MethodName)) ∈ lw_all := lw_g (lw_at lw_m9 110 rfl) rfl
theorem q2131 : (Jvm.Cond.methodLink "IdealCourtModel" (87 : Nat) ({ cls := "IdealCourtModel", name := "divide", desc := "(LIdealCourtModel$Num;LIdealCourtModel$Num;LIdealCourtModel$Num;LIdealCourtModel$Num;)V" } : Jvm.MethodName)) ∈ lw_all := lw_g (lw_at lw_m9 113 rfl) rfl
theorem q2132 : (Jvm.Cond.privateMethod ({ cls := "IdealCourtModel", name := "divide", desc := "(LIdealCourtModel$Num;LIdealCourtModel$Num;LIdealCourtModel$Num;LIdealCourtModel$Num;)V" } : Jvm.MethodName)) ∈ lw_tbl := lw_at lw_m9 114 rfl
theorem q2133 : (Jvm.Cond.instanceMethod ({ cls := "IdealCourtModel", name := "divide", desc := "(LIdealCourtModel$Num;LIdealCourtModel$Num;LIdealCourtModel$Num;LIdealCourtModel$Num;)V" } : Jvm.MethodName)) ∈ lw_all := lw_g (lw_at lw_m9 115 rfl) rfl
theorem q2134 : (Jvm.Cond.code ({ cls := "IdealCourtModel", name := "divide", desc := "(LIdealCourtModel$Num;LIdealCourtModel$Num;LIdealCourtModel$Num;LIdealCourtModel$Num;)V" } : Jvm.MethodName) prog_21_method_6_code (16 : Nat) (Option.none : Option Jvm.ClassFile.FieldType)) ∈ lw_all := lw_g (lw_at lw_m9 116 rfl) rfl
theorem q2135 : (Jvm.Cond.methodLink "IdealCourtModel" (52 : Nat) ({ cls := "IdealCourtModel", name := "step", desc := "(II)J" } : Jvm.MethodName)) ∈ lw_all := lw_g (lw_at lw_m9 117 rfl) rfl
theorem q2136 : (Jvm.Cond.privateMethod ({ cls := "IdealCourtModel", name := "step", desc := "(II)J" } : Jvm.MethodName)) ∈ lw_tbl := lw_at lw_m9 118 rfl
theorem q2137 : (Jvm.Cond.instanceMethod ({ cls := "IdealCourtModel", name := "step", desc := "(II)J" } : Jvm.MethodName)) ∈ lw_all := lw_g (lw_at lw_m9 119 rfl) rfl
theorem q2138 : (Jvm.Cond.code ({ cls := "IdealCourtModel", name := "step", desc := "(II)J" } : Jvm.MethodName) prog_21_method_7_code (12 : Nat) (Option.some Jvm.ClassFile.FieldType.long)) ∈ lw_all := lw_g (lw_at lw_m9 120 rfl) rfl
theorem q2139 : (Jvm.Cond.constantLong "IdealCourtModel" (56 : Nat) (999999999 : Int64)) ∈ lw_all := lw_g (lw_at lw_m9 121 rfl) rfl
theorem q2140 : (Jvm.Cond.methodLink "IdealCourtModel" (58 : Nat) ({ cls := "java/lang/Math", name := "min", desc := "(JJ)J" } : Jvm.MethodName)) ∈ lw_all := lw_g (lw_at lw_m9 122 rfl) rfl
theorem q2143 : (Jvm.Cond.methodLink "IdealCourtModel" (62 : Nat) ({ cls := "java/lang/Math", name := "floorMod", desc := "(JJ)J" } : Jvm.MethodName)) ∈ lw_all := lw_g (lw_at lw_m9 125 rfl) rfl
theorem q2146 : (Jvm.Cond.methodLink "IdealCourtModel" (159 : Nat) ({ cls := "IdealCourtModel$Num", name := "isBeyond", desc := "()Z" } : Jvm.MethodName)) ∈ lw_all := lw_g (lw_at lw_m9 128 rfl) rfl
theorem q2150 : (Jvm.Cond.methodLink "IdealCourtModel" (430 : Nat) ({ cls := "IdealCourtModel", name := "standSum", desc := "(IZ)I" } : Jvm.MethodName)) ∈ lw_all := lw_g (lw_at lw_m9 132 rfl) rfl
theorem q2151 : (Jvm.Cond.privateMethod ({ cls := "IdealCourtModel", name := "standSum", desc := "(IZ)I" } : Jvm.MethodName)) ∈ lw_tbl := lw_at lw_m9 133 rfl
theorem q2152 : (Jvm.Cond.instanceMethod ({ cls := "IdealCourtModel", name := "standSum", desc := "(IZ)I" } : Jvm.MethodName)) ∈ lw_all := lw_g (lw_at lw_m9 134 rfl) rfl
theorem q2153 : (Jvm.Cond.code ({ cls := "IdealCourtModel", name := "standSum", desc := "(IZ)I" } : Jvm.MethodName) prog_21_method_27_code (3 : Nat) (Option.some Jvm.ClassFile.FieldType.int)) ∈ lw_all := lw_g (lw_at lw_m9 135 rfl) rfl
theorem q2154 : (Jvm.Cond.methodLink "IdealCourtModel" (403 : Nat) ({ cls := "IdealCourtModel$Sum", name := "terms", desc := "()I" } : Jvm.MethodName)) ∈ lw_all := lw_g (lw_at lw_m9 136 rfl) rfl
theorem q2158 : (Jvm.Cond.methodLink "IdealCourtModel" (410 : Nat) ({ cls := "IdealCourtModel$Sum", name := "to", desc := "(LIdealCourtModel$Poly;)V" } : Jvm.MethodName)) ∈ lw_all := lw_g (lw_at lw_m9 140 rfl) rfl
theorem q2163 : (Jvm.Cond.static ({ cls := "IdealCourtModel", name := "lex", desc := "(II)I" } : Jvm.MethodName)) ∈ lw_all := lw_g (lw_at lw_m9 145 rfl) rfl
theorem q2164 : (Jvm.Cond.code ({ cls := "IdealCourtModel", name := "lex", desc := "(II)I" } : Jvm.MethodName) prog_21_method_13_code (3 : Nat) (Option.some Jvm.ClassFile.FieldType.int)) ∈ lw_all := lw_g (lw_at lw_m9 146 rfl) rfl
theorem q2167 : (Jvm.Cond.instanceMethod ({ cls := "IdealCourtModel", name := "add", desc := "(III)I" } : Jvm.MethodName)) ∈ lw_all := lw_g (lw_at lw_m9 149 rfl) rfl
theorem q2168 : (Jvm.Cond.selects "IdealCourtModel" ({ cls := "IdealCourtModel", name := "add", desc := "(III)I" } : Jvm.MethodName) ({ cls := "IdealCourtModel", name := "add", desc := "(III)I" } : Jvm.MethodName)) ∈ lw_all := lw_g (lw_at lw_m9 150 rfl) rfl
theorem q2169 : (Jvm.Cond.code ({ cls := "IdealCourtModel", name := "add", desc := "(III)I" } : Jvm.MethodName) prog_21_method_32_code (4 : Nat) (Option.some Jvm.ClassFile.FieldType.int)) ∈ lw_all := lw_g (lw_at lw_m9 151 rfl) rfl
theorem q2170 : (Jvm.Cond.methodLink "IdealCourtModel" (438 : Nat) ({ cls := "IdealCourtModel", name := "joined", desc := "(IIII)I" } : Jvm.MethodName)) ∈ lw_all := lw_g (lw_at lw_m9 152 rfl) rfl
theorem q2171 : (Jvm.Cond.privateMethod ({ cls := "IdealCourtModel", name := "joined", desc := "(IIII)I" } : Jvm.MethodName)) ∈ lw_tbl := lw_at lw_m9 153 rfl
theorem q2172 : (Jvm.Cond.instanceMethod ({ cls := "IdealCourtModel", name := "joined", desc := "(IIII)I" } : Jvm.MethodName)) ∈ lw_all := lw_g (lw_at lw_m9 154 rfl) rfl
theorem q2173 : (Jvm.Cond.code ({ cls := "IdealCourtModel", name := "joined", desc := "(IIII)I" } : Jvm.MethodName) prog_21_method_31_code (7 : Nat) (Option.some Jvm.ClassFile.FieldType.int)) ∈ lw_all := lw_g (lw_at lw_m9 155 rfl) rfl
theorem q2174 : (Jvm.Cond.methodLink "IdealCourtModel" (434 : Nat) ({ cls := "IdealCourtModel", name := "firstOf", desc := "(III)I" } : Jvm.MethodName)) ∈ lw_all := lw_g (lw_at lw_m9 156 rfl) rfl
theorem q2175 : (Jvm.Cond.static ({ cls := "IdealCourtModel", name := "firstOf", desc := "(III)I" } : Jvm.MethodName)) ∈ lw_all := lw_g (lw_at lw_m9 157 rfl) rfl
theorem q2176 : (Jvm.Cond.code ({ cls := "IdealCourtModel", name := "firstOf", desc := "(III)I" } : Jvm.MethodName) prog_21_method_25_code (3 : Nat) (Option.some Jvm.ClassFile.FieldType.int)) ∈ lw_all := lw_g (lw_at lw_m9 158 rfl) rfl
theorem q2178 : (Jvm.Cond.instanceMethod ({ cls := "IdealCourtModel", name := "less", desc := "(III)I" } : Jvm.MethodName)) ∈ lw_all := lw_g (lw_at lw_m9 160 rfl) rfl
theorem q2179 : (Jvm.Cond.selects "IdealCourtModel" ({ cls := "IdealCourtModel", name := "less", desc := "(III)I" } : Jvm.MethodName) ({ cls := "IdealCourtModel", name := "less", desc := "(III)I" } : Jvm.MethodName)) ∈ lw_all := lw_g (lw_at lw_m9 161 rfl) rfl
theorem q2180 : (Jvm.Cond.code ({ cls := "IdealCourtModel", name := "less", desc := "(III)I" } : Jvm.MethodName) prog_21_method_33_code (4 : Nat) (Option.some Jvm.ClassFile.FieldType.int)) ∈ lw_all := lw_g (lw_at lw_m9 162 rfl) rfl
theorem q2182 : (Jvm.Cond.instanceMethod ({ cls := "IdealCourtModel", name := "times", desc := "(III)I" } : Jvm.MethodName)) ∈ lw_all := lw_g (lw_at lw_m9 164 rfl) rfl
theorem q2183 : (Jvm.Cond.selects "IdealCourtModel" ({ cls := "IdealCourtModel", name := "times", desc := "(III)I" } : Jvm.MethodName) ({ cls := "IdealCourtModel", name := "times", desc := "(III)I" } : Jvm.MethodName)) ∈ lw_all := lw_g (lw_at lw_m9 165 rfl) rfl
theorem q2184 : (Jvm.Cond.code ({ cls := "IdealCourtModel", name := "times", desc := "(III)I" } : Jvm.MethodName) prog_21_method_34_code (10 : Nat) (Option.some Jvm.ClassFile.FieldType.int)) ∈ lw_all := lw_g (lw_at lw_m9 166 rfl) rfl
theorem q2185 : (Jvm.Cond.methodLink "IdealCourtModel" (441 : Nat) ({ cls := "IdealCourtModel$Poly", name := "degree", desc := "()I" } : Jvm.MethodName)) ∈ lw_all := lw_g (lw_at lw_m9 167 rfl) rfl
theorem q2192 : (Jvm.Cond.instanceMethod ({ cls := "IdealCourtModel", name := "part", desc := "(IIII)I" } : Jvm.MethodName)) ∈ lw_all := lw_g (lw_at lw_m9 174 rfl) rfl
theorem q2193 : (Jvm.Cond.selects "IdealCourtModel" ({ cls := "IdealCourtModel", name := "part", desc := "(IIII)I" } : Jvm.MethodName) ({ cls := "IdealCourtModel", name := "part", desc := "(IIII)I" } : Jvm.MethodName)) ∈ lw_all := lw_g (lw_at lw_m9 175 rfl) rfl
theorem q2194 : (Jvm.Cond.code ({ cls := "IdealCourtModel", name := "part", desc := "(IIII)I" } : Jvm.MethodName) prog_21_method_35_code (7 : Nat) (Option.some Jvm.ClassFile.FieldType.int)) ∈ lw_all := lw_g (lw_at lw_m9 176 rfl) rfl
theorem q2195 : (Jvm.Cond.methodLink "IdealCourtModel" (444 : Nat) ({ cls := "IdealCourtModel", name := "firstOf", desc := "(II)I" } : Jvm.MethodName)) ∈ lw_all := lw_g (lw_at lw_m9 177 rfl) rfl
theorem q2196 : (Jvm.Cond.static ({ cls := "IdealCourtModel", name := "firstOf", desc := "(II)I" } : Jvm.MethodName)) ∈ lw_all := lw_g (lw_at lw_m9 178 rfl) rfl
theorem q2197 : (Jvm.Cond.code ({ cls := "IdealCourtModel", name := "firstOf", desc := "(II)I" } : Jvm.MethodName) prog_21_method_24_code (2 : Nat) (Option.some Jvm.ClassFile.FieldType.int)) ∈ lw_all := lw_g (lw_at lw_m9 179 rfl) rfl
theorem q2199 : (Jvm.Cond.instanceMethod ({ cls := "IdealCourtModel", name := "size", desc := "(IZ)I" } : Jvm.MethodName)) ∈ lw_all := lw_g (lw_at lw_m9 181 rfl) rfl
theorem q2200 : (Jvm.Cond.selects "IdealCourtModel" ({ cls := "IdealCourtModel", name := "size", desc := "(IZ)I" } : Jvm.MethodName) ({ cls := "IdealCourtModel", name := "size", desc := "(IZ)I" } : Jvm.MethodName)) ∈ lw_all := lw_g (lw_at lw_m9 182 rfl) rfl
theorem q2201 : (Jvm.Cond.code ({ cls := "IdealCourtModel", name := "size", desc := "(IZ)I" } : Jvm.MethodName) prog_21_method_36_code (4 : Nat) (Option.some Jvm.ClassFile.FieldType.int)) ∈ lw_all := lw_g (lw_at lw_m9 183 rfl) rfl
theorem q2203 : (Jvm.Cond.instanceMethod ({ cls := "IdealCourtModel", name := "lead", desc := "(II)I" } : Jvm.MethodName)) ∈ lw_all := lw_g (lw_at lw_m9 185 rfl) rfl
theorem q2204 : (Jvm.Cond.selects "IdealCourtModel" ({ cls := "IdealCourtModel", name := "lead", desc := "(II)I" } : Jvm.MethodName) ({ cls := "IdealCourtModel", name := "lead", desc := "(II)I" } : Jvm.MethodName)) ∈ lw_all := lw_g (lw_at lw_m9 186 rfl) rfl
theorem q2205 : (Jvm.Cond.code ({ cls := "IdealCourtModel", name := "lead", desc := "(II)I" } : Jvm.MethodName) prog_21_method_37_code (4 : Nat) (Option.some Jvm.ClassFile.FieldType.int)) ∈ lw_all := lw_g (lw_at lw_m9 187 rfl) rfl
theorem q2206 : (Jvm.Cond.methodLink "IdealCourtModel" (446 : Nat) ({ cls := "IdealCourtModel$Poly", name := "lead", desc := "(II)I" } : Jvm.MethodName)) ∈ lw_all := lw_g (lw_at lw_m9 188 rfl) rfl
theorem q2211 : (Jvm.Cond.static ({ cls := "IdealCourtModel", name := "compareTerms", desc := "(IIII)I" } : Jvm.MethodName)) ∈ lw_all := lw_g (lw_at lw_m9 193 rfl) rfl
theorem q2212 : (Jvm.Cond.code ({ cls := "IdealCourtModel", name := "compareTerms", desc := "(IIII)I" } : Jvm.MethodName) prog_21_method_15_code (5 : Nat) (Option.some Jvm.ClassFile.FieldType.int)) ∈ lw_all := lw_g (lw_at lw_m9 194 rfl) rfl
theorem q2213 : (Jvm.Cond.methodLink "IdealCourtModel" (122 : Nat) ({ cls := "IdealCourtModel", name := "lex", desc := "(II)I" } : Jvm.MethodName)) ∈ lw_all := lw_g (lw_at lw_m9 195 rfl) rfl
theorem q2214 : (Jvm.Cond.methodLink "IdealCourtModel" (129 : Nat) ({ cls := "java/lang/Integer", name := "compare", desc := "(II)I" } : Jvm.MethodName)) ∈ lw_all := lw_g (lw_at lw_m9 196 rfl) rfl
theorem q2217 : (Jvm.Cond.methodLink "IdealCourtModel" (133 : Nat) ({ cls := "IdealCourtModel", name := "reverse", desc := "(IIII)I" } : Jvm.MethodName)) ∈ lw_all := lw_g (lw_at lw_m9 199 rfl) rfl
theorem q2218 : (Jvm.Cond.static ({ cls := "IdealCourtModel", name := "reverse", desc := "(IIII)I" } : Jvm.MethodName)) ∈ lw_all := lw_g (lw_at lw_m9 200 rfl) rfl
theorem q2219 : (Jvm.Cond.code ({ cls := "IdealCourtModel", name := "reverse", desc := "(IIII)I" } : Jvm.MethodName) prog_21_method_14_code (7 : Nat) (Option.some Jvm.ClassFile.FieldType.int)) ∈ lw_all := lw_g (lw_at lw_m9 201 rfl) rfl
theorem q2221 : (Jvm.Cond.instanceMethod ({ cls := "IdealCourtModel", name := "write", desc := "(II)I" } : Jvm.MethodName)) ∈ lw_all := lw_g (lw_at lw_m9 203 rfl) rfl
theorem q2222 : (Jvm.Cond.selects "IdealCourtModel" ({ cls := "IdealCourtModel", name := "write", desc := "(II)I" } : Jvm.MethodName) ({ cls := "IdealCourtModel", name := "write", desc := "(II)I" } : Jvm.MethodName)) ∈ lw_all := lw_g (lw_at lw_m9 204 rfl) rfl
theorem q2223 : (Jvm.Cond.code ({ cls := "IdealCourtModel", name := "write", desc := "(II)I" } : Jvm.MethodName) prog_21_method_45_code (4 : Nat) (Option.some Jvm.ClassFile.FieldType.int)) ∈ lw_all := lw_g (lw_at lw_m9 205 rfl) rfl
theorem q2224 : (Jvm.Cond.methodLink "IdealCourtModel" (478 : Nat) ({ cls := "IdealCourtModel", name := "putPoly", desc := "(LIdealCourtModel$Poly;II)V" } : Jvm.MethodName)) ∈ lw_all := lw_g (lw_at lw_m9 206 rfl) rfl
theorem q2225 : (Jvm.Cond.privateMethod ({ cls := "IdealCourtModel", name := "putPoly", desc := "(LIdealCourtModel$Poly;II)V" } : Jvm.MethodName)) ∈ lw_tbl := lw_at lw_m9 207 rfl
theorem q2226 : (Jvm.Cond.instanceMethod ({ cls := "IdealCourtModel", name := "putPoly", desc := "(LIdealCourtModel$Poly;II)V" } : Jvm.MethodName)) ∈ lw_all := lw_g (lw_at lw_m9 208 rfl) rfl
theorem q2227 : (Jvm.Cond.code ({ cls := "IdealCourtModel", name := "putPoly", desc := "(LIdealCourtModel$Poly;II)V" } : Jvm.MethodName) prog_21_method_42_code (7 : Nat) (Option.none : Option Jvm.ClassFile.FieldType)) ∈ lw_all := lw_g (lw_at lw_m9 209 rfl) rfl
theorem q2228 : (Jvm.Cond.methodLink "IdealCourtModel" (459 : Nat) ({ cls := "IdealCourtModel", name := "compareTerms", desc := "(IIII)I" } : Jvm.MethodName)) ∈ lw_all := lw_g (lw_at lw_m9 210 rfl) rfl
theorem q2229 : (Jvm.Cond.methodLink "IdealCourtModel" (462 : Nat) ({ cls := "IdealCourtModel", name := "putTerm", desc := "(ILIdealCourtModel$Num;LIdealCourtModel$Num;)V" } : Jvm.MethodName)) ∈ lw_all := lw_g (lw_at lw_m9 211 rfl) rfl
theorem q2230 : (Jvm.Cond.privateMethod ({ cls := "IdealCourtModel", name := "putTerm", desc := "(ILIdealCourtModel$Num;LIdealCourtModel$Num;)V" } : Jvm.MethodName)) ∈ lw_tbl := lw_at lw_m9 212 rfl
theorem q2231 : (Jvm.Cond.instanceMethod ({ cls := "IdealCourtModel", name := "putTerm", desc := "(ILIdealCourtModel$Num;LIdealCourtModel$Num;)V" } : Jvm.MethodName)) ∈ lw_all := lw_g (lw_at lw_m9 213 rfl) rfl
theorem q2232 : (Jvm.Cond.code ({ cls := "IdealCourtModel", name := "putTerm", desc := "(ILIdealCourtModel$Num;LIdealCourtModel$Num;)V" } : Jvm.MethodName) prog_21_method_41_code (7 : Nat) (Option.none : Option Jvm.ClassFile.FieldType)) ∈ lw_all := lw_g (lw_at lw_m9 214 rfl) rfl
theorem q2233 : (Jvm.Cond.methodLink "IdealCourtModel" (449 : Nat) ({ cls := "IdealCourtModel", name := "put", desc := "(I)V" } : Jvm.MethodName)) ∈ lw_all := lw_g (lw_at lw_m9 215 rfl) rfl
theorem q2234 : (Jvm.Cond.privateMethod ({ cls := "IdealCourtModel", name := "put", desc := "(I)V" } : Jvm.MethodName)) ∈ lw_tbl := lw_at lw_m9 216 rfl
theorem q2235 : (Jvm.Cond.instanceMethod ({ cls := "IdealCourtModel", name := "put", desc := "(I)V" } : Jvm.MethodName)) ∈ lw_all := lw_g (lw_at lw_m9 217 rfl) rfl
theorem q2236 : (Jvm.Cond.code ({ cls := "IdealCourtModel", name := "put", desc := "(I)V" } : Jvm.MethodName) prog_21_method_38_code (2 : Nat) (Option.none : Option Jvm.ClassFile.FieldType)) ∈ lw_all := lw_g (lw_at lw_m9 218 rfl) rfl
theorem q2237 : (Jvm.Cond.methodLink "IdealCourtModel" (456 : Nat) ({ cls := "IdealCourtModel", name := "putFraction", desc := "(LIdealCourtModel$Num;LIdealCourtModel$Num;)V" } : Jvm.MethodName)) ∈ lw_all := lw_g (lw_at lw_m9 219 rfl) rfl
theorem q2238 : (Jvm.Cond.privateMethod ({ cls := "IdealCourtModel", name := "putFraction", desc := "(LIdealCourtModel$Num;LIdealCourtModel$Num;)V" } : Jvm.MethodName)) ∈ lw_tbl := lw_at lw_m9 220 rfl
theorem q2239 : (Jvm.Cond.instanceMethod ({ cls := "IdealCourtModel", name := "putFraction", desc := "(LIdealCourtModel$Num;LIdealCourtModel$Num;)V" } : Jvm.MethodName)) ∈ lw_all := lw_g (lw_at lw_m9 221 rfl) rfl
theorem q2240 : (Jvm.Cond.code ({ cls := "IdealCourtModel", name := "putFraction", desc := "(LIdealCourtModel$Num;LIdealCourtModel$Num;)V" } : Jvm.MethodName) prog_21_method_40_code (3 : Nat) (Option.none : Option Jvm.ClassFile.FieldType)) ∈ lw_all := lw_g (lw_at lw_m9 222 rfl) rfl
theorem q2241 : (Jvm.Cond.methodLink "IdealCourtModel" (453 : Nat) ({ cls := "IdealCourtModel", name := "putSize", desc := "(LIdealCourtModel$Num;)V" } : Jvm.MethodName)) ∈ lw_all := lw_g (lw_at lw_m9 223 rfl) rfl
theorem q2242 : (Jvm.Cond.privateMethod ({ cls := "IdealCourtModel", name := "putSize", desc := "(LIdealCourtModel$Num;)V" } : Jvm.MethodName)) ∈ lw_tbl := lw_at lw_m9 224 rfl
theorem q2243 : (Jvm.Cond.instanceMethod ({ cls := "IdealCourtModel", name := "putSize", desc := "(LIdealCourtModel$Num;)V" } : Jvm.MethodName)) ∈ lw_all := lw_g (lw_at lw_m9 225 rfl) rfl
theorem q2244 : (Jvm.Cond.code ({ cls := "IdealCourtModel", name := "putSize", desc := "(LIdealCourtModel$Num;)V" } : Jvm.MethodName) prog_21_method_39_code (5 : Nat) (Option.none : Option Jvm.ClassFile.FieldType)) ∈ lw_all := lw_g (lw_at lw_m9 226 rfl) rfl
theorem q2245 : (Jvm.Cond.constant "IdealCourtModel" (452 : Nat) (100000000 : Int32)) ∈ lw_all := lw_g (lw_at lw_m9 227 rfl) rfl
theorem q2246 : (Jvm.Cond.stringRef "IdealCourtModel" (482 : Nat) "lex") ∈ lw_tbl := lw_at lw_m9 228 rfl
theorem q2247 : (Jvm.Cond.stringRef "IdealCourtModel" (483 : Nat) "degree") ∈ lw_tbl := lw_at lw_m9 229 rfl
theorem q2248 : (Jvm.Cond.stringRef "IdealCourtModel" (484 : Nat) "reverse") ∈ lw_tbl := lw_at lw_m9 230 rfl
theorem q2249 : (Jvm.Cond.stringRef "IdealCourtModel" (485 : Nat) "block1") ∈ lw_tbl := lw_at lw_m9 231 rfl
theorem q2250 : (Jvm.Cond.stringRef "IdealCourtModel" (487 : Nat) "block2") ∈ lw_tbl := lw_at lw_m9 232 rfl
theorem q2251 : (Jvm.Cond.methodLink "IdealCourtModel" (489 : Nat) ({ cls := "IdealCourtModel", name := "putWord", desc := "(Ljava/lang/String;)V" } : Jvm.MethodName)) ∈ lw_all := lw_g (lw_at lw_m9 233 rfl) rfl
theorem q2252 : (Jvm.Cond.privateMethod ({ cls := "IdealCourtModel", name := "putWord", desc := "(Ljava/lang/String;)V" } : Jvm.MethodName)) ∈ lw_tbl := lw_at lw_m9 234 rfl
theorem q2253 : (Jvm.Cond.instanceMethod ({ cls := "IdealCourtModel", name := "putWord", desc := "(Ljava/lang/String;)V" } : Jvm.MethodName)) ∈ lw_all := lw_g (lw_at lw_m9 235 rfl) rfl
theorem q2254 : (Jvm.Cond.code ({ cls := "IdealCourtModel", name := "putWord", desc := "(Ljava/lang/String;)V" } : Jvm.MethodName) prog_21_method_43_code (3 : Nat) (Option.none : Option Jvm.ClassFile.FieldType)) ∈ lw_all := lw_g (lw_at lw_m9 236 rfl) rfl
theorem q2255 : (Jvm.Cond.methodLink "IdealCourtModel" (466 : Nat) ({ cls := "java/lang/String", name := "length", desc := "()I" } : Jvm.MethodName)) ∈ lw_all := lw_g (lw_at lw_m9 237 rfl) rfl
theorem q2256 : (Jvm.Cond.methodLink "IdealCourtModel" (471 : Nat) ({ cls := "java/lang/String", name := "charAt", desc := "(I)C" } : Jvm.MethodName)) ∈ lw_all := lw_g (lw_at lw_m9 238 rfl) rfl
theorem q2257 : (Jvm.Cond.methodLink "IdealCourtModel" (493 : Nat) ({ cls := "IdealCourtModel", name := "putEnd", desc := "(LIdealCourtModel$Num;I)V" } : Jvm.MethodName)) ∈ lw_all := lw_g (lw_at lw_m9 239 rfl) rfl
theorem q2258 : (Jvm.Cond.privateMethod ({ cls := "IdealCourtModel", name := "putEnd", desc := "(LIdealCourtModel$Num;I)V" } : Jvm.MethodName)) ∈ lw_tbl := lw_at lw_m10 0 rfl
theorem q2259 : (Jvm.Cond.instanceMethod ({ cls := "IdealCourtModel", name := "putEnd", desc := "(LIdealCourtModel$Num;I)V" } : Jvm.MethodName)) ∈ lw_all := lw_g (lw_at lw_m10 1 rfl) rfl
theorem q2260 : (Jvm.Cond.code ({ cls := "IdealCourtModel", name := "putEnd", desc := "(LIdealCourtModel$Num;I)V" } : Jvm.MethodName) prog_21_method_44_code (3 : Nat) (Option.none : Option Jvm.ClassFile.FieldType)) ∈ lw_all := lw_g (lw_at lw_m10 2 rfl) rfl
theorem q2261 : (Jvm.Cond.methodLink "IdealCourtModel" (475 : Nat) ({ cls := "IdealCourtModel", name := "pow", desc := "(LIdealCourtModel$Num;I)V" } : Jvm.MethodName)) ∈ lw_all := lw_g (lw_at lw_m10 3 rfl) rfl
theorem q2262 : (Jvm.Cond.privateMethod ({ cls := "IdealCourtModel", name := "pow", desc := "(LIdealCourtModel$Num;I)V" } : Jvm.MethodName)) ∈ lw_tbl := lw_at lw_m10 4 rfl
theorem q2263 : (Jvm.Cond.instanceMethod ({ cls := "IdealCourtModel", name := "pow", desc := "(LIdealCourtModel$Num;I)V" } : Jvm.MethodName)) ∈ lw_all := lw_g (lw_at lw_m10 5 rfl) rfl
theorem q2264 : (Jvm.Cond.code ({ cls := "IdealCourtModel", name := "pow", desc := "(LIdealCourtModel$Num;I)V" } : Jvm.MethodName) prog_21_method_76_code (4 : Nat) (Option.none : Option Jvm.ClassFile.FieldType)) ∈ lw_all := lw_g (lw_at lw_m10 6 rfl) rfl
theorem q2265 : (Jvm.Cond.constantLong "IdealCourtModel" (591 : Nat) (536870912 : Int64)) ∈ lw_all := lw_g (lw_at lw_m10 7 rfl) rfl
theorem q2266 : (Jvm.Cond.constantLong "IdealCourtModel" (496 : Nat) (2 : Int64)) ∈ lw_all := lw_g (lw_at lw_m10 8 rfl) rfl
theorem q2268 : (Jvm.Cond.instanceMethod ({ cls := "IdealCourtModel", name := "letter", desc := "(I)I" } : Jvm.MethodName)) ∈ lw_all := lw_g (lw_at lw_m10 10 rfl) rfl
theorem q2269 : (Jvm.Cond.selects "IdealCourtModel" ({ cls := "IdealCourtModel", name := "letter", desc := "(I)I" } : Jvm.MethodName) ({ cls := "IdealCourtModel", name := "letter", desc := "(I)I" } : Jvm.MethodName)) ∈ lw_all := lw_g (lw_at lw_m10 11 rfl) rfl
theorem q2270 : (Jvm.Cond.code ({ cls := "IdealCourtModel", name := "letter", desc := "(I)I" } : Jvm.MethodName) prog_21_method_46_code (2 : Nat) (Option.some Jvm.ClassFile.FieldType.int)) ∈ lw_all := lw_g (lw_at lw_m10 12 rfl) rfl
theorem q2272 : (Jvm.Cond.instanceMethod ({ cls := "IdealCourtModel", name := "row", desc := "(I)I" } : Jvm.MethodName)) ∈ lw_all := lw_g (lw_at lw_m10 14 rfl) rfl
theorem q2273 : (Jvm.Cond.selects "IdealCourtModel" ({ cls := "IdealCourtModel", name := "row", desc := "(I)I" } : Jvm.MethodName) ({ cls := "IdealCourtModel", name := "row", desc := "(I)I" } : Jvm.MethodName)) ∈ lw_all := lw_g (lw_at lw_m10 15 rfl) rfl
theorem q2274 : (Jvm.Cond.code ({ cls := "IdealCourtModel", name := "row", desc := "(I)I" } : Jvm.MethodName) prog_21_method_47_code (3 : Nat) (Option.some Jvm.ClassFile.FieldType.int)) ∈ lw_all := lw_g (lw_at lw_m10 16 rfl) rfl
theorem q2276 : (Jvm.Cond.instanceMethod ({ cls := "IdealCourtModel", name := "unrow", desc := "()I" } : Jvm.MethodName)) ∈ lw_all := lw_g (lw_at lw_m10 18 rfl) rfl
theorem q2277 : (Jvm.Cond.selects "IdealCourtModel" ({ cls := "IdealCourtModel", name := "unrow", desc := "()I" } : Jvm.MethodName) ({ cls := "IdealCourtModel", name := "unrow", desc := "()I" } : Jvm.MethodName)) ∈ lw_all := lw_g (lw_at lw_m10 19 rfl) rfl
theorem q2278 : (Jvm.Cond.code ({ cls := "IdealCourtModel", name := "unrow", desc := "()I" } : Jvm.MethodName) prog_21_method_48_code (2 : Nat) (Option.some Jvm.ClassFile.FieldType.int)) ∈ lw_all := lw_g (lw_at lw_m10 20 rfl) rfl
theorem q2280 : (Jvm.Cond.instanceMethod ({ cls := "IdealCourtModel", name := "divide", desc := "(II)I" } : Jvm.MethodName)) ∈ lw_all := lw_g (lw_at lw_m10 22 rfl) rfl
theorem q2281 : (Jvm.Cond.selects "IdealCourtModel" ({ cls := "IdealCourtModel", name := "divide", desc := "(II)I" } : Jvm.MethodName) ({ cls := "IdealCourtModel", name := "divide", desc := "(II)I" } : Jvm.MethodName)) ∈ lw_all := lw_g (lw_at lw_m10 23 rfl) rfl
theorem q2282 : (Jvm.Cond.code ({ cls := "IdealCourtModel", name := "divide", desc := "(II)I" } : Jvm.MethodName) prog_21_method_52_code (5 : Nat) (Option.some Jvm.ClassFile.FieldType.int)) ∈ lw_all := lw_g (lw_at lw_m10 24 rfl) rfl
theorem q2283 : (Jvm.Cond.methodLink "IdealCourtModel" (511 : Nat) ({ cls := "IdealCourtModel", name := "isDivided", desc := "([LIdealCourtModel$Poly;IIIZ)Z" } : Jvm.MethodName)) ∈ lw_all := lw_g (lw_at lw_m10 25 rfl) rfl
theorem q2284 : (Jvm.Cond.privateMethod ({ cls := "IdealCourtModel", name := "isDivided", desc := "([LIdealCourtModel$Poly;IIIZ)Z" } : Jvm.MethodName)) ∈ lw_tbl := lw_at lw_m10 26 rfl
theorem q2285 : (Jvm.Cond.instanceMethod ({ cls := "IdealCourtModel", name := "isDivided", desc := "([LIdealCourtModel$Poly;IIIZ)Z" } : Jvm.MethodName)) ∈ lw_all := lw_g (lw_at lw_m10 27 rfl) rfl
theorem q2286 : (Jvm.Cond.code ({ cls := "IdealCourtModel", name := "isDivided", desc := "([LIdealCourtModel$Poly;IIIZ)Z" } : Jvm.MethodName) prog_21_method_51_code (13 : Nat) (Option.some Jvm.ClassFile.FieldType.boolean)) ∈ lw_all := lw_g (lw_at lw_m10 28 rfl) rfl
theorem q2287 : (Jvm.Cond.methodLink "IdealCourtModel" (501 : Nat) ({ cls := "IdealCourtModel$Sum", name := "lead", desc := "(II)I" } : Jvm.MethodName)) ∈ lw_all := lw_g (lw_at lw_m10 29 rfl) rfl
theorem q2292 : (Jvm.Cond.methodLink "IdealCourtModel" (503 : Nat) ({ cls := "IdealCourtModel", name := "divides", desc := "(II)Z" } : Jvm.MethodName)) ∈ lw_all := lw_g (lw_at lw_m10 34 rfl) rfl
theorem q2293 : (Jvm.Cond.static ({ cls := "IdealCourtModel", name := "divides", desc := "(II)Z" } : Jvm.MethodName)) ∈ lw_all := lw_g (lw_at lw_m10 35 rfl) rfl
theorem q2294 : (Jvm.Cond.code ({ cls := "IdealCourtModel", name := "divides", desc := "(II)Z" } : Jvm.MethodName) prog_21_method_16_code (2 : Nat) (Option.some Jvm.ClassFile.FieldType.boolean)) ∈ lw_all := lw_g (lw_at lw_m10 36 rfl) rfl
theorem q2295 : (Jvm.Cond.methodLink "IdealCourtModel" (507 : Nat) ({ cls := "IdealCourtModel", name := "insert", desc := "(LIdealCourtModel$Poly;ILIdealCourtModel$Num;LIdealCourtModel$Num;)V" } : Jvm.MethodName)) ∈ lw_all := lw_g (lw_at lw_m10 37 rfl) rfl
theorem q2296 : (Jvm.Cond.static ({ cls := "IdealCourtModel", name := "insert", desc := "(LIdealCourtModel$Poly;ILIdealCourtModel$Num;LIdealCourtModel$Num;)V" } : Jvm.MethodName)) ∈ lw_all := lw_g (lw_at lw_m10 38 rfl) rfl
theorem q2297 : (Jvm.Cond.code ({ cls := "IdealCourtModel", name := "insert", desc := "(LIdealCourtModel$Poly;ILIdealCourtModel$Num;LIdealCourtModel$Num;)V" } : Jvm.MethodName) prog_21_method_50_code (5 : Nat) (Option.none : Option Jvm.ClassFile.FieldType)) ∈ lw_all := lw_g (lw_at lw_m10 39 rfl) rfl
theorem q2299 : (Jvm.Cond.instanceMethod ({ cls := "IdealCourtModel", name := "quotient", desc := "(II)I" } : Jvm.MethodName)) ∈ lw_all := lw_g (lw_at lw_m10 41 rfl) rfl
theorem q2300 : (Jvm.Cond.selects "IdealCourtModel" ({ cls := "IdealCourtModel", name := "quotient", desc := "(II)I" } : Jvm.MethodName) ({ cls := "IdealCourtModel", name := "quotient", desc := "(II)I" } : Jvm.MethodName)) ∈ lw_all := lw_g (lw_at lw_m10 42 rfl) rfl
theorem q2301 : (Jvm.Cond.code ({ cls := "IdealCourtModel", name := "quotient", desc := "(II)I" } : Jvm.MethodName) prog_21_method_53_code (4 : Nat) (Option.some Jvm.ClassFile.FieldType.int)) ∈ lw_all := lw_g (lw_at lw_m10 43 rfl) rfl
theorem q2303 : (Jvm.Cond.instanceMethod ({ cls := "IdealCourtModel", name := "rest", desc := "(I)I" } : Jvm.MethodName)) ∈ lw_all := lw_g (lw_at lw_m10 45 rfl) rfl
theorem q2304 : (Jvm.Cond.selects "IdealCourtModel" ({ cls := "IdealCourtModel", name := "rest", desc := "(I)I" } : Jvm.MethodName) ({ cls := "IdealCourtModel", name := "rest", desc := "(I)I" } : Jvm.MethodName)) ∈ lw_all := lw_g (lw_at lw_m10 46 rfl) rfl
theorem q2305 : (Jvm.Cond.code ({ cls := "IdealCourtModel", name := "rest", desc := "(I)I" } : Jvm.MethodName) prog_21_method_54_code (3 : Nat) (Option.some Jvm.ClassFile.FieldType.int)) ∈ lw_all := lw_g (lw_at lw_m10 47 rfl) rfl
theorem q2307 : (Jvm.Cond.instanceMethod ({ cls := "IdealCourtModel", name := "ideal", desc := "(I)I" } : Jvm.MethodName)) ∈ lw_all := lw_g (lw_at lw_m10 49 rfl) rfl
theorem q2308 : (Jvm.Cond.selects "IdealCourtModel" ({ cls := "IdealCourtModel", name := "ideal", desc := "(I)I" } : Jvm.MethodName) ({ cls := "IdealCourtModel", name := "ideal", desc := "(I)I" } : Jvm.MethodName)) ∈ lw_all := lw_g (lw_at lw_m10 50 rfl) rfl
theorem q2309 : (Jvm.Cond.code ({ cls := "IdealCourtModel", name := "ideal", desc := "(I)I" } : Jvm.MethodName) prog_21_method_55_code (5 : Nat) (Option.some Jvm.ClassFile.FieldType.int)) ∈ lw_all := lw_g (lw_at lw_m10 51 rfl) rfl
theorem q2310 : (Jvm.Cond.methodLink "IdealCourtModel" (522 : Nat) ({ cls := "IdealCourtModel$Poly", name := "isPlain", desc := "(I)Z" } : Jvm.MethodName)) ∈ lw_all := lw_g (lw_at lw_m10 52 rfl) rfl
theorem q2316 : (Jvm.Cond.instanceMethod ({ cls := "IdealCourtModel", name := "unideal", desc := "()I" } : Jvm.MethodName)) ∈ lw_all := lw_g (lw_at lw_m10 58 rfl) rfl
theorem q2317 : (Jvm.Cond.selects "IdealCourtModel" ({ cls := "IdealCourtModel", name := "unideal", desc := "()I" } : Jvm.MethodName) ({ cls := "IdealCourtModel", name := "unideal", desc := "()I" } : Jvm.MethodName)) ∈ lw_all := lw_g (lw_at lw_m10 59 rfl) rfl
theorem q2318 : (Jvm.Cond.code ({ cls := "IdealCourtModel", name := "unideal", desc := "()I" } : Jvm.MethodName) prog_21_method_56_code (2 : Nat) (Option.some Jvm.ClassFile.FieldType.int)) ∈ lw_all := lw_g (lw_at lw_m10 60 rfl) rfl
theorem q2320 : (Jvm.Cond.instanceMethod ({ cls := "IdealCourtModel", name := "span", desc := "(II)I" } : Jvm.MethodName)) ∈ lw_all := lw_g (lw_at lw_m10 62 rfl) rfl
theorem q2321 : (Jvm.Cond.selects "IdealCourtModel" ({ cls := "IdealCourtModel", name := "span", desc := "(II)I" } : Jvm.MethodName) ({ cls := "IdealCourtModel", name := "span", desc := "(II)I" } : Jvm.MethodName)) ∈ lw_all := lw_g (lw_at lw_m10 63 rfl) rfl
theorem q2322 : (Jvm.Cond.code ({ cls := "IdealCourtModel", name := "span", desc := "(II)I" } : Jvm.MethodName) prog_21_method_62_code (7 : Nat) (Option.some Jvm.ClassFile.FieldType.int)) ∈ lw_all := lw_g (lw_at lw_m10 64 rfl) rfl
theorem q2323 : (Jvm.Cond.methodLink "IdealCourtModel" (557 : Nat) ({ cls := "IdealCourtModel", name := "gatherColumns", desc := "()V" } : Jvm.MethodName)) ∈ lw_all := lw_g (lw_at lw_m10 65 rfl) rfl
theorem q2324 : (Jvm.Cond.privateMethod ({ cls := "IdealCourtModel", name := "gatherColumns", desc := "()V" } : Jvm.MethodName)) ∈ lw_tbl := lw_at lw_m10 66 rfl
theorem q2325 : (Jvm.Cond.instanceMethod ({ cls := "IdealCourtModel", name := "gatherColumns", desc := "()V" } : Jvm.MethodName)) ∈ lw_all := lw_g (lw_at lw_m10 67 rfl) rfl
theorem q2326 : (Jvm.Cond.code ({ cls := "IdealCourtModel", name := "gatherColumns", desc := "()V" } : Jvm.MethodName) prog_21_method_58_code (3 : Nat) (Option.none : Option Jvm.ClassFile.FieldType)) ∈ lw_all := lw_g (lw_at lw_m10 68 rfl) rfl
theorem q2327 : (Jvm.Cond.methodLink "IdealCourtModel" (560 : Nat) ({ cls := "IdealCourtModel", name := "use", desc := "(II)V" } : Jvm.MethodName)) ∈ lw_all := lw_g (lw_at lw_m10 69 rfl) rfl
theorem q2328 : (Jvm.Cond.privateMethod ({ cls := "IdealCourtModel", name := "use", desc := "(II)V" } : Jvm.MethodName)) ∈ lw_tbl := lw_at lw_m10 70 rfl
theorem q2329 : (Jvm.Cond.instanceMethod ({ cls := "IdealCourtModel", name := "use", desc := "(II)V" } : Jvm.MethodName)) ∈ lw_all := lw_g (lw_at lw_m10 71 rfl) rfl
theorem q2330 : (Jvm.Cond.code ({ cls := "IdealCourtModel", name := "use", desc := "(II)V" } : Jvm.MethodName) prog_21_method_60_code (6 : Nat) (Option.none : Option Jvm.ClassFile.FieldType)) ∈ lw_all := lw_g (lw_at lw_m10 72 rfl) rfl
theorem q2331 : (Jvm.Cond.methodLink "IdealCourtModel" (547 : Nat) ({ cls := "IdealCourtModel", name := "takeAway", desc := "([LIdealCourtModel$Num;[LIdealCourtModel$Num;I)V" } : Jvm.MethodName)) ∈ lw_all := lw_g (lw_at lw_m10 73 rfl) rfl
theorem q2332 : (Jvm.Cond.privateMethod ({ cls := "IdealCourtModel", name := "takeAway", desc := "([LIdealCourtModel$Num;[LIdealCourtModel$Num;I)V" } : Jvm.MethodName)) ∈ lw_tbl := lw_at lw_m10 74 rfl
theorem q2333 : (Jvm.Cond.instanceMethod ({ cls := "IdealCourtModel", name := "takeAway", desc := "([LIdealCourtModel$Num;[LIdealCourtModel$Num;I)V" } : Jvm.MethodName)) ∈ lw_all := lw_g (lw_at lw_m10 75 rfl) rfl
theorem q2334 : (Jvm.Cond.code ({ cls := "IdealCourtModel", name := "takeAway", desc := "([LIdealCourtModel$Num;[LIdealCourtModel$Num;I)V" } : Jvm.MethodName) prog_21_method_59_code (5 : Nat) (Option.none : Option Jvm.ClassFile.FieldType)) ∈ lw_all := lw_g (lw_at lw_m10 76 rfl) rfl
theorem q2335 : (Jvm.Cond.methodLink "IdealCourtModel" (564 : Nat) ({ cls := "IdealCourtModel", name := "tellElements", desc := "()V" } : Jvm.MethodName)) ∈ lw_all := lw_g (lw_at lw_m10 77 rfl) rfl
theorem q2336 : (Jvm.Cond.privateMethod ({ cls := "IdealCourtModel", name := "tellElements", desc := "()V" } : Jvm.MethodName)) ∈ lw_tbl := lw_at lw_m10 78 rfl
theorem q2337 : (Jvm.Cond.instanceMethod ({ cls := "IdealCourtModel", name := "tellElements", desc := "()V" } : Jvm.MethodName)) ∈ lw_all := lw_g (lw_at lw_m10 79 rfl) rfl
theorem q2338 : (Jvm.Cond.code ({ cls := "IdealCourtModel", name := "tellElements", desc := "()V" } : Jvm.MethodName) prog_21_method_61_code (5 : Nat) (Option.none : Option Jvm.ClassFile.FieldType)) ∈ lw_all := lw_g (lw_at lw_m10 80 rfl) rfl
theorem q2340 : (Jvm.Cond.instanceMethod ({ cls := "IdealCourtModel", name := "element", desc := "(II)I" } : Jvm.MethodName)) ∈ lw_all := lw_g (lw_at lw_m10 82 rfl) rfl
theorem q2341 : (Jvm.Cond.selects "IdealCourtModel" ({ cls := "IdealCourtModel", name := "element", desc := "(II)I" } : Jvm.MethodName) ({ cls := "IdealCourtModel", name := "element", desc := "(II)I" } : Jvm.MethodName)) ∈ lw_all := lw_g (lw_at lw_m10 83 rfl) rfl
theorem q2342 : (Jvm.Cond.code ({ cls := "IdealCourtModel", name := "element", desc := "(II)I" } : Jvm.MethodName) prog_21_method_63_code (4 : Nat) (Option.some Jvm.ClassFile.FieldType.int)) ∈ lw_all := lw_g (lw_at lw_m10 84 rfl) rfl
theorem q2344 : (Jvm.Cond.instanceMethod ({ cls := "IdealCourtModel", name := "closed", desc := "()I" } : Jvm.MethodName)) ∈ lw_all := lw_g (lw_at lw_m10 86 rfl) rfl
theorem q2345 : (Jvm.Cond.selects "IdealCourtModel" ({ cls := "IdealCourtModel", name := "closed", desc := "()I" } : Jvm.MethodName) ({ cls := "IdealCourtModel", name := "closed", desc := "()I" } : Jvm.MethodName)) ∈ lw_all := lw_g (lw_at lw_m10 87 rfl) rfl
theorem q2346 : (Jvm.Cond.code ({ cls := "IdealCourtModel", name := "closed", desc := "()I" } : Jvm.MethodName) prog_21_method_68_code (6 : Nat) (Option.some Jvm.ClassFile.FieldType.int)) ∈ lw_all := lw_g (lw_at lw_m10 88 rfl) rfl
theorem q2347 : (Jvm.Cond.methodLink "IdealCourtModel" (570 : Nat) ({ cls := "IdealCourtModel", name := "gatherMinimal", desc := "()I" } : Jvm.MethodName)) ∈ lw_all := lw_g (lw_at lw_m10 89 rfl) rfl
theorem q2348 : (Jvm.Cond.privateMethod ({ cls := "IdealCourtModel", name := "gatherMinimal", desc := "()I" } : Jvm.MethodName)) ∈ lw_tbl := lw_at lw_m10 90 rfl
theorem q2349 : (Jvm.Cond.instanceMethod ({ cls := "IdealCourtModel", name := "gatherMinimal", desc := "()I" } : Jvm.MethodName)) ∈ lw_all := lw_g (lw_at lw_m10 91 rfl) rfl
theorem q2350 : (Jvm.Cond.code ({ cls := "IdealCourtModel", name := "gatherMinimal", desc := "()I" } : Jvm.MethodName) prog_21_method_65_code (5 : Nat) (Option.some Jvm.ClassFile.FieldType.int)) ∈ lw_all := lw_g (lw_at lw_m10 92 rfl) rfl
theorem q2351 : (Jvm.Cond.methodLink "IdealCourtModel" (567 : Nat) ({ cls := "IdealCourtModel", name := "leadOf", desc := "(I)I" } : Jvm.MethodName)) ∈ lw_all := lw_g (lw_at lw_m10 93 rfl) rfl
theorem q2352 : (Jvm.Cond.privateMethod ({ cls := "IdealCourtModel", name := "leadOf", desc := "(I)I" } : Jvm.MethodName)) ∈ lw_tbl := lw_at lw_m10 94 rfl
theorem q2353 : (Jvm.Cond.instanceMethod ({ cls := "IdealCourtModel", name := "leadOf", desc := "(I)I" } : Jvm.MethodName)) ∈ lw_all := lw_g (lw_at lw_m10 95 rfl) rfl
theorem q2354 : (Jvm.Cond.code ({ cls := "IdealCourtModel", name := "leadOf", desc := "(I)I" } : Jvm.MethodName) prog_21_method_64_code (2 : Nat) (Option.some Jvm.ClassFile.FieldType.int)) ∈ lw_all := lw_g (lw_at lw_m10 96 rfl) rfl
theorem q2355 : (Jvm.Cond.methodLink "IdealCourtModel" (573 : Nat) ({ cls := "IdealCourtModel", name := "join", desc := "(II)I" } : Jvm.MethodName)) ∈ lw_all := lw_g (lw_at lw_m10 97 rfl) rfl
theorem q2356 : (Jvm.Cond.static ({ cls := "IdealCourtModel", name := "join", desc := "(II)I" } : Jvm.MethodName)) ∈ lw_all := lw_g (lw_at lw_m10 98 rfl) rfl
theorem q2357 : (Jvm.Cond.code ({ cls := "IdealCourtModel", name := "join", desc := "(II)I" } : Jvm.MethodName) prog_21_method_67_code (4 : Nat) (Option.some Jvm.ClassFile.FieldType.int)) ∈ lw_all := lw_g (lw_at lw_m10 99 rfl) rfl
theorem q2358 : (Jvm.Cond.methodLink "IdealCourtModel" (576 : Nat) ({ cls := "IdealCourtModel", name := "gatherTimes", desc := "(LIdealCourtModel$Poly;II)Z" } : Jvm.MethodName)) ∈ lw_all := lw_g (lw_at lw_m10 100 rfl) rfl
theorem q2359 : (Jvm.Cond.privateMethod ({ cls := "IdealCourtModel", name := "gatherTimes", desc := "(LIdealCourtModel$Poly;II)Z" } : Jvm.MethodName)) ∈ lw_tbl := lw_at lw_m10 101 rfl
theorem q2360 : (Jvm.Cond.instanceMethod ({ cls := "IdealCourtModel", name := "gatherTimes", desc := "(LIdealCourtModel$Poly;II)Z" } : Jvm.MethodName)) ∈ lw_all := lw_g (lw_at lw_m10 102 rfl) rfl
theorem q2361 : (Jvm.Cond.code ({ cls := "IdealCourtModel", name := "gatherTimes", desc := "(LIdealCourtModel$Poly;II)Z" } : Jvm.MethodName) prog_21_method_66_code (5 : Nat) (Option.some Jvm.ClassFile.FieldType.boolean)) ∈ lw_all := lw_g (lw_at lw_m10 103 rfl) rfl
theorem q2363 : (Jvm.Cond.instanceMethod ({ cls := "IdealCourtModel", name := "without", desc := "(I)I" } : Jvm.MethodName)) ∈ lw_all := lw_g (lw_at lw_m10 105 rfl) rfl
theorem q2364 : (Jvm.Cond.selects "IdealCourtModel" ({ cls := "IdealCourtModel", name := "without", desc := "(I)I" } : Jvm.MethodName) ({ cls := "IdealCourtModel", name := "without", desc := "(I)I" } : Jvm.MethodName)) ∈ lw_all := lw_g (lw_at lw_m10 106 rfl) rfl
theorem q2365 : (Jvm.Cond.code ({ cls := "IdealCourtModel", name := "without", desc := "(I)I" } : Jvm.MethodName) prog_21_method_69_code (6 : Nat) (Option.some Jvm.ClassFile.FieldType.int)) ∈ lw_all := lw_g (lw_at lw_m10 107 rfl) rfl
theorem q2367 : (Jvm.Cond.instanceMethod ({ cls := "IdealCourtModel", name := "many", desc := "()I" } : Jvm.MethodName)) ∈ lw_all := lw_g (lw_at lw_m10 109 rfl) rfl
theorem q2368 : (Jvm.Cond.selects "IdealCourtModel" ({ cls := "IdealCourtModel", name := "many", desc := "()I" } : Jvm.MethodName) ({ cls := "IdealCourtModel", name := "many", desc := "()I" } : Jvm.MethodName)) ∈ lw_all := lw_g (lw_at lw_m10 110 rfl) rfl
theorem q2369 : (Jvm.Cond.code ({ cls := "IdealCourtModel", name := "many", desc := "()I" } : Jvm.MethodName) prog_21_method_71_code (5 : Nat) (Option.some Jvm.ClassFile.FieldType.int)) ∈ lw_all := lw_g (lw_at lw_m10 111 rfl) rfl
theorem q2370 : (Jvm.Cond.methodLink "IdealCourtModel" (580 : Nat) ({ cls := "IdealCourtModel", name := "powerOf", desc := "(I)I" } : Jvm.MethodName)) ∈ lw_all := lw_g (lw_at lw_m10 112 rfl) rfl
theorem q2371 : (Jvm.Cond.privateMethod ({ cls := "IdealCourtModel", name := "powerOf", desc := "(I)I" } : Jvm.MethodName)) ∈ lw_tbl := lw_at lw_m10 113 rfl
theorem q2372 : (Jvm.Cond.instanceMethod ({ cls := "IdealCourtModel", name := "powerOf", desc := "(I)I" } : Jvm.MethodName)) ∈ lw_all := lw_g (lw_at lw_m10 114 rfl) rfl
theorem q2373 : (Jvm.Cond.code ({ cls := "IdealCourtModel", name := "powerOf", desc := "(I)I" } : Jvm.MethodName) prog_21_method_70_code (4 : Nat) (Option.some Jvm.ClassFile.FieldType.int)) ∈ lw_all := lw_g (lw_at lw_m10 115 rfl) rfl
theorem q2375 : (Jvm.Cond.instanceMethod ({ cls := "IdealCourtModel", name := "member", desc := "(I)I" } : Jvm.MethodName)) ∈ lw_all := lw_g (lw_at lw_m10 117 rfl) rfl
theorem q2376 : (Jvm.Cond.selects "IdealCourtModel" ({ cls := "IdealCourtModel", name := "member", desc := "(I)I" } : Jvm.MethodName) ({ cls := "IdealCourtModel", name := "member", desc := "(I)I" } : Jvm.MethodName)) ∈ lw_all := lw_g (lw_at lw_m10 118 rfl) rfl
theorem q2377 : (Jvm.Cond.code ({ cls := "IdealCourtModel", name := "member", desc := "(I)I" } : Jvm.MethodName) prog_21_method_73_code (7 : Nat) (Option.some Jvm.ClassFile.FieldType.int)) ∈ lw_all := lw_g (lw_at lw_m10 119 rfl) rfl
theorem q2378 : (Jvm.Cond.methodLink "IdealCourtModel" (583 : Nat) ({ cls := "IdealCourtModel", name := "find", desc := "(LIdealCourtModel$Poly;I)I" } : Jvm.MethodName)) ∈ lw_all := lw_g (lw_at lw_m10 120 rfl) rfl
theorem q2379 : (Jvm.Cond.static ({ cls := "IdealCourtModel", name := "find", desc := "(LIdealCourtModel$Poly;I)I" } : Jvm.MethodName)) ∈ lw_all := lw_g (lw_at lw_m10 121 rfl) rfl
theorem q2380 : (Jvm.Cond.code ({ cls := "IdealCourtModel", name := "find", desc := "(LIdealCourtModel$Poly;I)I" } : Jvm.MethodName) prog_21_method_72_code (3 : Nat) (Option.some Jvm.ClassFile.FieldType.int)) ∈ lw_all := lw_g (lw_at lw_m10 122 rfl) rfl
theorem q2381 : (Jvm.Cond.methodLink "IdealCourtModel" (587 : Nat) ({ cls := "IdealCourtModel", name := "tellWay", desc := "(LIdealCourtModel$Poly;I)V" } : Jvm.MethodName)) ∈ lw_all := lw_g (lw_at lw_m10 123 rfl) rfl
theorem q2382 : (Jvm.Cond.privateMethod ({ cls := "IdealCourtModel", name := "tellWay", desc := "(LIdealCourtModel$Poly;I)V" } : Jvm.MethodName)) ∈ lw_tbl := lw_at lw_m10 124 rfl
theorem q2383 : (Jvm.Cond.instanceMethod ({ cls := "IdealCourtModel", name := "tellWay", desc := "(LIdealCourtModel$Poly;I)V" } : Jvm.MethodName)) ∈ lw_all := lw_g (lw_at lw_m10 125 rfl) rfl
theorem q2384 : (Jvm.Cond.code ({ cls := "IdealCourtModel", name := "tellWay", desc := "(LIdealCourtModel$Poly;I)V" } : Jvm.MethodName) prog_21_method_74_code (7 : Nat) (Option.none : Option Jvm.ClassFile.FieldType)) ∈ lw_all := lw_g (lw_at lw_m10 126 rfl) rfl
theorem q2386 : (Jvm.Cond.instanceMethod ({ cls := "IdealCourtModel", name := "roots", desc := "(I)I" } : Jvm.MethodName)) ∈ lw_all := lw_g (lw_at lw_m10 128 rfl) rfl
theorem q2387 : (Jvm.Cond.selects "IdealCourtModel" ({ cls := "IdealCourtModel", name := "roots", desc := "(I)I" } : Jvm.MethodName) ({ cls := "IdealCourtModel", name := "roots", desc := "(I)I" } : Jvm.MethodName)) ∈ lw_all := lw_g (lw_at lw_m10 129 rfl) rfl
theorem q2388 : (Jvm.Cond.code ({ cls := "IdealCourtModel", name := "roots", desc := "(I)I" } : Jvm.MethodName) prog_21_method_85_code (7 : Nat) (Option.some Jvm.ClassFile.FieldType.int)) ∈ lw_all := lw_g (lw_at lw_m10 130 rfl) rfl
theorem q2389 : (Jvm.Cond.methodLink "IdealCourtModel" (618 : Nat) ({ cls := "IdealCourtModel", name := "isUni", desc := "(LIdealCourtModel$Poly;)Z" } : Jvm.MethodName)) ∈ lw_all := lw_g (lw_at lw_m10 131 rfl) rfl
theorem q2390 : (Jvm.Cond.privateMethod ({ cls := "IdealCourtModel", name := "isUni", desc := "(LIdealCourtModel$Poly;)Z" } : Jvm.MethodName)) ∈ lw_tbl := lw_at lw_m10 132 rfl
theorem q2391 : (Jvm.Cond.instanceMethod ({ cls := "IdealCourtModel", name := "isUni", desc := "(LIdealCourtModel$Poly;)Z" } : Jvm.MethodName)) ∈ lw_all := lw_g (lw_at lw_m10 133 rfl) rfl
theorem q2392 : (Jvm.Cond.code ({ cls := "IdealCourtModel", name := "isUni", desc := "(LIdealCourtModel$Poly;)Z" } : Jvm.MethodName) prog_21_method_83_code (5 : Nat) (Option.some Jvm.ClassFile.FieldType.boolean)) ∈ lw_all := lw_g (lw_at lw_m10 134 rfl) rfl
theorem q2393 : (Jvm.Cond.methodLink "IdealCourtModel" (628 : Nat) ({ cls := "IdealCourtModel", name := "makeSimple", desc := "()V" } : Jvm.MethodName)) ∈ lw_all := lw_g (lw_at lw_m10 135 rfl) rfl
theorem q2394 : (Jvm.Cond.privateMethod ({ cls := "IdealCourtModel", name := "makeSimple", desc := "()V" } : Jvm.MethodName)) ∈ lw_tbl := lw_at lw_m10 136 rfl
theorem q2395 : (Jvm.Cond.instanceMethod ({ cls := "IdealCourtModel", name := "makeSimple", desc := "()V" } : Jvm.MethodName)) ∈ lw_all := lw_g (lw_at lw_m10 137 rfl) rfl
theorem q2396 : (Jvm.Cond.code ({ cls := "IdealCourtModel", name := "makeSimple", desc := "()V" } : Jvm.MethodName) prog_21_method_84_code (5 : Nat) (Option.none : Option Jvm.ClassFile.FieldType)) ∈ lw_all := lw_g (lw_at lw_m10 138 rfl) rfl
theorem q2397 : (Jvm.Cond.methodLink "IdealCourtModel" (614 : Nat) ({ cls := "IdealCourtModel", name := "plainChain", desc := "([JI)V" } : Jvm.MethodName)) ∈ lw_all := lw_g (lw_at lw_m10 139 rfl) rfl
theorem q2398 : (Jvm.Cond.privateMethod ({ cls := "IdealCourtModel", name := "plainChain", desc := "([JI)V" } : Jvm.MethodName)) ∈ lw_tbl := lw_at lw_m10 140 rfl
theorem q2399 : (Jvm.Cond.instanceMethod ({ cls := "IdealCourtModel", name := "plainChain", desc := "([JI)V" } : Jvm.MethodName)) ∈ lw_all := lw_g (lw_at lw_m10 141 rfl) rfl
theorem q2400 : (Jvm.Cond.code ({ cls := "IdealCourtModel", name := "plainChain", desc := "([JI)V" } : Jvm.MethodName) prog_21_method_82_code (4 : Nat) (Option.none : Option Jvm.ClassFile.FieldType)) ∈ lw_all := lw_g (lw_at lw_m10 142 rfl) rfl
theorem q2401 : (Jvm.Cond.methodLink "IdealCourtModel" (600 : Nat) ({ cls := "IdealCourtModel", name := "small", desc := "([LIdealCourtModel$Num;I)V" } : Jvm.MethodName)) ∈ lw_all := lw_g (lw_at lw_m10 143 rfl) rfl
theorem q2402 : (Jvm.Cond.privateMethod ({ cls := "IdealCourtModel", name := "small", desc := "([LIdealCourtModel$Num;I)V" } : Jvm.MethodName)) ∈ lw_tbl := lw_at lw_m10 144 rfl
theorem q2403 : (Jvm.Cond.instanceMethod ({ cls := "IdealCourtModel", name := "small", desc := "([LIdealCourtModel$Num;I)V" } : Jvm.MethodName)) ∈ lw_all := lw_g (lw_at lw_m10 145 rfl) rfl
theorem q2404 : (Jvm.Cond.code ({ cls := "IdealCourtModel", name := "small", desc := "([LIdealCourtModel$Num;I)V" } : Jvm.MethodName) prog_21_method_79_code (4 : Nat) (Option.none : Option Jvm.ClassFile.FieldType)) ∈ lw_all := lw_g (lw_at lw_m10 146 rfl) rfl
theorem q2405 : (Jvm.Cond.methodLink "IdealCourtModel" (608 : Nat) ({ cls := "IdealCourtModel", name := "goOn", desc := "()V" } : Jvm.MethodName)) ∈ lw_all := lw_g (lw_at lw_m10 147 rfl) rfl
theorem q2406 : (Jvm.Cond.privateMethod ({ cls := "IdealCourtModel", name := "goOn", desc := "()V" } : Jvm.MethodName)) ∈ lw_tbl := lw_at lw_m10 148 rfl
theorem q2407 : (Jvm.Cond.instanceMethod ({ cls := "IdealCourtModel", name := "goOn", desc := "()V" } : Jvm.MethodName)) ∈ lw_all := lw_g (lw_at lw_m10 149 rfl) rfl
theorem q2408 : (Jvm.Cond.code ({ cls := "IdealCourtModel", name := "goOn", desc := "()V" } : Jvm.MethodName) prog_21_method_81_code (5 : Nat) (Option.none : Option Jvm.ClassFile.FieldType)) ∈ lw_all := lw_g (lw_at lw_m10 150 rfl) rfl
theorem q2409 : (Jvm.Cond.methodLink "IdealCourtModel" (604 : Nat) ({ cls := "IdealCourtModel", name := "takeMultiples", desc := "(I[LIdealCourtModel$Num;I)I" } : Jvm.MethodName)) ∈ lw_all := lw_g (lw_at lw_m10 151 rfl) rfl
theorem q2410 : (Jvm.Cond.privateMethod ({ cls := "IdealCourtModel", name := "takeMultiples", desc := "(I[LIdealCourtModel$Num;I)I" } : Jvm.MethodName)) ∈ lw_tbl := lw_at lw_m10 152 rfl
theorem q2411 : (Jvm.Cond.instanceMethod ({ cls := "IdealCourtModel", name := "takeMultiples", desc := "(I[LIdealCourtModel$Num;I)I" } : Jvm.MethodName)) ∈ lw_all := lw_g (lw_at lw_m10 153 rfl) rfl
theorem q2412 : (Jvm.Cond.code ({ cls := "IdealCourtModel", name := "takeMultiples", desc := "(I[LIdealCourtModel$Num;I)I" } : Jvm.MethodName) prog_21_method_80_code (6 : Nat) (Option.some Jvm.ClassFile.FieldType.int)) ∈ lw_all := lw_g (lw_at lw_m10 154 rfl) rfl
theorem q2413 : (Jvm.Cond.constantLong "IdealCourtModel" (634 : Nat) (-1 : Int64)) ∈ lw_all := lw_g (lw_at lw_m10 155 rfl) rfl
theorem q2414 : (Jvm.Cond.methodLink "IdealCourtModel" (636 : Nat) ({ cls := "IdealCourtModel", name := "changes", desc := "(LIdealCourtModel$Num;I)I" } : Jvm.MethodName)) ∈ lw_all := lw_g (lw_at lw_m10 156 rfl) rfl
theorem q2415 : (Jvm.Cond.privateMethod ({ cls := "IdealCourtModel", name := "changes", desc := "(LIdealCourtModel$Num;I)I" } : Jvm.MethodName)) ∈ lw_tbl := lw_at lw_m10 157 rfl
theorem q2416 : (Jvm.Cond.instanceMethod ({ cls := "IdealCourtModel", name := "changes", desc := "(LIdealCourtModel$Num;I)I" } : Jvm.MethodName)) ∈ lw_all := lw_g (lw_at lw_m10 158 rfl) rfl
theorem q2417 : (Jvm.Cond.code ({ cls := "IdealCourtModel", name := "changes", desc := "(LIdealCourtModel$Num;I)I" } : Jvm.MethodName) prog_21_method_78_code (7 : Nat) (Option.some Jvm.ClassFile.FieldType.int)) ∈ lw_all := lw_g (lw_at lw_m10 159 rfl) rfl
theorem q2418 : (Jvm.Cond.methodLink "IdealCourtModel" (596 : Nat) ({ cls := "IdealCourtModel", name := "signAt", desc := "([LIdealCourtModel$Num;ILIdealCourtModel$Num;I)I" } : Jvm.MethodName)) ∈ lw_all := lw_g (lw_at lw_m10 160 rfl) rfl
theorem q2419 : (Jvm.Cond.privateMethod ({ cls := "IdealCourtModel", name := "signAt", desc := "([LIdealCourtModel$Num;ILIdealCourtModel$Num;I)I" } : Jvm.MethodName)) ∈ lw_tbl := lw_at lw_m10 161 rfl
theorem q2420 : (Jvm.Cond.instanceMethod ({ cls := "IdealCourtModel", name := "signAt", desc := "([LIdealCourtModel$Num;ILIdealCourtModel$Num;I)I" } : Jvm.MethodName)) ∈ lw_all := lw_g (lw_at lw_m10 162 rfl) rfl
theorem q2421 : (Jvm.Cond.code ({ cls := "IdealCourtModel", name := "signAt", desc := "([LIdealCourtModel$Num;ILIdealCourtModel$Num;I)I" } : Jvm.MethodName) prog_21_method_77_code (6 : Nat) (Option.some Jvm.ClassFile.FieldType.int)) ∈ lw_all := lw_g (lw_at lw_m10 163 rfl) rfl
theorem q2423 : (Jvm.Cond.instanceMethod ({ cls := "IdealCourtModel", name := "root", desc := "(II)I" } : Jvm.MethodName)) ∈ lw_all := lw_g (lw_at lw_m10 165 rfl) rfl
theorem q2424 : (Jvm.Cond.selects "IdealCourtModel" ({ cls := "IdealCourtModel", name := "root", desc := "(II)I" } : Jvm.MethodName) ({ cls := "IdealCourtModel", name := "root", desc := "(II)I" } : Jvm.MethodName)) ∈ lw_all := lw_g (lw_at lw_m10 166 rfl) rfl
theorem q2425 : (Jvm.Cond.code ({ cls := "IdealCourtModel", name := "root", desc := "(II)I" } : Jvm.MethodName) prog_21_method_86_code (5 : Nat) (Option.some Jvm.ClassFile.FieldType.int)) ∈ lw_all := lw_g (lw_at lw_m10 167 rfl) rfl
theorem q2427 : (Jvm.Cond.instanceMethod ({ cls := "IdealCourtModel", name := "narrow", desc := "(I)I" } : Jvm.MethodName)) ∈ lw_all := lw_g (lw_at lw_m10 169 rfl) rfl
theorem q2428 : (Jvm.Cond.selects "IdealCourtModel" ({ cls := "IdealCourtModel", name := "narrow", desc := "(I)I" } : Jvm.MethodName) ({ cls := "IdealCourtModel", name := "narrow", desc := "(I)I" } : Jvm.MethodName)) ∈ lw_all := lw_g (lw_at lw_m10 170 rfl) rfl
theorem q2429 : (Jvm.Cond.code ({ cls := "IdealCourtModel", name := "narrow", desc := "(I)I" } : Jvm.MethodName) prog_21_method_88_code (4 : Nat) (Option.some Jvm.ClassFile.FieldType.int)) ∈ lw_all := lw_g (lw_at lw_m10 171 rfl) rfl
theorem q2430 : (Jvm.Cond.methodLink "IdealCourtModel" (640 : Nat) ({ cls := "IdealCourtModel", name := "halve", desc := "(LIdealCourtModel$Num;I)I" } : Jvm.MethodName)) ∈ lw_all := lw_g (lw_at lw_m10 172 rfl) rfl
theorem q2431 : (Jvm.Cond.privateMethod ({ cls := "IdealCourtModel", name := "halve", desc := "(LIdealCourtModel$Num;I)I" } : Jvm.MethodName)) ∈ lw_tbl := lw_at lw_m10 173 rfl
theorem q2432 : (Jvm.Cond.instanceMethod ({ cls := "IdealCourtModel", name := "halve", desc := "(LIdealCourtModel$Num;I)I" } : Jvm.MethodName)) ∈ lw_all := lw_g (lw_at lw_m10 174 rfl) rfl
theorem q2433 : (Jvm.Cond.code ({ cls := "IdealCourtModel", name := "halve", desc := "(LIdealCourtModel$Num;I)I" } : Jvm.MethodName) prog_21_method_87_code (4 : Nat) (Option.some Jvm.ClassFile.FieldType.int)) ∈ lw_all := lw_g (lw_at lw_m10 175 rfl) rfl
theorem q2435 : (Jvm.Cond.instanceMethod ({ cls := "IdealCourtModel", name := "sign", desc := "(II)I" } : Jvm.MethodName)) ∈ lw_all := lw_g (lw_at lw_m10 177 rfl) rfl
theorem q2436 : (Jvm.Cond.selects "IdealCourtModel" ({ cls := "IdealCourtModel", name := "sign", desc := "(II)I" } : Jvm.MethodName) ({ cls := "IdealCourtModel", name := "sign", desc := "(II)I" } : Jvm.MethodName)) ∈ lw_all := lw_g (lw_at lw_m10 178 rfl) rfl
theorem q2437 : (Jvm.Cond.code ({ cls := "IdealCourtModel", name := "sign", desc := "(II)I" } : Jvm.MethodName) prog_21_method_90_code (8 : Nat) (Option.some Jvm.ClassFile.FieldType.int)) ∈ lw_all := lw_g (lw_at lw_m10 179 rfl) rfl
theorem q2438 : (Jvm.Cond.methodLink "IdealCourtModel" (643 : Nat) ({ cls := "IdealCourtModel", name := "high", desc := "(LIdealCourtModel$Num;)V" } : Jvm.MethodName)) ∈ lw_all := lw_g (lw_at lw_m10 180 rfl) rfl
theorem q2439 : (Jvm.Cond.privateMethod ({ cls := "IdealCourtModel", name := "high", desc := "(LIdealCourtModel$Num;)V" } : Jvm.MethodName)) ∈ lw_tbl := lw_at lw_m10 181 rfl
theorem q2440 : (Jvm.Cond.instanceMethod ({ cls := "IdealCourtModel", name := "high", desc := "(LIdealCourtModel$Num;)V" } : Jvm.MethodName)) ∈ lw_all := lw_g (lw_at lw_m10 182 rfl) rfl
theorem q2441 : (Jvm.Cond.code ({ cls := "IdealCourtModel", name := "high", desc := "(LIdealCourtModel$Num;)V" } : Jvm.MethodName) prog_21_method_89_code (2 : Nat) (Option.none : Option Jvm.ClassFile.FieldType)) ∈ lw_all := lw_g (lw_at lw_m10 183 rfl) rfl
theorem q2443 : (Jvm.Cond.instanceMethod ({ cls := "IdealCourtModel", name := "same", desc := "(II)I" } : Jvm.MethodName)) ∈ lw_all := lw_g (lw_at lw_m10 185 rfl) rfl
theorem q2444 : (Jvm.Cond.selects "IdealCourtModel" ({ cls := "IdealCourtModel", name := "same", desc := "(II)I" } : Jvm.MethodName) ({ cls := "IdealCourtModel", name := "same", desc := "(II)I" } : Jvm.MethodName)) ∈ lw_all := lw_g (lw_at lw_m10 186 rfl) rfl
theorem q2445 : (Jvm.Cond.code ({ cls := "IdealCourtModel", name := "same", desc := "(II)I" } : Jvm.MethodName) prog_21_method_91_code (5 : Nat) (Option.some Jvm.ClassFile.FieldType.int)) ∈ lw_all := lw_g (lw_at lw_m10 187 rfl) rfl
theorem q2446 : (Jvm.Cond.methodLink "IdealCourtModel" (646 : Nat) ({ cls := "IdealCourtModel$Poly", name := "isLike", desc := "(LIdealCourtModel$Poly;)Z" } : Jvm.MethodName)) ∈ lw_all := lw_g (lw_at lw_m10 188 rfl) rfl
theorem q2454 : (Jvm.Cond.methodLink "IdealCourtModel" (649 : Nat) ({ cls := "IdealCourtModel$Num", name := "isLike", desc := "(LIdealCourtModel$Num;)Z" } : Jvm.MethodName)) ∈ lw_all := lw_g (lw_at lw_m10 196 rfl) rfl
theorem q2456 : (Jvm.Cond.instanceMethod ({ cls := "IdealCourtModel", name := "kind", desc := "(I)I" } : Jvm.MethodName)) ∈ lw_all := lw_g (lw_at lw_m10 198 rfl) rfl
theorem q2457 : (Jvm.Cond.selects "IdealCourtModel" ({ cls := "IdealCourtModel", name := "kind", desc := "(I)I" } : Jvm.MethodName) ({ cls := "IdealCourtModel", name := "kind", desc := "(I)I" } : Jvm.MethodName)) ∈ lw_all := lw_g (lw_at lw_m10 199 rfl) rfl
theorem q2458 : (Jvm.Cond.code ({ cls := "IdealCourtModel", name := "kind", desc := "(I)I" } : Jvm.MethodName) prog_21_method_92_code (3 : Nat) (Option.some Jvm.ClassFile.FieldType.int)) ∈ lw_all := lw_g (lw_at lw_m10 200 rfl) rfl
theorem q2460 : (Jvm.Cond.instanceMethod ({ cls := "IdealCourtModel", name := "put", desc := "(II)I" } : Jvm.MethodName)) ∈ lw_all := lw_g (lw_at lw_m10 202 rfl) rfl
theorem q2461 : (Jvm.Cond.selects "IdealCourtModel" ({ cls := "IdealCourtModel", name := "put", desc := "(II)I" } : Jvm.MethodName) ({ cls := "IdealCourtModel", name := "put", desc := "(II)I" } : Jvm.MethodName)) ∈ lw_all := lw_g (lw_at lw_m10 203 rfl) rfl
theorem q2462 : (Jvm.Cond.code ({ cls := "IdealCourtModel", name := "put", desc := "(II)I" } : Jvm.MethodName) prog_21_method_93_code (5 : Nat) (Option.some Jvm.ClassFile.FieldType.int)) ∈ lw_all := lw_g (lw_at lw_m10 204 rfl) rfl
theorem q2464 : (Jvm.Cond.instanceMethod ({ cls := "IdealCourtModel", name := "gone", desc := "(I)I" } : Jvm.MethodName)) ∈ lw_all := lw_g (lw_at lw_m10 206 rfl) rfl
theorem q2465 : (Jvm.Cond.selects "IdealCourtModel" ({ cls := "IdealCourtModel", name := "gone", desc := "(I)I" } : Jvm.MethodName) ({ cls := "IdealCourtModel", name := "gone", desc := "(I)I" } : Jvm.MethodName)) ∈ lw_all := lw_g (lw_at lw_m10 207 rfl) rfl
theorem q2466 : (Jvm.Cond.code ({ cls := "IdealCourtModel", name := "gone", desc := "(I)I" } : Jvm.MethodName) prog_21_method_94_code (2 : Nat) (Option.some Jvm.ClassFile.FieldType.int)) ∈ lw_all := lw_g (lw_at lw_m10 208 rfl) rfl
theorem q2468 : (Jvm.Cond.instanceMethod ({ cls := "IdealCourtModel", name := "keep", desc := "(I)I" } : Jvm.MethodName)) ∈ lw_all := lw_g (lw_at lw_m10 210 rfl) rfl
theorem q2469 : (Jvm.Cond.selects "IdealCourtModel" ({ cls := "IdealCourtModel", name := "keep", desc := "(I)I" } : Jvm.MethodName) ({ cls := "IdealCourtModel", name := "keep", desc := "(I)I" } : Jvm.MethodName)) ∈ lw_all := lw_g (lw_at lw_m10 211 rfl) rfl
theorem q2470 : (Jvm.Cond.code ({ cls := "IdealCourtModel", name := "keep", desc := "(I)I" } : Jvm.MethodName) prog_21_method_95_code (3 : Nat) (Option.some Jvm.ClassFile.FieldType.int)) ∈ lw_all := lw_g (lw_at lw_m10 212 rfl) rfl
theorem q2472 : (Jvm.Cond.instanceMethod ({ cls := "IdealCourtModel", name := "raise", desc := "(I)I" } : Jvm.MethodName)) ∈ lw_all := lw_g (lw_at lw_m10 214 rfl) rfl
theorem q2473 : (Jvm.Cond.selects "IdealCourtModel" ({ cls := "IdealCourtModel", name := "raise", desc := "(I)I" } : Jvm.MethodName) ({ cls := "IdealCourtModel", name := "raise", desc := "(I)I" } : Jvm.MethodName)) ∈ lw_all := lw_g (lw_at lw_m10 215 rfl) rfl
theorem q2474 : (Jvm.Cond.code ({ cls := "IdealCourtModel", name := "raise", desc := "(I)I" } : Jvm.MethodName) prog_21_method_96_code (3 : Nat) (Option.some Jvm.ClassFile.FieldType.int)) ∈ lw_all := lw_g (lw_at lw_m10 216 rfl) rfl
theorem q2476 : (Jvm.Cond.instanceMethod ({ cls := "IdealCourtModel", name := "found", desc := "(I)I" } : Jvm.MethodName)) ∈ lw_all := lw_g (lw_at lw_m10 218 rfl) rfl
theorem q2477 : (Jvm.Cond.selects "IdealCourtModel" ({ cls := "IdealCourtModel", name := "found", desc := "(I)I" } : Jvm.MethodName) ({ cls := "IdealCourtModel", name := "found", desc := "(I)I" } : Jvm.MethodName)) ∈ lw_all := lw_g (lw_at lw_m10 219 rfl) rfl
theorem q2478 : (Jvm.Cond.code ({ cls := "IdealCourtModel", name := "found", desc := "(I)I" } : Jvm.MethodName) prog_21_method_97_code (2 : Nat) (Option.some Jvm.ClassFile.FieldType.int)) ∈ lw_all := lw_g (lw_at lw_m10 220 rfl) rfl
theorem in_X16 : ∀ w ∈ wsX160, w ∈ lw_all := lw_in wsX160 [1839, 1841, 1843, 1845, 1847, 1849, 1851, 1853, 1855, 1857, 1859, 1861, 1863, 1865, 1867, 1869, 1871, 1873, 1875, 1877, 1879, 1881, 1883, 1885, 1887, 1889, 1891, 1893, 1895, 1897, 1899, 1901, 1903, 1905, 1907, 1909, 1911, 1913, 1915, 1917, 1919, 1921, 1923, 1925, 1927, 1929, 1931, 1933, 1935, 1937, 1939, 1941, 1943, 1945, 1947, 1949, 1951, 1953, 1955, 1957, 1959, 1961, 1963, 1965, 1967, 1969, 1971, 1973, 1975, 1977, 1979, 1981, 1983, 1985, 1987, 1989, 1991, 1993, 1995, 1997, 1999, 2001, 2003, 2005, 2007, 2009, 2011, 2013, 2015, 2017, 2019, 2021] (by decide +kernel) (by decide +kernel)

