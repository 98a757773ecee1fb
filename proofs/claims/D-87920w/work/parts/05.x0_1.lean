set_option maxRecDepth 100000
abbrev cX0_without : ByteArray := prog_1_method_47_code
def yX0_without : MethodName := ⟨RX0, "without", "(I)I"⟩
def dkwX0_without_6 : List UInt8 := [167, 0, 4, 4, 96, 61, 132, 3, 1, 167, 255, 134, 28, 172, 77, 42, 44, 182, 0, 233, 172]
abbrev dktX0_without_6 : List UInt8 := dkwX0_without_6 ++ []
def dkwX0_without_5 : List UInt8 := [51, 158, 0, 7, 4, 167, 0, 4, 3, 54, 4, 132, 5, 1, 167, 255, 186, 28, 21, 4, 153, 0, 7, 3]
abbrev dktX0_without_5 : List UInt8 := dkwX0_without_5 ++ dktX0_without_6
def dkwX0_without_4 : List UInt8 := [3, 50, 21, 5, 51, 157, 0, 23, 27, 5, 160, 0, 22, 42, 180, 0, 22, 180, 1, 109, 4, 50, 21, 5]
abbrev dktX0_without_4 : List UInt8 := dkwX0_without_4 ++ dktX0_without_5
def dkwX0_without_3 : List UInt8 := [21, 4, 154, 0, 50, 42, 180, 0, 122, 21, 5, 182, 1, 12, 153, 0, 42, 42, 180, 0, 22, 180, 1, 109]
abbrev dktX0_without_3 : List UInt8 := dkwX0_without_3 ++ dktX0_without_4
def dkwX0_without_2 : List UInt8 := [180, 0, 122, 42, 180, 0, 64, 182, 1, 210, 3, 54, 4, 3, 54, 5, 21, 5, 17, 1, 199, 162, 0, 68]
abbrev dktX0_without_2 : List UInt8 := dkwX0_without_2 ++ dktX0_without_3
def dkwX0_without_1 : List UInt8 := [182, 0, 229, 3, 61, 3, 62, 29, 42, 180, 0, 45, 180, 1, 201, 162, 0, 117, 42, 180, 0, 45, 29, 42]
abbrev dktX0_without_1 : List UInt8 := dkwX0_without_1 ++ dktX0_without_2
def dkwX0_without_0 : List UInt8 := [42, 182, 1, 207, 42, 27, 4, 159, 0, 8, 27, 5, 160, 0, 7, 4, 167, 0, 4, 3, 16, 250]
abbrev dktX0_without_0 : List UInt8 := dkwX0_without_0 ++ dktX0_without_1
theorem dksX0_without_0 : cX0_without.data.toList.drop 0 = dktX0_without_0 := by decide +kernel
theorem dksX0_without_1 : cX0_without.data.toList.drop 22 = dktX0_without_1 := dk_seg dksX0_without_0 22 rfl rfl
theorem dksX0_without_2 : cX0_without.data.toList.drop 46 = dktX0_without_2 := dk_seg dksX0_without_1 24 rfl rfl
theorem dksX0_without_3 : cX0_without.data.toList.drop 70 = dktX0_without_3 := dk_seg dksX0_without_2 24 rfl rfl
theorem dksX0_without_4 : cX0_without.data.toList.drop 94 = dktX0_without_4 := dk_seg dksX0_without_3 24 rfl rfl
theorem dksX0_without_5 : cX0_without.data.toList.drop 118 = dktX0_without_5 := dk_seg dksX0_without_4 24 rfl rfl
theorem dksX0_without_6 : cX0_without.data.toList.drop 142 = dktX0_without_6 := dk_seg dksX0_without_5 24 rfl rfl
theorem dX0_without_0 : decode cX0_without 0 = .ok (.aload_n 0, 1) := dk_42 (dk_at dksX0_without_0 0 rfl rfl)
theorem dX0_without_1 : decode cX0_without 1 = .ok (.invokevirtual 463, 3) := dk_182 1 207 (dk_at dksX0_without_0 1 rfl rfl)
theorem dX0_without_4 : decode cX0_without 4 = .ok (.aload_n 0, 1) := dk_42 (dk_at dksX0_without_0 4 rfl rfl)
theorem dX0_without_5 : decode cX0_without 5 = .ok (.iload_n 1, 1) := dk_27 (dk_at dksX0_without_0 5 rfl rfl)
theorem dX0_without_6 : decode cX0_without 6 = .ok (.iconst 1, 1) := dk_4 (dk_at dksX0_without_0 6 rfl rfl)
theorem dX0_without_7 : decode cX0_without 7 = .ok (.if_icmp .eq 8, 3) := dk_159 0 8 (dk_at dksX0_without_0 7 rfl rfl)
theorem dX0_without_10 : decode cX0_without 10 = .ok (.iload_n 1, 1) := dk_27 (dk_at dksX0_without_0 10 rfl rfl)
theorem dX0_without_11 : decode cX0_without 11 = .ok (.iconst 2, 1) := dk_5 (dk_at dksX0_without_0 11 rfl rfl)
theorem dX0_without_12 : decode cX0_without 12 = .ok (.if_icmp .ne 7, 3) := dk_160 0 7 (dk_at dksX0_without_0 12 rfl rfl)
theorem dX0_without_15 : decode cX0_without 15 = .ok (.iconst 1, 1) := dk_4 (dk_at dksX0_without_0 15 rfl rfl)
theorem dX0_without_16 : decode cX0_without 16 = .ok (.goto 4, 3) := dk_167 0 4 (dk_at dksX0_without_0 16 rfl rfl)
theorem dX0_without_19 : decode cX0_without 19 = .ok (.iconst 0, 1) := dk_3 (dk_at dksX0_without_0 19 rfl rfl)
theorem dX0_without_20 : decode cX0_without 20 = .ok (.bipush (-6), 2) := dk_16 250 (dk_at dksX0_without_0 20 rfl rfl)
theorem dX0_without_22 : decode cX0_without 22 = .ok (.invokevirtual 229, 3) := dk_182 0 229 (dk_at dksX0_without_1 0 rfl rfl)
theorem dX0_without_25 : decode cX0_without 25 = .ok (.iconst 0, 1) := dk_3 (dk_at dksX0_without_1 3 rfl rfl)
theorem dX0_without_26 : decode cX0_without 26 = .ok (.istore_n 2, 1) := dk_61 (dk_at dksX0_without_1 4 rfl rfl)
theorem dX0_without_27 : decode cX0_without 27 = .ok (.iconst 0, 1) := dk_3 (dk_at dksX0_without_1 5 rfl rfl)
theorem dX0_without_28 : decode cX0_without 28 = .ok (.istore_n 3, 1) := dk_62 (dk_at dksX0_without_1 6 rfl rfl)
theorem dX0_without_29 : decode cX0_without 29 = .ok (.iload_n 3, 1) := dk_29 (dk_at dksX0_without_1 7 rfl rfl)
theorem dX0_without_30 : decode cX0_without 30 = .ok (.aload_n 0, 1) := dk_42 (dk_at dksX0_without_1 8 rfl rfl)
theorem dX0_without_31 : decode cX0_without 31 = .ok (.getfield 45, 3) := dk_180 0 45 (dk_at dksX0_without_1 9 rfl rfl)
theorem dX0_without_34 : decode cX0_without 34 = .ok (.getfield 457, 3) := dk_180 1 201 (dk_at dksX0_without_1 12 rfl rfl)
theorem dX0_without_37 : decode cX0_without 37 = .ok (.if_icmp .ge 117, 3) := dk_162 0 117 (dk_at dksX0_without_1 15 rfl rfl)
theorem dX0_without_40 : decode cX0_without 40 = .ok (.aload_n 0, 1) := dk_42 (dk_at dksX0_without_1 18 rfl rfl)
theorem dX0_without_41 : decode cX0_without 41 = .ok (.getfield 45, 3) := dk_180 0 45 (dk_at dksX0_without_1 19 rfl rfl)
theorem dX0_without_44 : decode cX0_without 44 = .ok (.iload_n 3, 1) := dk_29 (dk_at dksX0_without_1 22 rfl rfl)
theorem dX0_without_45 : decode cX0_without 45 = .ok (.aload_n 0, 1) := dk_42 (dk_at dksX0_without_1 23 rfl rfl)
theorem dX0_without_46 : decode cX0_without 46 = .ok (.getfield 122, 3) := dk_180 0 122 (dk_at dksX0_without_2 0 rfl rfl)
theorem dX0_without_49 : decode cX0_without 49 = .ok (.aload_n 0, 1) := dk_42 (dk_at dksX0_without_2 3 rfl rfl)
theorem dX0_without_50 : decode cX0_without 50 = .ok (.getfield 64, 3) := dk_180 0 64 (dk_at dksX0_without_2 4 rfl rfl)
theorem dX0_without_53 : decode cX0_without 53 = .ok (.invokevirtual 466, 3) := dk_182 1 210 (dk_at dksX0_without_2 7 rfl rfl)
theorem dX0_without_56 : decode cX0_without 56 = .ok (.iconst 0, 1) := dk_3 (dk_at dksX0_without_2 10 rfl rfl)
theorem dX0_without_57 : decode cX0_without 57 = .ok (.istore 4, 2) := dk_54 4 (dk_at dksX0_without_2 11 rfl rfl)
theorem dX0_without_59 : decode cX0_without 59 = .ok (.iconst 0, 1) := dk_3 (dk_at dksX0_without_2 13 rfl rfl)
theorem dX0_without_60 : decode cX0_without 60 = .ok (.istore 5, 2) := dk_54 5 (dk_at dksX0_without_2 14 rfl rfl)
theorem dX0_without_62 : decode cX0_without 62 = .ok (.iload 5, 2) := dk_21 5 (dk_at dksX0_without_2 16 rfl rfl)
theorem dX0_without_64 : decode cX0_without 64 = .ok (.sipush 455, 3) := dk_17 1 199 (dk_at dksX0_without_2 18 rfl rfl)
theorem dX0_without_67 : decode cX0_without 67 = .ok (.if_icmp .ge 68, 3) := dk_162 0 68 (dk_at dksX0_without_2 21 rfl rfl)
theorem dX0_without_70 : decode cX0_without 70 = .ok (.iload 4, 2) := dk_21 4 (dk_at dksX0_without_3 0 rfl rfl)
theorem dX0_without_72 : decode cX0_without 72 = .ok (.ifCond .ne 50, 3) := dk_154 0 50 (dk_at dksX0_without_3 2 rfl rfl)
theorem dX0_without_75 : decode cX0_without 75 = .ok (.aload_n 0, 1) := dk_42 (dk_at dksX0_without_3 5 rfl rfl)
theorem dX0_without_76 : decode cX0_without 76 = .ok (.getfield 122, 3) := dk_180 0 122 (dk_at dksX0_without_3 6 rfl rfl)
theorem dX0_without_79 : decode cX0_without 79 = .ok (.iload 5, 2) := dk_21 5 (dk_at dksX0_without_3 9 rfl rfl)
theorem dX0_without_81 : decode cX0_without 81 = .ok (.invokevirtual 268, 3) := dk_182 1 12 (dk_at dksX0_without_3 11 rfl rfl)
theorem dX0_without_84 : decode cX0_without 84 = .ok (.ifCond .eq 42, 3) := dk_153 0 42 (dk_at dksX0_without_3 14 rfl rfl)
theorem dX0_without_87 : decode cX0_without 87 = .ok (.aload_n 0, 1) := dk_42 (dk_at dksX0_without_3 17 rfl rfl)
theorem dX0_without_88 : decode cX0_without 88 = .ok (.getfield 22, 3) := dk_180 0 22 (dk_at dksX0_without_3 18 rfl rfl)
theorem dX0_without_91 : decode cX0_without 91 = .ok (.getfield 365, 3) := dk_180 1 109 (dk_at dksX0_without_3 21 rfl rfl)
theorem dX0_without_94 : decode cX0_without 94 = .ok (.iconst 0, 1) := dk_3 (dk_at dksX0_without_4 0 rfl rfl)
theorem dX0_without_95 : decode cX0_without 95 = .ok (.aaload, 1) := dk_50 (dk_at dksX0_without_4 1 rfl rfl)
theorem dX0_without_96 : decode cX0_without 96 = .ok (.iload 5, 2) := dk_21 5 (dk_at dksX0_without_4 2 rfl rfl)
theorem dX0_without_98 : decode cX0_without 98 = .ok (.baload, 1) := dk_51 (dk_at dksX0_without_4 4 rfl rfl)
theorem dX0_without_99 : decode cX0_without 99 = .ok (.ifCond .gt 23, 3) := dk_157 0 23 (dk_at dksX0_without_4 5 rfl rfl)
theorem dX0_without_102 : decode cX0_without 102 = .ok (.iload_n 1, 1) := dk_27 (dk_at dksX0_without_4 8 rfl rfl)
theorem dX0_without_103 : decode cX0_without 103 = .ok (.iconst 2, 1) := dk_5 (dk_at dksX0_without_4 9 rfl rfl)
theorem dX0_without_104 : decode cX0_without 104 = .ok (.if_icmp .ne 22, 3) := dk_160 0 22 (dk_at dksX0_without_4 10 rfl rfl)
theorem dX0_without_107 : decode cX0_without 107 = .ok (.aload_n 0, 1) := dk_42 (dk_at dksX0_without_4 13 rfl rfl)
theorem dX0_without_108 : decode cX0_without 108 = .ok (.getfield 22, 3) := dk_180 0 22 (dk_at dksX0_without_4 14 rfl rfl)
theorem dX0_without_111 : decode cX0_without 111 = .ok (.getfield 365, 3) := dk_180 1 109 (dk_at dksX0_without_4 17 rfl rfl)
theorem dX0_without_114 : decode cX0_without 114 = .ok (.iconst 1, 1) := dk_4 (dk_at dksX0_without_4 20 rfl rfl)
theorem dX0_without_115 : decode cX0_without 115 = .ok (.aaload, 1) := dk_50 (dk_at dksX0_without_4 21 rfl rfl)
theorem dX0_without_116 : decode cX0_without 116 = .ok (.iload 5, 2) := dk_21 5 (dk_at dksX0_without_4 22 rfl rfl)
theorem dX0_without_118 : decode cX0_without 118 = .ok (.baload, 1) := dk_51 (dk_at dksX0_without_5 0 rfl rfl)
theorem dX0_without_119 : decode cX0_without 119 = .ok (.ifCond .le 7, 3) := dk_158 0 7 (dk_at dksX0_without_5 1 rfl rfl)
theorem dX0_without_122 : decode cX0_without 122 = .ok (.iconst 1, 1) := dk_4 (dk_at dksX0_without_5 4 rfl rfl)
theorem dX0_without_123 : decode cX0_without 123 = .ok (.goto 4, 3) := dk_167 0 4 (dk_at dksX0_without_5 5 rfl rfl)
theorem dX0_without_126 : decode cX0_without 126 = .ok (.iconst 0, 1) := dk_3 (dk_at dksX0_without_5 8 rfl rfl)
theorem dX0_without_127 : decode cX0_without 127 = .ok (.istore 4, 2) := dk_54 4 (dk_at dksX0_without_5 9 rfl rfl)
theorem dX0_without_129 : decode cX0_without 129 = .ok (.iinc 5 1, 3) := dk_132 5 1 (dk_at dksX0_without_5 11 rfl rfl)
theorem dX0_without_132 : decode cX0_without 132 = .ok (.goto (-70), 3) := dk_167 255 186 (dk_at dksX0_without_5 14 rfl rfl)
theorem dX0_without_135 : decode cX0_without 135 = .ok (.iload_n 2, 1) := dk_28 (dk_at dksX0_without_5 17 rfl rfl)
theorem dX0_without_136 : decode cX0_without 136 = .ok (.iload 4, 2) := dk_21 4 (dk_at dksX0_without_5 18 rfl rfl)
theorem dX0_without_138 : decode cX0_without 138 = .ok (.ifCond .eq 7, 3) := dk_153 0 7 (dk_at dksX0_without_5 20 rfl rfl)
theorem dX0_without_141 : decode cX0_without 141 = .ok (.iconst 0, 1) := dk_3 (dk_at dksX0_without_5 23 rfl rfl)
theorem dX0_without_142 : decode cX0_without 142 = .ok (.goto 4, 3) := dk_167 0 4 (dk_at dksX0_without_6 0 rfl rfl)
theorem dX0_without_145 : decode cX0_without 145 = .ok (.iconst 1, 1) := dk_4 (dk_at dksX0_without_6 3 rfl rfl)
theorem dX0_without_146 : decode cX0_without 146 = .ok (.iadd, 1) := dk_96 (dk_at dksX0_without_6 4 rfl rfl)
theorem dX0_without_147 : decode cX0_without 147 = .ok (.istore_n 2, 1) := dk_61 (dk_at dksX0_without_6 5 rfl rfl)
theorem dX0_without_148 : decode cX0_without 148 = .ok (.iinc 3 1, 3) := dk_132 3 1 (dk_at dksX0_without_6 6 rfl rfl)
theorem dX0_without_151 : decode cX0_without 151 = .ok (.goto (-122), 3) := dk_167 255 134 (dk_at dksX0_without_6 9 rfl rfl)
theorem dX0_without_154 : decode cX0_without 154 = .ok (.iload_n 2, 1) := dk_28 (dk_at dksX0_without_6 12 rfl rfl)
theorem dX0_without_155 : decode cX0_without 155 = .ok (.ireturn, 1) := dk_172 (dk_at dksX0_without_6 13 rfl rfl)
theorem dX0_without_156 : decode cX0_without 156 = .ok (.astore_n 2, 1) := dk_77 (dk_at dksX0_without_6 14 rfl rfl)
theorem dX0_without_157 : decode cX0_without 157 = .ok (.aload_n 0, 1) := dk_42 (dk_at dksX0_without_6 15 rfl rfl)
theorem dX0_without_158 : decode cX0_without 158 = .ok (.aload_n 2, 1) := dk_44 (dk_at dksX0_without_6 16 rfl rfl)
theorem dX0_without_159 : decode cX0_without 159 = .ok (.invokevirtual 233, 3) := dk_182 0 233 (dk_at dksX0_without_6 17 rfl rfl)
theorem dX0_without_162 : decode cX0_without 162 = .ok (.ireturn, 1) := dk_172 (dk_at dksX0_without_6 20 rfl rfl)
abbrev cX0_many : ByteArray := prog_1_method_48_code
def yX0_many : MethodName := ⟨RX0, "many", "()I"⟩
def dkwX0_many_1 : List UInt8 := [16, 249, 182, 0, 229, 27, 172, 76, 42, 43, 182, 0, 233, 172]
abbrev dktX0_many_1 : List UInt8 := dkwX0_many_1 ++ []
def dkwX0_many_0 : List UInt8 := [42, 182, 1, 207, 42, 180, 0, 45, 182, 1, 234, 60, 42, 27, 16, 249, 159, 0, 7, 4, 167, 0, 4, 3]
abbrev dktX0_many_0 : List UInt8 := dkwX0_many_0 ++ dktX0_many_1
theorem dksX0_many_0 : cX0_many.data.toList.drop 0 = dktX0_many_0 := by decide +kernel
theorem dksX0_many_1 : cX0_many.data.toList.drop 24 = dktX0_many_1 := dk_seg dksX0_many_0 24 rfl rfl
theorem dX0_many_0 : decode cX0_many 0 = .ok (.aload_n 0, 1) := dk_42 (dk_at dksX0_many_0 0 rfl rfl)
theorem dX0_many_1 : decode cX0_many 1 = .ok (.invokevirtual 463, 3) := dk_182 1 207 (dk_at dksX0_many_0 1 rfl rfl)
theorem dX0_many_4 : decode cX0_many 4 = .ok (.aload_n 0, 1) := dk_42 (dk_at dksX0_many_0 4 rfl rfl)
theorem dX0_many_5 : decode cX0_many 5 = .ok (.getfield 45, 3) := dk_180 0 45 (dk_at dksX0_many_0 5 rfl rfl)
theorem dX0_many_8 : decode cX0_many 8 = .ok (.invokevirtual 490, 3) := dk_182 1 234 (dk_at dksX0_many_0 8 rfl rfl)
theorem dX0_many_11 : decode cX0_many 11 = .ok (.istore_n 1, 1) := dk_60 (dk_at dksX0_many_0 11 rfl rfl)
theorem dX0_many_12 : decode cX0_many 12 = .ok (.aload_n 0, 1) := dk_42 (dk_at dksX0_many_0 12 rfl rfl)
theorem dX0_many_13 : decode cX0_many 13 = .ok (.iload_n 1, 1) := dk_27 (dk_at dksX0_many_0 13 rfl rfl)
theorem dX0_many_14 : decode cX0_many 14 = .ok (.bipush (-7), 2) := dk_16 249 (dk_at dksX0_many_0 14 rfl rfl)
theorem dX0_many_16 : decode cX0_many 16 = .ok (.if_icmp .eq 7, 3) := dk_159 0 7 (dk_at dksX0_many_0 16 rfl rfl)
theorem dX0_many_19 : decode cX0_many 19 = .ok (.iconst 1, 1) := dk_4 (dk_at dksX0_many_0 19 rfl rfl)
theorem dX0_many_20 : decode cX0_many 20 = .ok (.goto 4, 3) := dk_167 0 4 (dk_at dksX0_many_0 20 rfl rfl)
theorem dX0_many_23 : decode cX0_many 23 = .ok (.iconst 0, 1) := dk_3 (dk_at dksX0_many_0 23 rfl rfl)
theorem dX0_many_24 : decode cX0_many 24 = .ok (.bipush (-7), 2) := dk_16 249 (dk_at dksX0_many_1 0 rfl rfl)
theorem dX0_many_26 : decode cX0_many 26 = .ok (.invokevirtual 229, 3) := dk_182 0 229 (dk_at dksX0_many_1 2 rfl rfl)
theorem dX0_many_29 : decode cX0_many 29 = .ok (.iload_n 1, 1) := dk_27 (dk_at dksX0_many_1 5 rfl rfl)
theorem dX0_many_30 : decode cX0_many 30 = .ok (.ireturn, 1) := dk_172 (dk_at dksX0_many_1 6 rfl rfl)
theorem dX0_many_31 : decode cX0_many 31 = .ok (.astore_n 1, 1) := dk_76 (dk_at dksX0_many_1 7 rfl rfl)
theorem dX0_many_32 : decode cX0_many 32 = .ok (.aload_n 0, 1) := dk_42 (dk_at dksX0_many_1 8 rfl rfl)
theorem dX0_many_33 : decode cX0_many 33 = .ok (.aload_n 1, 1) := dk_43 (dk_at dksX0_many_1 9 rfl rfl)
theorem dX0_many_34 : decode cX0_many 34 = .ok (.invokevirtual 233, 3) := dk_182 0 233 (dk_at dksX0_many_1 10 rfl rfl)
theorem dX0_many_37 : decode cX0_many 37 = .ok (.ireturn, 1) := dk_172 (dk_at dksX0_many_1 13 rfl rfl)
abbrev cX0_member : ByteArray := prog_1_method_49_code
def yX0_member : MethodName := ⟨RX0, "member", "(I)I"⟩
def dkwX0_member_3 : List UInt8 := [182, 1, 181, 29, 153, 0, 7, 4, 167, 0, 4, 3, 172, 77, 42, 44, 182, 0, 233, 172]
abbrev dktX0_member_3 : List UInt8 := dkwX0_member_3 ++ []
def dkwX0_member_2 : List UInt8 := [180, 0, 64, 182, 1, 237, 62, 42, 29, 153, 0, 13, 42, 180, 0, 45, 180, 1, 241, 167, 0, 4, 3]
abbrev dktX0_member_2 : List UInt8 := dkwX0_member_2 ++ dktX0_member_3
def dkwX0_member_1 : List UInt8 := [182, 1, 187, 16, 250, 182, 0, 229, 42, 180, 0, 45, 44, 42, 180, 0, 142, 42, 180, 0, 136, 42]
abbrev dktX0_member_1 : List UInt8 := dkwX0_member_1 ++ dktX0_member_2
def dkwX0_member_0 : List UInt8 := [42, 27, 182, 0, 242, 77, 42, 182, 1, 207, 42, 42, 44, 42, 180, 0, 45, 180, 1, 204, 17, 3, 231]
abbrev dktX0_member_0 : List UInt8 := dkwX0_member_0 ++ dktX0_member_1
theorem dksX0_member_0 : cX0_member.data.toList.drop 0 = dktX0_member_0 := by decide +kernel
theorem dksX0_member_1 : cX0_member.data.toList.drop 23 = dktX0_member_1 := dk_seg dksX0_member_0 23 rfl rfl
theorem dksX0_member_2 : cX0_member.data.toList.drop 45 = dktX0_member_2 := dk_seg dksX0_member_1 22 rfl rfl
theorem dksX0_member_3 : cX0_member.data.toList.drop 68 = dktX0_member_3 := dk_seg dksX0_member_2 23 rfl rfl
theorem dX0_member_0 : decode cX0_member 0 = .ok (.aload_n 0, 1) := dk_42 (dk_at dksX0_member_0 0 rfl rfl)
theorem dX0_member_1 : decode cX0_member 1 = .ok (.iload_n 1, 1) := dk_27 (dk_at dksX0_member_0 1 rfl rfl)
theorem dX0_member_2 : decode cX0_member 2 = .ok (.invokevirtual 242, 3) := dk_182 0 242 (dk_at dksX0_member_0 2 rfl rfl)
theorem dX0_member_5 : decode cX0_member 5 = .ok (.astore_n 2, 1) := dk_77 (dk_at dksX0_member_0 5 rfl rfl)
theorem dX0_member_6 : decode cX0_member 6 = .ok (.aload_n 0, 1) := dk_42 (dk_at dksX0_member_0 6 rfl rfl)
theorem dX0_member_7 : decode cX0_member 7 = .ok (.invokevirtual 463, 3) := dk_182 1 207 (dk_at dksX0_member_0 7 rfl rfl)
theorem dX0_member_10 : decode cX0_member 10 = .ok (.aload_n 0, 1) := dk_42 (dk_at dksX0_member_0 10 rfl rfl)
theorem dX0_member_11 : decode cX0_member 11 = .ok (.aload_n 0, 1) := dk_42 (dk_at dksX0_member_0 11 rfl rfl)
theorem dX0_member_12 : decode cX0_member 12 = .ok (.aload_n 2, 1) := dk_44 (dk_at dksX0_member_0 12 rfl rfl)
theorem dX0_member_13 : decode cX0_member 13 = .ok (.aload_n 0, 1) := dk_42 (dk_at dksX0_member_0 13 rfl rfl)
theorem dX0_member_14 : decode cX0_member 14 = .ok (.getfield 45, 3) := dk_180 0 45 (dk_at dksX0_member_0 14 rfl rfl)
theorem dX0_member_17 : decode cX0_member 17 = .ok (.getfield 460, 3) := dk_180 1 204 (dk_at dksX0_member_0 17 rfl rfl)
theorem dX0_member_20 : decode cX0_member 20 = .ok (.sipush 999, 3) := dk_17 3 231 (dk_at dksX0_member_0 20 rfl rfl)
theorem dX0_member_23 : decode cX0_member 23 = .ok (.invokevirtual 443, 3) := dk_182 1 187 (dk_at dksX0_member_1 0 rfl rfl)
theorem dX0_member_26 : decode cX0_member 26 = .ok (.bipush (-6), 2) := dk_16 250 (dk_at dksX0_member_1 3 rfl rfl)
theorem dX0_member_28 : decode cX0_member 28 = .ok (.invokevirtual 229, 3) := dk_182 0 229 (dk_at dksX0_member_1 5 rfl rfl)
theorem dX0_member_31 : decode cX0_member 31 = .ok (.aload_n 0, 1) := dk_42 (dk_at dksX0_member_1 8 rfl rfl)
theorem dX0_member_32 : decode cX0_member 32 = .ok (.getfield 45, 3) := dk_180 0 45 (dk_at dksX0_member_1 9 rfl rfl)
theorem dX0_member_35 : decode cX0_member 35 = .ok (.aload_n 2, 1) := dk_44 (dk_at dksX0_member_1 12 rfl rfl)
theorem dX0_member_36 : decode cX0_member 36 = .ok (.aload_n 0, 1) := dk_42 (dk_at dksX0_member_1 13 rfl rfl)
theorem dX0_member_37 : decode cX0_member 37 = .ok (.getfield 142, 3) := dk_180 0 142 (dk_at dksX0_member_1 14 rfl rfl)
theorem dX0_member_40 : decode cX0_member 40 = .ok (.aload_n 0, 1) := dk_42 (dk_at dksX0_member_1 17 rfl rfl)
theorem dX0_member_41 : decode cX0_member 41 = .ok (.getfield 136, 3) := dk_180 0 136 (dk_at dksX0_member_1 18 rfl rfl)
theorem dX0_member_44 : decode cX0_member 44 = .ok (.aload_n 0, 1) := dk_42 (dk_at dksX0_member_1 21 rfl rfl)
theorem dX0_member_45 : decode cX0_member 45 = .ok (.getfield 64, 3) := dk_180 0 64 (dk_at dksX0_member_2 0 rfl rfl)
theorem dX0_member_48 : decode cX0_member 48 = .ok (.invokevirtual 493, 3) := dk_182 1 237 (dk_at dksX0_member_2 3 rfl rfl)
theorem dX0_member_51 : decode cX0_member 51 = .ok (.istore_n 3, 1) := dk_62 (dk_at dksX0_member_2 6 rfl rfl)
theorem dX0_member_52 : decode cX0_member 52 = .ok (.aload_n 0, 1) := dk_42 (dk_at dksX0_member_2 7 rfl rfl)
theorem dX0_member_53 : decode cX0_member 53 = .ok (.iload_n 3, 1) := dk_29 (dk_at dksX0_member_2 8 rfl rfl)
theorem dX0_member_54 : decode cX0_member 54 = .ok (.ifCond .eq 13, 3) := dk_153 0 13 (dk_at dksX0_member_2 9 rfl rfl)
theorem dX0_member_57 : decode cX0_member 57 = .ok (.aload_n 0, 1) := dk_42 (dk_at dksX0_member_2 12 rfl rfl)
theorem dX0_member_58 : decode cX0_member 58 = .ok (.getfield 45, 3) := dk_180 0 45 (dk_at dksX0_member_2 13 rfl rfl)
theorem dX0_member_61 : decode cX0_member 61 = .ok (.getfield 497, 3) := dk_180 1 241 (dk_at dksX0_member_2 16 rfl rfl)
theorem dX0_member_64 : decode cX0_member 64 = .ok (.goto 4, 3) := dk_167 0 4 (dk_at dksX0_member_2 19 rfl rfl)
theorem dX0_member_67 : decode cX0_member 67 = .ok (.iconst 0, 1) := dk_3 (dk_at dksX0_member_2 22 rfl rfl)
theorem dX0_member_68 : decode cX0_member 68 = .ok (.invokevirtual 437, 3) := dk_182 1 181 (dk_at dksX0_member_3 0 rfl rfl)
theorem dX0_member_71 : decode cX0_member 71 = .ok (.iload_n 3, 1) := dk_29 (dk_at dksX0_member_3 3 rfl rfl)
theorem dX0_member_72 : decode cX0_member 72 = .ok (.ifCond .eq 7, 3) := dk_153 0 7 (dk_at dksX0_member_3 4 rfl rfl)
theorem dX0_member_75 : decode cX0_member 75 = .ok (.iconst 1, 1) := dk_4 (dk_at dksX0_member_3 7 rfl rfl)
theorem dX0_member_76 : decode cX0_member 76 = .ok (.goto 4, 3) := dk_167 0 4 (dk_at dksX0_member_3 8 rfl rfl)
theorem dX0_member_79 : decode cX0_member 79 = .ok (.iconst 0, 1) := dk_3 (dk_at dksX0_member_3 11 rfl rfl)
theorem dX0_member_80 : decode cX0_member 80 = .ok (.ireturn, 1) := dk_172 (dk_at dksX0_member_3 12 rfl rfl)
theorem dX0_member_81 : decode cX0_member 81 = .ok (.astore_n 2, 1) := dk_77 (dk_at dksX0_member_3 13 rfl rfl)
theorem dX0_member_82 : decode cX0_member 82 = .ok (.aload_n 0, 1) := dk_42 (dk_at dksX0_member_3 14 rfl rfl)
theorem dX0_member_83 : decode cX0_member 83 = .ok (.aload_n 2, 1) := dk_44 (dk_at dksX0_member_3 15 rfl rfl)
theorem dX0_member_84 : decode cX0_member 84 = .ok (.invokevirtual 233, 3) := dk_182 0 233 (dk_at dksX0_member_3 16 rfl rfl)
theorem dX0_member_87 : decode cX0_member 87 = .ok (.ireturn, 1) := dk_172 (dk_at dksX0_member_3 19 rfl rfl)
abbrev cX0_quotient : ByteArray := prog_1_method_50_code
def yX0_quotient : MethodName := ⟨RX0, "quotient", "(II)I"⟩
def dkwX0_quotient_1 : List UInt8 := [16, 249, 182, 0, 229, 42, 42, 180, 0, 133, 27, 50, 45, 182, 1, 29, 172, 78, 42, 45, 182, 0, 233, 172]
abbrev dktX0_quotient_1 : List UInt8 := dkwX0_quotient_1 ++ []
def dkwX0_quotient_0 : List UInt8 := [42, 28, 182, 0, 190, 78, 42, 27, 155, 0, 15, 27, 42, 180, 1, 167, 162, 0, 7, 4, 167, 0, 4, 3]
abbrev dktX0_quotient_0 : List UInt8 := dkwX0_quotient_0 ++ dktX0_quotient_1
theorem dksX0_quotient_0 : cX0_quotient.data.toList.drop 0 = dktX0_quotient_0 := by decide +kernel
theorem dksX0_quotient_1 : cX0_quotient.data.toList.drop 24 = dktX0_quotient_1 := dk_seg dksX0_quotient_0 24 rfl rfl
theorem dX0_quotient_0 : decode cX0_quotient 0 = .ok (.aload_n 0, 1) := dk_42 (dk_at dksX0_quotient_0 0 rfl rfl)
theorem dX0_quotient_1 : decode cX0_quotient 1 = .ok (.iload_n 2, 1) := dk_28 (dk_at dksX0_quotient_0 1 rfl rfl)
theorem dX0_quotient_2 : decode cX0_quotient 2 = .ok (.invokevirtual 190, 3) := dk_182 0 190 (dk_at dksX0_quotient_0 2 rfl rfl)
theorem dX0_quotient_5 : decode cX0_quotient 5 = .ok (.astore_n 3, 1) := dk_78 (dk_at dksX0_quotient_0 5 rfl rfl)
theorem dX0_quotient_6 : decode cX0_quotient 6 = .ok (.aload_n 0, 1) := dk_42 (dk_at dksX0_quotient_0 6 rfl rfl)
theorem dX0_quotient_7 : decode cX0_quotient 7 = .ok (.iload_n 1, 1) := dk_27 (dk_at dksX0_quotient_0 7 rfl rfl)
theorem dX0_quotient_8 : decode cX0_quotient 8 = .ok (.ifCond .lt 15, 3) := dk_155 0 15 (dk_at dksX0_quotient_0 8 rfl rfl)
theorem dX0_quotient_11 : decode cX0_quotient 11 = .ok (.iload_n 1, 1) := dk_27 (dk_at dksX0_quotient_0 11 rfl rfl)
theorem dX0_quotient_12 : decode cX0_quotient 12 = .ok (.aload_n 0, 1) := dk_42 (dk_at dksX0_quotient_0 12 rfl rfl)
theorem dX0_quotient_13 : decode cX0_quotient 13 = .ok (.getfield 423, 3) := dk_180 1 167 (dk_at dksX0_quotient_0 13 rfl rfl)
theorem dX0_quotient_16 : decode cX0_quotient 16 = .ok (.if_icmp .ge 7, 3) := dk_162 0 7 (dk_at dksX0_quotient_0 16 rfl rfl)
theorem dX0_quotient_19 : decode cX0_quotient 19 = .ok (.iconst 1, 1) := dk_4 (dk_at dksX0_quotient_0 19 rfl rfl)
theorem dX0_quotient_20 : decode cX0_quotient 20 = .ok (.goto 4, 3) := dk_167 0 4 (dk_at dksX0_quotient_0 20 rfl rfl)
theorem dX0_quotient_23 : decode cX0_quotient 23 = .ok (.iconst 0, 1) := dk_3 (dk_at dksX0_quotient_0 23 rfl rfl)
theorem dX0_quotient_24 : decode cX0_quotient 24 = .ok (.bipush (-7), 2) := dk_16 249 (dk_at dksX0_quotient_1 0 rfl rfl)
theorem dX0_quotient_26 : decode cX0_quotient 26 = .ok (.invokevirtual 229, 3) := dk_182 0 229 (dk_at dksX0_quotient_1 2 rfl rfl)
theorem dX0_quotient_29 : decode cX0_quotient 29 = .ok (.aload_n 0, 1) := dk_42 (dk_at dksX0_quotient_1 5 rfl rfl)
theorem dX0_quotient_30 : decode cX0_quotient 30 = .ok (.aload_n 0, 1) := dk_42 (dk_at dksX0_quotient_1 6 rfl rfl)
theorem dX0_quotient_31 : decode cX0_quotient 31 = .ok (.getfield 133, 3) := dk_180 0 133 (dk_at dksX0_quotient_1 7 rfl rfl)
theorem dX0_quotient_34 : decode cX0_quotient 34 = .ok (.iload_n 1, 1) := dk_27 (dk_at dksX0_quotient_1 10 rfl rfl)
theorem dX0_quotient_35 : decode cX0_quotient 35 = .ok (.aaload, 1) := dk_50 (dk_at dksX0_quotient_1 11 rfl rfl)
theorem dX0_quotient_36 : decode cX0_quotient 36 = .ok (.aload_n 3, 1) := dk_45 (dk_at dksX0_quotient_1 12 rfl rfl)
theorem dX0_quotient_37 : decode cX0_quotient 37 = .ok (.invokevirtual 285, 3) := dk_182 1 29 (dk_at dksX0_quotient_1 13 rfl rfl)
theorem dX0_quotient_40 : decode cX0_quotient 40 = .ok (.ireturn, 1) := dk_172 (dk_at dksX0_quotient_1 16 rfl rfl)
theorem dX0_quotient_41 : decode cX0_quotient 41 = .ok (.astore_n 3, 1) := dk_78 (dk_at dksX0_quotient_1 17 rfl rfl)
theorem dX0_quotient_42 : decode cX0_quotient 42 = .ok (.aload_n 0, 1) := dk_42 (dk_at dksX0_quotient_1 18 rfl rfl)
theorem dX0_quotient_43 : decode cX0_quotient 43 = .ok (.aload_n 3, 1) := dk_45 (dk_at dksX0_quotient_1 19 rfl rfl)
theorem dX0_quotient_44 : decode cX0_quotient 44 = .ok (.invokevirtual 233, 3) := dk_182 0 233 (dk_at dksX0_quotient_1 20 rfl rfl)
theorem dX0_quotient_47 : decode cX0_quotient 47 = .ok (.ireturn, 1) := dk_172 (dk_at dksX0_quotient_1 23 rfl rfl)
abbrev cX0_rest : ByteArray := prog_1_method_51_code
def yX0_rest : MethodName := ⟨RX0, "rest", "(I)I"⟩
def dkwX0_rest_1 : List UInt8 := [182, 1, 29, 172, 77, 42, 44, 182, 0, 233, 172]
abbrev dktX0_rest_1 : List UInt8 := dkwX0_rest_1 ++ []
def dkwX0_rest_0 : List UInt8 := [42, 27, 182, 0, 190, 77, 42, 42, 180, 1, 170, 16, 249, 182, 0, 229, 42, 42, 180, 0, 139, 44]
abbrev dktX0_rest_0 : List UInt8 := dkwX0_rest_0 ++ dktX0_rest_1
theorem dksX0_rest_0 : cX0_rest.data.toList.drop 0 = dktX0_rest_0 := by decide +kernel
theorem dksX0_rest_1 : cX0_rest.data.toList.drop 22 = dktX0_rest_1 := dk_seg dksX0_rest_0 22 rfl rfl
theorem dX0_rest_0 : decode cX0_rest 0 = .ok (.aload_n 0, 1) := dk_42 (dk_at dksX0_rest_0 0 rfl rfl)
theorem dX0_rest_1 : decode cX0_rest 1 = .ok (.iload_n 1, 1) := dk_27 (dk_at dksX0_rest_0 1 rfl rfl)
theorem dX0_rest_2 : decode cX0_rest 2 = .ok (.invokevirtual 190, 3) := dk_182 0 190 (dk_at dksX0_rest_0 2 rfl rfl)
theorem dX0_rest_5 : decode cX0_rest 5 = .ok (.astore_n 2, 1) := dk_77 (dk_at dksX0_rest_0 5 rfl rfl)
theorem dX0_rest_6 : decode cX0_rest 6 = .ok (.aload_n 0, 1) := dk_42 (dk_at dksX0_rest_0 6 rfl rfl)
theorem dX0_rest_7 : decode cX0_rest 7 = .ok (.aload_n 0, 1) := dk_42 (dk_at dksX0_rest_0 7 rfl rfl)
theorem dX0_rest_8 : decode cX0_rest 8 = .ok (.getfield 426, 3) := dk_180 1 170 (dk_at dksX0_rest_0 8 rfl rfl)
theorem dX0_rest_11 : decode cX0_rest 11 = .ok (.bipush (-7), 2) := dk_16 249 (dk_at dksX0_rest_0 11 rfl rfl)
theorem dX0_rest_13 : decode cX0_rest 13 = .ok (.invokevirtual 229, 3) := dk_182 0 229 (dk_at dksX0_rest_0 13 rfl rfl)
theorem dX0_rest_16 : decode cX0_rest 16 = .ok (.aload_n 0, 1) := dk_42 (dk_at dksX0_rest_0 16 rfl rfl)
theorem dX0_rest_17 : decode cX0_rest 17 = .ok (.aload_n 0, 1) := dk_42 (dk_at dksX0_rest_0 17 rfl rfl)
theorem dX0_rest_18 : decode cX0_rest 18 = .ok (.getfield 139, 3) := dk_180 0 139 (dk_at dksX0_rest_0 18 rfl rfl)
theorem dX0_rest_21 : decode cX0_rest 21 = .ok (.aload_n 2, 1) := dk_44 (dk_at dksX0_rest_0 21 rfl rfl)
theorem dX0_rest_22 : decode cX0_rest 22 = .ok (.invokevirtual 285, 3) := dk_182 1 29 (dk_at dksX0_rest_1 0 rfl rfl)
theorem dX0_rest_25 : decode cX0_rest 25 = .ok (.ireturn, 1) := dk_172 (dk_at dksX0_rest_1 3 rfl rfl)
theorem dX0_rest_26 : decode cX0_rest 26 = .ok (.astore_n 2, 1) := dk_77 (dk_at dksX0_rest_1 4 rfl rfl)
theorem dX0_rest_27 : decode cX0_rest 27 = .ok (.aload_n 0, 1) := dk_42 (dk_at dksX0_rest_1 5 rfl rfl)
theorem dX0_rest_28 : decode cX0_rest 28 = .ok (.aload_n 2, 1) := dk_44 (dk_at dksX0_rest_1 6 rfl rfl)
theorem dX0_rest_29 : decode cX0_rest 29 = .ok (.invokevirtual 233, 3) := dk_182 0 233 (dk_at dksX0_rest_1 7 rfl rfl)
theorem dX0_rest_32 : decode cX0_rest 32 = .ok (.ireturn, 1) := dk_172 (dk_at dksX0_rest_1 10 rfl rfl)
abbrev cX0_roots : ByteArray := prog_1_method_54_code
def yX0_roots : MethodName := ⟨RX0, "roots", "(I)I"⟩
def dkwX0_roots_6 : List UInt8 := [167, 255, 245, 42, 180, 0, 160, 172, 77, 42, 44, 182, 0, 233, 172]
abbrev dktX0_roots_6 : List UInt8 := dkwX0_roots_6 ++ []
def dkwX0_roots_5 : List UInt8 := [180, 0, 165, 180, 2, 12, 9, 182, 1, 135, 4, 54, 4, 21, 4, 153, 0, 12, 42, 182, 2, 15, 54, 4]
abbrev dktX0_roots_5 : List UInt8 := dkwX0_roots_5 ++ dktX0_roots_6
def dkwX0_roots_4 : List UInt8 := [180, 0, 165, 29, 181, 2, 4, 42, 180, 0, 165, 3, 181, 2, 6, 42, 180, 0, 165, 3, 181, 2, 9, 42]
abbrev dktX0_roots_4 : List UInt8 := dkwX0_roots_4 ++ dktX0_roots_5
def dkwX0_roots_3 : List UInt8 := [180, 0, 165, 180, 2, 3, 21, 4, 42, 180, 0, 148, 21, 4, 46, 79, 132, 4, 1, 167, 255, 229, 42]
abbrev dktX0_roots_3 : List UInt8 := dkwX0_roots_3 ++ dktX0_roots_4
def dkwX0_roots_2 : List UInt8 := [180, 0, 54, 42, 180, 0, 148, 29, 182, 1, 255, 3, 54, 4, 21, 4, 16, 9, 162, 0, 26, 42]
abbrev dktX0_roots_2 : List UInt8 := dkwX0_roots_2 ++ dktX0_roots_3
def dkwX0_roots_1 : List UInt8 := [42, 44, 42, 180, 0, 148, 182, 1, 251, 62, 42, 3, 181, 0, 160, 29, 154, 0, 5, 3, 172, 42]
abbrev dktX0_roots_1 : List UInt8 := dkwX0_roots_1 ++ dktX0_roots_2
def dkwX0_roots_0 : List UInt8 := [42, 27, 182, 0, 242, 77, 42, 44, 180, 0, 226, 158, 0, 7, 4, 167, 0, 4, 3, 16, 251, 182, 0, 229]
abbrev dktX0_roots_0 : List UInt8 := dkwX0_roots_0 ++ dktX0_roots_1
theorem dksX0_roots_0 : cX0_roots.data.toList.drop 0 = dktX0_roots_0 := by decide +kernel
theorem dksX0_roots_1 : cX0_roots.data.toList.drop 24 = dktX0_roots_1 := dk_seg dksX0_roots_0 24 rfl rfl
theorem dksX0_roots_2 : cX0_roots.data.toList.drop 46 = dktX0_roots_2 := dk_seg dksX0_roots_1 22 rfl rfl
theorem dksX0_roots_3 : cX0_roots.data.toList.drop 68 = dktX0_roots_3 := dk_seg dksX0_roots_2 22 rfl rfl
theorem dksX0_roots_4 : cX0_roots.data.toList.drop 91 = dktX0_roots_4 := dk_seg dksX0_roots_3 23 rfl rfl
theorem dksX0_roots_5 : cX0_roots.data.toList.drop 115 = dktX0_roots_5 := dk_seg dksX0_roots_4 24 rfl rfl
theorem dksX0_roots_6 : cX0_roots.data.toList.drop 139 = dktX0_roots_6 := dk_seg dksX0_roots_5 24 rfl rfl
theorem dX0_roots_0 : decode cX0_roots 0 = .ok (.aload_n 0, 1) := dk_42 (dk_at dksX0_roots_0 0 rfl rfl)
theorem dX0_roots_1 : decode cX0_roots 1 = .ok (.iload_n 1, 1) := dk_27 (dk_at dksX0_roots_0 1 rfl rfl)
theorem dX0_roots_2 : decode cX0_roots 2 = .ok (.invokevirtual 242, 3) := dk_182 0 242 (dk_at dksX0_roots_0 2 rfl rfl)
theorem dX0_roots_5 : decode cX0_roots 5 = .ok (.astore_n 2, 1) := dk_77 (dk_at dksX0_roots_0 5 rfl rfl)
theorem dX0_roots_6 : decode cX0_roots 6 = .ok (.aload_n 0, 1) := dk_42 (dk_at dksX0_roots_0 6 rfl rfl)
theorem dX0_roots_7 : decode cX0_roots 7 = .ok (.aload_n 2, 1) := dk_44 (dk_at dksX0_roots_0 7 rfl rfl)
theorem dX0_roots_8 : decode cX0_roots 8 = .ok (.getfield 226, 3) := dk_180 0 226 (dk_at dksX0_roots_0 8 rfl rfl)
theorem dX0_roots_11 : decode cX0_roots 11 = .ok (.ifCond .le 7, 3) := dk_158 0 7 (dk_at dksX0_roots_0 11 rfl rfl)
theorem dX0_roots_14 : decode cX0_roots 14 = .ok (.iconst 1, 1) := dk_4 (dk_at dksX0_roots_0 14 rfl rfl)
theorem dX0_roots_15 : decode cX0_roots 15 = .ok (.goto 4, 3) := dk_167 0 4 (dk_at dksX0_roots_0 15 rfl rfl)
theorem dX0_roots_18 : decode cX0_roots 18 = .ok (.iconst 0, 1) := dk_3 (dk_at dksX0_roots_0 18 rfl rfl)
theorem dX0_roots_19 : decode cX0_roots 19 = .ok (.bipush (-5), 2) := dk_16 251 (dk_at dksX0_roots_0 19 rfl rfl)
theorem dX0_roots_21 : decode cX0_roots 21 = .ok (.invokevirtual 229, 3) := dk_182 0 229 (dk_at dksX0_roots_0 21 rfl rfl)
theorem dX0_roots_24 : decode cX0_roots 24 = .ok (.aload_n 0, 1) := dk_42 (dk_at dksX0_roots_1 0 rfl rfl)
theorem dX0_roots_25 : decode cX0_roots 25 = .ok (.aload_n 2, 1) := dk_44 (dk_at dksX0_roots_1 1 rfl rfl)
theorem dX0_roots_26 : decode cX0_roots 26 = .ok (.aload_n 0, 1) := dk_42 (dk_at dksX0_roots_1 2 rfl rfl)
theorem dX0_roots_27 : decode cX0_roots 27 = .ok (.getfield 148, 3) := dk_180 0 148 (dk_at dksX0_roots_1 3 rfl rfl)
theorem dX0_roots_30 : decode cX0_roots 30 = .ok (.invokevirtual 507, 3) := dk_182 1 251 (dk_at dksX0_roots_1 6 rfl rfl)
theorem dX0_roots_33 : decode cX0_roots 33 = .ok (.istore_n 3, 1) := dk_62 (dk_at dksX0_roots_1 9 rfl rfl)
theorem dX0_roots_34 : decode cX0_roots 34 = .ok (.aload_n 0, 1) := dk_42 (dk_at dksX0_roots_1 10 rfl rfl)
theorem dX0_roots_35 : decode cX0_roots 35 = .ok (.iconst 0, 1) := dk_3 (dk_at dksX0_roots_1 11 rfl rfl)
theorem dX0_roots_36 : decode cX0_roots 36 = .ok (.putfield 160, 3) := dk_181 0 160 (dk_at dksX0_roots_1 12 rfl rfl)
theorem dX0_roots_39 : decode cX0_roots 39 = .ok (.iload_n 3, 1) := dk_29 (dk_at dksX0_roots_1 15 rfl rfl)
theorem dX0_roots_40 : decode cX0_roots 40 = .ok (.ifCond .ne 5, 3) := dk_154 0 5 (dk_at dksX0_roots_1 16 rfl rfl)
theorem dX0_roots_43 : decode cX0_roots 43 = .ok (.iconst 0, 1) := dk_3 (dk_at dksX0_roots_1 19 rfl rfl)
theorem dX0_roots_44 : decode cX0_roots 44 = .ok (.ireturn, 1) := dk_172 (dk_at dksX0_roots_1 20 rfl rfl)
theorem dX0_roots_45 : decode cX0_roots 45 = .ok (.aload_n 0, 1) := dk_42 (dk_at dksX0_roots_1 21 rfl rfl)
theorem dX0_roots_46 : decode cX0_roots 46 = .ok (.getfield 54, 3) := dk_180 0 54 (dk_at dksX0_roots_2 0 rfl rfl)
theorem dX0_roots_49 : decode cX0_roots 49 = .ok (.aload_n 0, 1) := dk_42 (dk_at dksX0_roots_2 3 rfl rfl)
theorem dX0_roots_50 : decode cX0_roots 50 = .ok (.getfield 148, 3) := dk_180 0 148 (dk_at dksX0_roots_2 4 rfl rfl)
theorem dX0_roots_53 : decode cX0_roots 53 = .ok (.iload_n 3, 1) := dk_29 (dk_at dksX0_roots_2 7 rfl rfl)
theorem dX0_roots_54 : decode cX0_roots 54 = .ok (.invokevirtual 511, 3) := dk_182 1 255 (dk_at dksX0_roots_2 8 rfl rfl)
theorem dX0_roots_57 : decode cX0_roots 57 = .ok (.iconst 0, 1) := dk_3 (dk_at dksX0_roots_2 11 rfl rfl)
theorem dX0_roots_58 : decode cX0_roots 58 = .ok (.istore 4, 2) := dk_54 4 (dk_at dksX0_roots_2 12 rfl rfl)
theorem dX0_roots_60 : decode cX0_roots 60 = .ok (.iload 4, 2) := dk_21 4 (dk_at dksX0_roots_2 14 rfl rfl)
theorem dX0_roots_62 : decode cX0_roots 62 = .ok (.bipush 9, 2) := dk_16 9 (dk_at dksX0_roots_2 16 rfl rfl)
theorem dX0_roots_64 : decode cX0_roots 64 = .ok (.if_icmp .ge 26, 3) := dk_162 0 26 (dk_at dksX0_roots_2 18 rfl rfl)
theorem dX0_roots_67 : decode cX0_roots 67 = .ok (.aload_n 0, 1) := dk_42 (dk_at dksX0_roots_2 21 rfl rfl)
theorem dX0_roots_68 : decode cX0_roots 68 = .ok (.getfield 165, 3) := dk_180 0 165 (dk_at dksX0_roots_3 0 rfl rfl)
theorem dX0_roots_71 : decode cX0_roots 71 = .ok (.getfield 515, 3) := dk_180 2 3 (dk_at dksX0_roots_3 3 rfl rfl)
theorem dX0_roots_74 : decode cX0_roots 74 = .ok (.iload 4, 2) := dk_21 4 (dk_at dksX0_roots_3 6 rfl rfl)
theorem dX0_roots_76 : decode cX0_roots 76 = .ok (.aload_n 0, 1) := dk_42 (dk_at dksX0_roots_3 8 rfl rfl)
theorem dX0_roots_77 : decode cX0_roots 77 = .ok (.getfield 148, 3) := dk_180 0 148 (dk_at dksX0_roots_3 9 rfl rfl)
theorem dX0_roots_80 : decode cX0_roots 80 = .ok (.iload 4, 2) := dk_21 4 (dk_at dksX0_roots_3 12 rfl rfl)
theorem dX0_roots_82 : decode cX0_roots 82 = .ok (.iaload, 1) := dk_46 (dk_at dksX0_roots_3 14 rfl rfl)
theorem dX0_roots_83 : decode cX0_roots 83 = .ok (.iastore, 1) := dk_79 (dk_at dksX0_roots_3 15 rfl rfl)
theorem dX0_roots_84 : decode cX0_roots 84 = .ok (.iinc 4 1, 3) := dk_132 4 1 (dk_at dksX0_roots_3 16 rfl rfl)
theorem dX0_roots_87 : decode cX0_roots 87 = .ok (.goto (-27), 3) := dk_167 255 229 (dk_at dksX0_roots_3 19 rfl rfl)
theorem dX0_roots_90 : decode cX0_roots 90 = .ok (.aload_n 0, 1) := dk_42 (dk_at dksX0_roots_3 22 rfl rfl)
theorem dX0_roots_91 : decode cX0_roots 91 = .ok (.getfield 165, 3) := dk_180 0 165 (dk_at dksX0_roots_4 0 rfl rfl)
theorem dX0_roots_94 : decode cX0_roots 94 = .ok (.iload_n 3, 1) := dk_29 (dk_at dksX0_roots_4 3 rfl rfl)
theorem dX0_roots_95 : decode cX0_roots 95 = .ok (.putfield 516, 3) := dk_181 2 4 (dk_at dksX0_roots_4 4 rfl rfl)
theorem dX0_roots_98 : decode cX0_roots 98 = .ok (.aload_n 0, 1) := dk_42 (dk_at dksX0_roots_4 7 rfl rfl)
theorem dX0_roots_99 : decode cX0_roots 99 = .ok (.getfield 165, 3) := dk_180 0 165 (dk_at dksX0_roots_4 8 rfl rfl)
theorem dX0_roots_102 : decode cX0_roots 102 = .ok (.iconst 0, 1) := dk_3 (dk_at dksX0_roots_4 11 rfl rfl)
theorem dX0_roots_103 : decode cX0_roots 103 = .ok (.putfield 518, 3) := dk_181 2 6 (dk_at dksX0_roots_4 12 rfl rfl)
theorem dX0_roots_106 : decode cX0_roots 106 = .ok (.aload_n 0, 1) := dk_42 (dk_at dksX0_roots_4 15 rfl rfl)
theorem dX0_roots_107 : decode cX0_roots 107 = .ok (.getfield 165, 3) := dk_180 0 165 (dk_at dksX0_roots_4 16 rfl rfl)
theorem dX0_roots_110 : decode cX0_roots 110 = .ok (.iconst 0, 1) := dk_3 (dk_at dksX0_roots_4 19 rfl rfl)
theorem dX0_roots_111 : decode cX0_roots 111 = .ok (.putfield 521, 3) := dk_181 2 9 (dk_at dksX0_roots_4 20 rfl rfl)
theorem dX0_roots_114 : decode cX0_roots 114 = .ok (.aload_n 0, 1) := dk_42 (dk_at dksX0_roots_4 23 rfl rfl)
theorem dX0_roots_115 : decode cX0_roots 115 = .ok (.getfield 165, 3) := dk_180 0 165 (dk_at dksX0_roots_5 0 rfl rfl)
theorem dX0_roots_118 : decode cX0_roots 118 = .ok (.getfield 524, 3) := dk_180 2 12 (dk_at dksX0_roots_5 3 rfl rfl)
theorem dX0_roots_121 : decode cX0_roots 121 = .ok (.lconst 0, 1) := dk_9 (dk_at dksX0_roots_5 6 rfl rfl)
theorem dX0_roots_122 : decode cX0_roots 122 = .ok (.invokevirtual 391, 3) := dk_182 1 135 (dk_at dksX0_roots_5 7 rfl rfl)
theorem dX0_roots_125 : decode cX0_roots 125 = .ok (.iconst 1, 1) := dk_4 (dk_at dksX0_roots_5 10 rfl rfl)
theorem dX0_roots_126 : decode cX0_roots 126 = .ok (.istore 4, 2) := dk_54 4 (dk_at dksX0_roots_5 11 rfl rfl)
theorem dX0_roots_128 : decode cX0_roots 128 = .ok (.iload 4, 2) := dk_21 4 (dk_at dksX0_roots_5 13 rfl rfl)
theorem dX0_roots_130 : decode cX0_roots 130 = .ok (.ifCond .eq 12, 3) := dk_153 0 12 (dk_at dksX0_roots_5 15 rfl rfl)
theorem dX0_roots_133 : decode cX0_roots 133 = .ok (.aload_n 0, 1) := dk_42 (dk_at dksX0_roots_5 18 rfl rfl)
theorem dX0_roots_134 : decode cX0_roots 134 = .ok (.invokevirtual 527, 3) := dk_182 2 15 (dk_at dksX0_roots_5 19 rfl rfl)
theorem dX0_roots_137 : decode cX0_roots 137 = .ok (.istore 4, 2) := dk_54 4 (dk_at dksX0_roots_5 22 rfl rfl)
theorem dX0_roots_139 : decode cX0_roots 139 = .ok (.goto (-11), 3) := dk_167 255 245 (dk_at dksX0_roots_6 0 rfl rfl)
theorem dX0_roots_142 : decode cX0_roots 142 = .ok (.aload_n 0, 1) := dk_42 (dk_at dksX0_roots_6 3 rfl rfl)
theorem dX0_roots_143 : decode cX0_roots 143 = .ok (.getfield 160, 3) := dk_180 0 160 (dk_at dksX0_roots_6 4 rfl rfl)
theorem dX0_roots_146 : decode cX0_roots 146 = .ok (.ireturn, 1) := dk_172 (dk_at dksX0_roots_6 7 rfl rfl)
theorem dX0_roots_147 : decode cX0_roots 147 = .ok (.astore_n 2, 1) := dk_77 (dk_at dksX0_roots_6 8 rfl rfl)
theorem dX0_roots_148 : decode cX0_roots 148 = .ok (.aload_n 0, 1) := dk_42 (dk_at dksX0_roots_6 9 rfl rfl)
theorem dX0_roots_149 : decode cX0_roots 149 = .ok (.aload_n 2, 1) := dk_44 (dk_at dksX0_roots_6 10 rfl rfl)
theorem dX0_roots_150 : decode cX0_roots 150 = .ok (.invokevirtual 233, 3) := dk_182 0 233 (dk_at dksX0_roots_6 11 rfl rfl)
theorem dX0_roots_153 : decode cX0_roots 153 = .ok (.ireturn, 1) := dk_172 (dk_at dksX0_roots_6 14 rfl rfl)
abbrev cX0_single : ByteArray := prog_1_method_52_code
def yX0_single : MethodName := ⟨RX0, "single", "(LIdealCourt$Poly;[I)I"⟩
def dkwX0_single_8 : List UInt8 := [182, 0, 229, 21, 4, 172]
abbrev dktX0_single_8 : List UInt8 := dkwX0_single_8 ++ []
def dkwX0_single_7 : List UInt8 := [29, 4, 159, 0, 13, 29, 5, 159, 0, 8, 29, 7, 160, 0, 7, 4, 167, 0, 4, 3, 16, 250]
abbrev dktX0_single_7 : List UInt8 := dkwX0_single_7 ++ dktX0_single_8
def dkwX0_single_6 : List UInt8 := [180, 0, 22, 21, 5, 182, 1, 100, 184, 1, 242, 54, 4, 132, 5, 1, 167, 255, 144, 42, 29, 153, 0, 18]
abbrev dktX0_single_6 : List UInt8 := dkwX0_single_6 ++ dktX0_single_7
def dkwX0_single_5 : List UInt8 := [180, 0, 22, 21, 5, 182, 1, 100, 92, 46, 42, 180, 0, 64, 182, 1, 194, 96, 79, 21, 4, 42]
abbrev dktX0_single_5 : List UInt8 := dkwX0_single_5 ++ dktX0_single_6
def dkwX0_single_4 : List UInt8 := [167, 0, 4, 3, 128, 62, 132, 6, 1, 167, 255, 220, 43, 21, 5, 42, 180, 0, 64, 182, 0, 252, 44, 42]
abbrev dktX0_single_4 : List UInt8 := dkwX0_single_4 ++ dktX0_single_5
def dkwX0_single_3 : List UInt8 := [162, 0, 36, 29, 42, 180, 0, 22, 180, 1, 109, 21, 6, 50, 21, 5, 51, 158, 0, 10, 4, 21, 6, 120]
abbrev dktX0_single_3 : List UInt8 := dkwX0_single_3 ++ dktX0_single_4
def dkwX0_single_2 : List UInt8 := [17, 1, 199, 162, 0, 110, 43, 21, 5, 182, 1, 12, 154, 0, 6, 167, 0, 92, 3, 54, 6, 21, 6, 6]
abbrev dktX0_single_2 : List UInt8 := dkwX0_single_2 ++ dktX0_single_3
def dkwX0_single_1 : List UInt8 := [42, 43, 16, 8, 16, 99, 182, 1, 187, 16, 250, 182, 0, 229, 3, 54, 4, 3, 54, 5, 21, 5]
abbrev dktX0_single_1 : List UInt8 := dkwX0_single_1 ++ dktX0_single_2
def dkwX0_single_0 : List UInt8 := [3, 62, 3, 54, 4, 21, 4, 16, 9, 162, 0, 14, 44, 21, 4, 3, 79, 132, 4, 1, 167, 255, 241, 42]
abbrev dktX0_single_0 : List UInt8 := dkwX0_single_0 ++ dktX0_single_1
theorem dksX0_single_0 : cX0_single.data.toList.drop 0 = dktX0_single_0 := by decide +kernel
theorem dksX0_single_1 : cX0_single.data.toList.drop 24 = dktX0_single_1 := dk_seg dksX0_single_0 24 rfl rfl
theorem dksX0_single_2 : cX0_single.data.toList.drop 46 = dktX0_single_2 := dk_seg dksX0_single_1 22 rfl rfl
theorem dksX0_single_3 : cX0_single.data.toList.drop 70 = dktX0_single_3 := dk_seg dksX0_single_2 24 rfl rfl
theorem dksX0_single_4 : cX0_single.data.toList.drop 94 = dktX0_single_4 := dk_seg dksX0_single_3 24 rfl rfl
theorem dksX0_single_5 : cX0_single.data.toList.drop 118 = dktX0_single_5 := dk_seg dksX0_single_4 24 rfl rfl
theorem dksX0_single_6 : cX0_single.data.toList.drop 140 = dktX0_single_6 := dk_seg dksX0_single_5 22 rfl rfl
theorem dksX0_single_7 : cX0_single.data.toList.drop 164 = dktX0_single_7 := dk_seg dksX0_single_6 24 rfl rfl
theorem dksX0_single_8 : cX0_single.data.toList.drop 186 = dktX0_single_8 := dk_seg dksX0_single_7 22 rfl rfl
theorem dX0_single_0 : decode cX0_single 0 = .ok (.iconst 0, 1) := dk_3 (dk_at dksX0_single_0 0 rfl rfl)
theorem dX0_single_1 : decode cX0_single 1 = .ok (.istore_n 3, 1) := dk_62 (dk_at dksX0_single_0 1 rfl rfl)
theorem dX0_single_2 : decode cX0_single 2 = .ok (.iconst 0, 1) := dk_3 (dk_at dksX0_single_0 2 rfl rfl)
theorem dX0_single_3 : decode cX0_single 3 = .ok (.istore 4, 2) := dk_54 4 (dk_at dksX0_single_0 3 rfl rfl)
theorem dX0_single_5 : decode cX0_single 5 = .ok (.iload 4, 2) := dk_21 4 (dk_at dksX0_single_0 5 rfl rfl)
theorem dX0_single_7 : decode cX0_single 7 = .ok (.bipush 9, 2) := dk_16 9 (dk_at dksX0_single_0 7 rfl rfl)
theorem dX0_single_9 : decode cX0_single 9 = .ok (.if_icmp .ge 14, 3) := dk_162 0 14 (dk_at dksX0_single_0 9 rfl rfl)
theorem dX0_single_12 : decode cX0_single 12 = .ok (.aload_n 2, 1) := dk_44 (dk_at dksX0_single_0 12 rfl rfl)
theorem dX0_single_13 : decode cX0_single 13 = .ok (.iload 4, 2) := dk_21 4 (dk_at dksX0_single_0 13 rfl rfl)
theorem dX0_single_15 : decode cX0_single 15 = .ok (.iconst 0, 1) := dk_3 (dk_at dksX0_single_0 15 rfl rfl)
theorem dX0_single_16 : decode cX0_single 16 = .ok (.iastore, 1) := dk_79 (dk_at dksX0_single_0 16 rfl rfl)
theorem dX0_single_17 : decode cX0_single 17 = .ok (.iinc 4 1, 3) := dk_132 4 1 (dk_at dksX0_single_0 17 rfl rfl)
theorem dX0_single_20 : decode cX0_single 20 = .ok (.goto (-15), 3) := dk_167 255 241 (dk_at dksX0_single_0 20 rfl rfl)
theorem dX0_single_23 : decode cX0_single 23 = .ok (.aload_n 0, 1) := dk_42 (dk_at dksX0_single_0 23 rfl rfl)
theorem dX0_single_24 : decode cX0_single 24 = .ok (.aload_n 0, 1) := dk_42 (dk_at dksX0_single_1 0 rfl rfl)
theorem dX0_single_25 : decode cX0_single 25 = .ok (.aload_n 1, 1) := dk_43 (dk_at dksX0_single_1 1 rfl rfl)
theorem dX0_single_26 : decode cX0_single 26 = .ok (.bipush 8, 2) := dk_16 8 (dk_at dksX0_single_1 2 rfl rfl)
theorem dX0_single_28 : decode cX0_single 28 = .ok (.bipush 99, 2) := dk_16 99 (dk_at dksX0_single_1 4 rfl rfl)
theorem dX0_single_30 : decode cX0_single 30 = .ok (.invokevirtual 443, 3) := dk_182 1 187 (dk_at dksX0_single_1 6 rfl rfl)
theorem dX0_single_33 : decode cX0_single 33 = .ok (.bipush (-6), 2) := dk_16 250 (dk_at dksX0_single_1 9 rfl rfl)
theorem dX0_single_35 : decode cX0_single 35 = .ok (.invokevirtual 229, 3) := dk_182 0 229 (dk_at dksX0_single_1 11 rfl rfl)
theorem dX0_single_38 : decode cX0_single 38 = .ok (.iconst 0, 1) := dk_3 (dk_at dksX0_single_1 14 rfl rfl)
theorem dX0_single_39 : decode cX0_single 39 = .ok (.istore 4, 2) := dk_54 4 (dk_at dksX0_single_1 15 rfl rfl)
theorem dX0_single_41 : decode cX0_single 41 = .ok (.iconst 0, 1) := dk_3 (dk_at dksX0_single_1 17 rfl rfl)
theorem dX0_single_42 : decode cX0_single 42 = .ok (.istore 5, 2) := dk_54 5 (dk_at dksX0_single_1 18 rfl rfl)
theorem dX0_single_44 : decode cX0_single 44 = .ok (.iload 5, 2) := dk_21 5 (dk_at dksX0_single_1 20 rfl rfl)
theorem dX0_single_46 : decode cX0_single 46 = .ok (.sipush 455, 3) := dk_17 1 199 (dk_at dksX0_single_2 0 rfl rfl)
theorem dX0_single_49 : decode cX0_single 49 = .ok (.if_icmp .ge 110, 3) := dk_162 0 110 (dk_at dksX0_single_2 3 rfl rfl)
theorem dX0_single_52 : decode cX0_single 52 = .ok (.aload_n 1, 1) := dk_43 (dk_at dksX0_single_2 6 rfl rfl)
theorem dX0_single_53 : decode cX0_single 53 = .ok (.iload 5, 2) := dk_21 5 (dk_at dksX0_single_2 7 rfl rfl)
theorem dX0_single_55 : decode cX0_single 55 = .ok (.invokevirtual 268, 3) := dk_182 1 12 (dk_at dksX0_single_2 9 rfl rfl)
theorem dX0_single_58 : decode cX0_single 58 = .ok (.ifCond .ne 6, 3) := dk_154 0 6 (dk_at dksX0_single_2 12 rfl rfl)
theorem dX0_single_61 : decode cX0_single 61 = .ok (.goto 92, 3) := dk_167 0 92 (dk_at dksX0_single_2 15 rfl rfl)
theorem dX0_single_64 : decode cX0_single 64 = .ok (.iconst 0, 1) := dk_3 (dk_at dksX0_single_2 18 rfl rfl)
theorem dX0_single_65 : decode cX0_single 65 = .ok (.istore 6, 2) := dk_54 6 (dk_at dksX0_single_2 19 rfl rfl)
theorem dX0_single_67 : decode cX0_single 67 = .ok (.iload 6, 2) := dk_21 6 (dk_at dksX0_single_2 21 rfl rfl)
theorem dX0_single_69 : decode cX0_single 69 = .ok (.iconst 3, 1) := dk_6 (dk_at dksX0_single_2 23 rfl rfl)
theorem dX0_single_70 : decode cX0_single 70 = .ok (.if_icmp .ge 36, 3) := dk_162 0 36 (dk_at dksX0_single_3 0 rfl rfl)
theorem dX0_single_73 : decode cX0_single 73 = .ok (.iload_n 3, 1) := dk_29 (dk_at dksX0_single_3 3 rfl rfl)
theorem dX0_single_74 : decode cX0_single 74 = .ok (.aload_n 0, 1) := dk_42 (dk_at dksX0_single_3 4 rfl rfl)
theorem dX0_single_75 : decode cX0_single 75 = .ok (.getfield 22, 3) := dk_180 0 22 (dk_at dksX0_single_3 5 rfl rfl)
theorem dX0_single_78 : decode cX0_single 78 = .ok (.getfield 365, 3) := dk_180 1 109 (dk_at dksX0_single_3 8 rfl rfl)
theorem dX0_single_81 : decode cX0_single 81 = .ok (.iload 6, 2) := dk_21 6 (dk_at dksX0_single_3 11 rfl rfl)
theorem dX0_single_83 : decode cX0_single 83 = .ok (.aaload, 1) := dk_50 (dk_at dksX0_single_3 13 rfl rfl)
theorem dX0_single_84 : decode cX0_single 84 = .ok (.iload 5, 2) := dk_21 5 (dk_at dksX0_single_3 14 rfl rfl)
theorem dX0_single_86 : decode cX0_single 86 = .ok (.baload, 1) := dk_51 (dk_at dksX0_single_3 16 rfl rfl)
theorem dX0_single_87 : decode cX0_single 87 = .ok (.ifCond .le 10, 3) := dk_158 0 10 (dk_at dksX0_single_3 17 rfl rfl)
theorem dX0_single_90 : decode cX0_single 90 = .ok (.iconst 1, 1) := dk_4 (dk_at dksX0_single_3 20 rfl rfl)
theorem dX0_single_91 : decode cX0_single 91 = .ok (.iload 6, 2) := dk_21 6 (dk_at dksX0_single_3 21 rfl rfl)
theorem dX0_single_93 : decode cX0_single 93 = .ok (.ishl, 1) := dk_120 (dk_at dksX0_single_3 23 rfl rfl)
theorem dX0_single_94 : decode cX0_single 94 = .ok (.goto 4, 3) := dk_167 0 4 (dk_at dksX0_single_4 0 rfl rfl)
theorem dX0_single_97 : decode cX0_single 97 = .ok (.iconst 0, 1) := dk_3 (dk_at dksX0_single_4 3 rfl rfl)
theorem dX0_single_98 : decode cX0_single 98 = .ok (.ior, 1) := dk_128 (dk_at dksX0_single_4 4 rfl rfl)
theorem dX0_single_99 : decode cX0_single 99 = .ok (.istore_n 3, 1) := dk_62 (dk_at dksX0_single_4 5 rfl rfl)
theorem dX0_single_100 : decode cX0_single 100 = .ok (.iinc 6 1, 3) := dk_132 6 1 (dk_at dksX0_single_4 6 rfl rfl)
theorem dX0_single_103 : decode cX0_single 103 = .ok (.goto (-36), 3) := dk_167 255 220 (dk_at dksX0_single_4 9 rfl rfl)
theorem dX0_single_106 : decode cX0_single 106 = .ok (.aload_n 1, 1) := dk_43 (dk_at dksX0_single_4 12 rfl rfl)
theorem dX0_single_107 : decode cX0_single 107 = .ok (.iload 5, 2) := dk_21 5 (dk_at dksX0_single_4 13 rfl rfl)
theorem dX0_single_109 : decode cX0_single 109 = .ok (.aload_n 0, 1) := dk_42 (dk_at dksX0_single_4 15 rfl rfl)
theorem dX0_single_110 : decode cX0_single 110 = .ok (.getfield 64, 3) := dk_180 0 64 (dk_at dksX0_single_4 16 rfl rfl)
theorem dX0_single_113 : decode cX0_single 113 = .ok (.invokevirtual 252, 3) := dk_182 0 252 (dk_at dksX0_single_4 19 rfl rfl)
theorem dX0_single_116 : decode cX0_single 116 = .ok (.aload_n 2, 1) := dk_44 (dk_at dksX0_single_4 22 rfl rfl)
theorem dX0_single_117 : decode cX0_single 117 = .ok (.aload_n 0, 1) := dk_42 (dk_at dksX0_single_4 23 rfl rfl)
theorem dX0_single_118 : decode cX0_single 118 = .ok (.getfield 22, 3) := dk_180 0 22 (dk_at dksX0_single_5 0 rfl rfl)
theorem dX0_single_121 : decode cX0_single 121 = .ok (.iload 5, 2) := dk_21 5 (dk_at dksX0_single_5 3 rfl rfl)
theorem dX0_single_123 : decode cX0_single 123 = .ok (.invokevirtual 356, 3) := dk_182 1 100 (dk_at dksX0_single_5 5 rfl rfl)
theorem dX0_single_126 : decode cX0_single 126 = .ok (.dup2, 1) := dk_92 (dk_at dksX0_single_5 8 rfl rfl)
theorem dX0_single_127 : decode cX0_single 127 = .ok (.iaload, 1) := dk_46 (dk_at dksX0_single_5 9 rfl rfl)
theorem dX0_single_128 : decode cX0_single 128 = .ok (.aload_n 0, 1) := dk_42 (dk_at dksX0_single_5 10 rfl rfl)
theorem dX0_single_129 : decode cX0_single 129 = .ok (.getfield 64, 3) := dk_180 0 64 (dk_at dksX0_single_5 11 rfl rfl)
theorem dX0_single_132 : decode cX0_single 132 = .ok (.invokevirtual 450, 3) := dk_182 1 194 (dk_at dksX0_single_5 14 rfl rfl)
theorem dX0_single_135 : decode cX0_single 135 = .ok (.iadd, 1) := dk_96 (dk_at dksX0_single_5 17 rfl rfl)
theorem dX0_single_136 : decode cX0_single 136 = .ok (.iastore, 1) := dk_79 (dk_at dksX0_single_5 18 rfl rfl)
theorem dX0_single_137 : decode cX0_single 137 = .ok (.iload 4, 2) := dk_21 4 (dk_at dksX0_single_5 19 rfl rfl)
theorem dX0_single_139 : decode cX0_single 139 = .ok (.aload_n 0, 1) := dk_42 (dk_at dksX0_single_5 21 rfl rfl)
theorem dX0_single_140 : decode cX0_single 140 = .ok (.getfield 22, 3) := dk_180 0 22 (dk_at dksX0_single_6 0 rfl rfl)
theorem dX0_single_143 : decode cX0_single 143 = .ok (.iload 5, 2) := dk_21 5 (dk_at dksX0_single_6 3 rfl rfl)
theorem dX0_single_145 : decode cX0_single 145 = .ok (.invokevirtual 356, 3) := dk_182 1 100 (dk_at dksX0_single_6 5 rfl rfl)
theorem dX0_single_148 : decode cX0_single 148 = .ok (.invokestatic 498, 3) := dk_184 1 242 (dk_at dksX0_single_6 8 rfl rfl)
theorem dX0_single_151 : decode cX0_single 151 = .ok (.istore 4, 2) := dk_54 4 (dk_at dksX0_single_6 11 rfl rfl)
theorem dX0_single_153 : decode cX0_single 153 = .ok (.iinc 5 1, 3) := dk_132 5 1 (dk_at dksX0_single_6 13 rfl rfl)
theorem dX0_single_156 : decode cX0_single 156 = .ok (.goto (-112), 3) := dk_167 255 144 (dk_at dksX0_single_6 16 rfl rfl)
theorem dX0_single_159 : decode cX0_single 159 = .ok (.aload_n 0, 1) := dk_42 (dk_at dksX0_single_6 19 rfl rfl)
theorem dX0_single_160 : decode cX0_single 160 = .ok (.iload_n 3, 1) := dk_29 (dk_at dksX0_single_6 20 rfl rfl)
theorem dX0_single_161 : decode cX0_single 161 = .ok (.ifCond .eq 18, 3) := dk_153 0 18 (dk_at dksX0_single_6 21 rfl rfl)
theorem dX0_single_164 : decode cX0_single 164 = .ok (.iload_n 3, 1) := dk_29 (dk_at dksX0_single_7 0 rfl rfl)
theorem dX0_single_165 : decode cX0_single 165 = .ok (.iconst 1, 1) := dk_4 (dk_at dksX0_single_7 1 rfl rfl)
theorem dX0_single_166 : decode cX0_single 166 = .ok (.if_icmp .eq 13, 3) := dk_159 0 13 (dk_at dksX0_single_7 2 rfl rfl)
theorem dX0_single_169 : decode cX0_single 169 = .ok (.iload_n 3, 1) := dk_29 (dk_at dksX0_single_7 5 rfl rfl)
theorem dX0_single_170 : decode cX0_single 170 = .ok (.iconst 2, 1) := dk_5 (dk_at dksX0_single_7 6 rfl rfl)
theorem dX0_single_171 : decode cX0_single 171 = .ok (.if_icmp .eq 8, 3) := dk_159 0 8 (dk_at dksX0_single_7 7 rfl rfl)
theorem dX0_single_174 : decode cX0_single 174 = .ok (.iload_n 3, 1) := dk_29 (dk_at dksX0_single_7 10 rfl rfl)
theorem dX0_single_175 : decode cX0_single 175 = .ok (.iconst 4, 1) := dk_7 (dk_at dksX0_single_7 11 rfl rfl)
theorem dX0_single_176 : decode cX0_single 176 = .ok (.if_icmp .ne 7, 3) := dk_160 0 7 (dk_at dksX0_single_7 12 rfl rfl)
theorem dX0_single_179 : decode cX0_single 179 = .ok (.iconst 1, 1) := dk_4 (dk_at dksX0_single_7 15 rfl rfl)
theorem dX0_single_180 : decode cX0_single 180 = .ok (.goto 4, 3) := dk_167 0 4 (dk_at dksX0_single_7 16 rfl rfl)
theorem dX0_single_183 : decode cX0_single 183 = .ok (.iconst 0, 1) := dk_3 (dk_at dksX0_single_7 19 rfl rfl)
theorem dX0_single_184 : decode cX0_single 184 = .ok (.bipush (-6), 2) := dk_16 250 (dk_at dksX0_single_7 20 rfl rfl)
theorem dX0_single_186 : decode cX0_single 186 = .ok (.invokevirtual 229, 3) := dk_182 0 229 (dk_at dksX0_single_8 0 rfl rfl)
theorem dX0_single_189 : decode cX0_single 189 = .ok (.iload 4, 2) := dk_21 4 (dk_at dksX0_single_8 3 rfl rfl)
theorem dX0_single_191 : decode cX0_single 191 = .ok (.ireturn, 1) := dk_172 (dk_at dksX0_single_8 5 rfl rfl)
abbrev cX0_goOn : ByteArray := prog_1_method_55_code
def yX0_goOn : MethodName := ⟨RX0, "goOn", "()Z"⟩
def dkwX0_goOn_6 : List UInt8 := [42, 180, 0, 165, 180, 2, 12, 42, 180, 0, 86, 4, 182, 2, 28, 4, 172]
abbrev dktX0_goOn_6 : List UInt8 := dkwX0_goOn_6 ++ []
def dkwX0_goOn_5 : List UInt8 := [154, 0, 5, 3, 172, 42, 180, 0, 86, 10, 182, 1, 135, 42, 180, 0, 29, 42, 180, 0, 165, 180, 2, 12]
abbrev dktX0_goOn_5 : List UInt8 := dkwX0_goOn_5 ++ dktX0_goOn_6
def dkwX0_goOn_4 : List UInt8 := [180, 0, 165, 89, 180, 2, 6, 4, 100, 181, 2, 6, 167, 255, 210, 42, 180, 0, 165, 180, 2, 6]
abbrev dktX0_goOn_4 : List UInt8 := dkwX0_goOn_4 ++ dktX0_goOn_5
def dkwX0_goOn_3 : List UInt8 := [180, 0, 165, 180, 2, 12, 182, 1, 129, 153, 0, 29, 42, 180, 0, 165, 180, 2, 12, 182, 1, 132, 42]
abbrev dktX0_goOn_3 : List UInt8 := dkwX0_goOn_3 ++ dktX0_goOn_4
def dkwX0_goOn_2 : List UInt8 := [182, 2, 25, 42, 89, 180, 0, 160, 4, 96, 181, 0, 160, 42, 180, 0, 165, 180, 2, 6, 158, 0, 42, 42]
abbrev dktX0_goOn_2 : List UInt8 := dkwX0_goOn_2 ++ dktX0_goOn_3
def dkwX0_goOn_1 : List UInt8 := [182, 2, 22, 4, 172, 27, 4, 160, 0, 29, 42, 180, 0, 156, 42, 180, 0, 160, 50, 42, 180, 0, 165]
abbrev dktX0_goOn_1 : List UInt8 := dkwX0_goOn_1 ++ dktX0_goOn_2
def dkwX0_goOn_0 : List UInt8 := [42, 42, 180, 0, 54, 42, 180, 0, 165, 182, 2, 18, 60, 27, 4, 164, 0, 13, 42, 180, 0, 165, 3]
abbrev dktX0_goOn_0 : List UInt8 := dkwX0_goOn_0 ++ dktX0_goOn_1
theorem dksX0_goOn_0 : cX0_goOn.data.toList.drop 0 = dktX0_goOn_0 := by decide +kernel
theorem dksX0_goOn_1 : cX0_goOn.data.toList.drop 23 = dktX0_goOn_1 := dk_seg dksX0_goOn_0 23 rfl rfl
theorem dksX0_goOn_2 : cX0_goOn.data.toList.drop 46 = dktX0_goOn_2 := dk_seg dksX0_goOn_1 23 rfl rfl
theorem dksX0_goOn_3 : cX0_goOn.data.toList.drop 70 = dktX0_goOn_3 := dk_seg dksX0_goOn_2 24 rfl rfl
theorem dksX0_goOn_4 : cX0_goOn.data.toList.drop 93 = dktX0_goOn_4 := dk_seg dksX0_goOn_3 23 rfl rfl
theorem dksX0_goOn_5 : cX0_goOn.data.toList.drop 115 = dktX0_goOn_5 := dk_seg dksX0_goOn_4 22 rfl rfl
theorem dksX0_goOn_6 : cX0_goOn.data.toList.drop 139 = dktX0_goOn_6 := dk_seg dksX0_goOn_5 24 rfl rfl
theorem dX0_goOn_0 : decode cX0_goOn 0 = .ok (.aload_n 0, 1) := dk_42 (dk_at dksX0_goOn_0 0 rfl rfl)
theorem dX0_goOn_1 : decode cX0_goOn 1 = .ok (.aload_n 0, 1) := dk_42 (dk_at dksX0_goOn_0 1 rfl rfl)
theorem dX0_goOn_2 : decode cX0_goOn 2 = .ok (.getfield 54, 3) := dk_180 0 54 (dk_at dksX0_goOn_0 2 rfl rfl)
theorem dX0_goOn_5 : decode cX0_goOn 5 = .ok (.aload_n 0, 1) := dk_42 (dk_at dksX0_goOn_0 5 rfl rfl)
theorem dX0_goOn_6 : decode cX0_goOn 6 = .ok (.getfield 165, 3) := dk_180 0 165 (dk_at dksX0_goOn_0 6 rfl rfl)
theorem dX0_goOn_9 : decode cX0_goOn 9 = .ok (.invokevirtual 530, 3) := dk_182 2 18 (dk_at dksX0_goOn_0 9 rfl rfl)
theorem dX0_goOn_12 : decode cX0_goOn 12 = .ok (.istore_n 1, 1) := dk_60 (dk_at dksX0_goOn_0 12 rfl rfl)
theorem dX0_goOn_13 : decode cX0_goOn 13 = .ok (.iload_n 1, 1) := dk_27 (dk_at dksX0_goOn_0 13 rfl rfl)
theorem dX0_goOn_14 : decode cX0_goOn 14 = .ok (.iconst 1, 1) := dk_4 (dk_at dksX0_goOn_0 14 rfl rfl)
theorem dX0_goOn_15 : decode cX0_goOn 15 = .ok (.if_icmp .le 13, 3) := dk_164 0 13 (dk_at dksX0_goOn_0 15 rfl rfl)
theorem dX0_goOn_18 : decode cX0_goOn 18 = .ok (.aload_n 0, 1) := dk_42 (dk_at dksX0_goOn_0 18 rfl rfl)
theorem dX0_goOn_19 : decode cX0_goOn 19 = .ok (.getfield 165, 3) := dk_180 0 165 (dk_at dksX0_goOn_0 19 rfl rfl)
theorem dX0_goOn_22 : decode cX0_goOn 22 = .ok (.iconst 0, 1) := dk_3 (dk_at dksX0_goOn_0 22 rfl rfl)
theorem dX0_goOn_23 : decode cX0_goOn 23 = .ok (.invokevirtual 534, 3) := dk_182 2 22 (dk_at dksX0_goOn_1 0 rfl rfl)
theorem dX0_goOn_26 : decode cX0_goOn 26 = .ok (.iconst 1, 1) := dk_4 (dk_at dksX0_goOn_1 3 rfl rfl)
theorem dX0_goOn_27 : decode cX0_goOn 27 = .ok (.ireturn, 1) := dk_172 (dk_at dksX0_goOn_1 4 rfl rfl)
theorem dX0_goOn_28 : decode cX0_goOn 28 = .ok (.iload_n 1, 1) := dk_27 (dk_at dksX0_goOn_1 5 rfl rfl)
theorem dX0_goOn_29 : decode cX0_goOn 29 = .ok (.iconst 1, 1) := dk_4 (dk_at dksX0_goOn_1 6 rfl rfl)
theorem dX0_goOn_30 : decode cX0_goOn 30 = .ok (.if_icmp .ne 29, 3) := dk_160 0 29 (dk_at dksX0_goOn_1 7 rfl rfl)
theorem dX0_goOn_33 : decode cX0_goOn 33 = .ok (.aload_n 0, 1) := dk_42 (dk_at dksX0_goOn_1 10 rfl rfl)
theorem dX0_goOn_34 : decode cX0_goOn 34 = .ok (.getfield 156, 3) := dk_180 0 156 (dk_at dksX0_goOn_1 11 rfl rfl)
theorem dX0_goOn_37 : decode cX0_goOn 37 = .ok (.aload_n 0, 1) := dk_42 (dk_at dksX0_goOn_1 14 rfl rfl)
theorem dX0_goOn_38 : decode cX0_goOn 38 = .ok (.getfield 160, 3) := dk_180 0 160 (dk_at dksX0_goOn_1 15 rfl rfl)
theorem dX0_goOn_41 : decode cX0_goOn 41 = .ok (.aaload, 1) := dk_50 (dk_at dksX0_goOn_1 18 rfl rfl)
theorem dX0_goOn_42 : decode cX0_goOn 42 = .ok (.aload_n 0, 1) := dk_42 (dk_at dksX0_goOn_1 19 rfl rfl)
theorem dX0_goOn_43 : decode cX0_goOn 43 = .ok (.getfield 165, 3) := dk_180 0 165 (dk_at dksX0_goOn_1 20 rfl rfl)
theorem dX0_goOn_46 : decode cX0_goOn 46 = .ok (.invokevirtual 537, 3) := dk_182 2 25 (dk_at dksX0_goOn_2 0 rfl rfl)
theorem dX0_goOn_49 : decode cX0_goOn 49 = .ok (.aload_n 0, 1) := dk_42 (dk_at dksX0_goOn_2 3 rfl rfl)
theorem dX0_goOn_50 : decode cX0_goOn 50 = .ok (.dup, 1) := dk_89 (dk_at dksX0_goOn_2 4 rfl rfl)
theorem dX0_goOn_51 : decode cX0_goOn 51 = .ok (.getfield 160, 3) := dk_180 0 160 (dk_at dksX0_goOn_2 5 rfl rfl)
theorem dX0_goOn_54 : decode cX0_goOn 54 = .ok (.iconst 1, 1) := dk_4 (dk_at dksX0_goOn_2 8 rfl rfl)
theorem dX0_goOn_55 : decode cX0_goOn 55 = .ok (.iadd, 1) := dk_96 (dk_at dksX0_goOn_2 9 rfl rfl)
theorem dX0_goOn_56 : decode cX0_goOn 56 = .ok (.putfield 160, 3) := dk_181 0 160 (dk_at dksX0_goOn_2 10 rfl rfl)
theorem dX0_goOn_59 : decode cX0_goOn 59 = .ok (.aload_n 0, 1) := dk_42 (dk_at dksX0_goOn_2 13 rfl rfl)
theorem dX0_goOn_60 : decode cX0_goOn 60 = .ok (.getfield 165, 3) := dk_180 0 165 (dk_at dksX0_goOn_2 14 rfl rfl)
theorem dX0_goOn_63 : decode cX0_goOn 63 = .ok (.getfield 518, 3) := dk_180 2 6 (dk_at dksX0_goOn_2 17 rfl rfl)
theorem dX0_goOn_66 : decode cX0_goOn 66 = .ok (.ifCond .le 42, 3) := dk_158 0 42 (dk_at dksX0_goOn_2 20 rfl rfl)
theorem dX0_goOn_69 : decode cX0_goOn 69 = .ok (.aload_n 0, 1) := dk_42 (dk_at dksX0_goOn_2 23 rfl rfl)
theorem dX0_goOn_70 : decode cX0_goOn 70 = .ok (.getfield 165, 3) := dk_180 0 165 (dk_at dksX0_goOn_3 0 rfl rfl)
theorem dX0_goOn_73 : decode cX0_goOn 73 = .ok (.getfield 524, 3) := dk_180 2 12 (dk_at dksX0_goOn_3 3 rfl rfl)
theorem dX0_goOn_76 : decode cX0_goOn 76 = .ok (.invokevirtual 385, 3) := dk_182 1 129 (dk_at dksX0_goOn_3 6 rfl rfl)
theorem dX0_goOn_79 : decode cX0_goOn 79 = .ok (.ifCond .eq 29, 3) := dk_153 0 29 (dk_at dksX0_goOn_3 9 rfl rfl)
theorem dX0_goOn_82 : decode cX0_goOn 82 = .ok (.aload_n 0, 1) := dk_42 (dk_at dksX0_goOn_3 12 rfl rfl)
theorem dX0_goOn_83 : decode cX0_goOn 83 = .ok (.getfield 165, 3) := dk_180 0 165 (dk_at dksX0_goOn_3 13 rfl rfl)
theorem dX0_goOn_86 : decode cX0_goOn 86 = .ok (.getfield 524, 3) := dk_180 2 12 (dk_at dksX0_goOn_3 16 rfl rfl)
theorem dX0_goOn_89 : decode cX0_goOn 89 = .ok (.invokevirtual 388, 3) := dk_182 1 132 (dk_at dksX0_goOn_3 19 rfl rfl)
theorem dX0_goOn_92 : decode cX0_goOn 92 = .ok (.aload_n 0, 1) := dk_42 (dk_at dksX0_goOn_3 22 rfl rfl)
theorem dX0_goOn_93 : decode cX0_goOn 93 = .ok (.getfield 165, 3) := dk_180 0 165 (dk_at dksX0_goOn_4 0 rfl rfl)
theorem dX0_goOn_96 : decode cX0_goOn 96 = .ok (.dup, 1) := dk_89 (dk_at dksX0_goOn_4 3 rfl rfl)
theorem dX0_goOn_97 : decode cX0_goOn 97 = .ok (.getfield 518, 3) := dk_180 2 6 (dk_at dksX0_goOn_4 4 rfl rfl)
theorem dX0_goOn_100 : decode cX0_goOn 100 = .ok (.iconst 1, 1) := dk_4 (dk_at dksX0_goOn_4 7 rfl rfl)
theorem dX0_goOn_101 : decode cX0_goOn 101 = .ok (.isub, 1) := dk_100 (dk_at dksX0_goOn_4 8 rfl rfl)
theorem dX0_goOn_102 : decode cX0_goOn 102 = .ok (.putfield 518, 3) := dk_181 2 6 (dk_at dksX0_goOn_4 9 rfl rfl)
theorem dX0_goOn_105 : decode cX0_goOn 105 = .ok (.goto (-46), 3) := dk_167 255 210 (dk_at dksX0_goOn_4 12 rfl rfl)
theorem dX0_goOn_108 : decode cX0_goOn 108 = .ok (.aload_n 0, 1) := dk_42 (dk_at dksX0_goOn_4 15 rfl rfl)
theorem dX0_goOn_109 : decode cX0_goOn 109 = .ok (.getfield 165, 3) := dk_180 0 165 (dk_at dksX0_goOn_4 16 rfl rfl)
theorem dX0_goOn_112 : decode cX0_goOn 112 = .ok (.getfield 518, 3) := dk_180 2 6 (dk_at dksX0_goOn_4 19 rfl rfl)
theorem dX0_goOn_115 : decode cX0_goOn 115 = .ok (.ifCond .ne 5, 3) := dk_154 0 5 (dk_at dksX0_goOn_5 0 rfl rfl)
theorem dX0_goOn_118 : decode cX0_goOn 118 = .ok (.iconst 0, 1) := dk_3 (dk_at dksX0_goOn_5 3 rfl rfl)
theorem dX0_goOn_119 : decode cX0_goOn 119 = .ok (.ireturn, 1) := dk_172 (dk_at dksX0_goOn_5 4 rfl rfl)
theorem dX0_goOn_120 : decode cX0_goOn 120 = .ok (.aload_n 0, 1) := dk_42 (dk_at dksX0_goOn_5 5 rfl rfl)
theorem dX0_goOn_121 : decode cX0_goOn 121 = .ok (.getfield 86, 3) := dk_180 0 86 (dk_at dksX0_goOn_5 6 rfl rfl)
theorem dX0_goOn_124 : decode cX0_goOn 124 = .ok (.lconst 1, 1) := dk_10 (dk_at dksX0_goOn_5 9 rfl rfl)
theorem dX0_goOn_125 : decode cX0_goOn 125 = .ok (.invokevirtual 391, 3) := dk_182 1 135 (dk_at dksX0_goOn_5 10 rfl rfl)
theorem dX0_goOn_128 : decode cX0_goOn 128 = .ok (.aload_n 0, 1) := dk_42 (dk_at dksX0_goOn_5 13 rfl rfl)
theorem dX0_goOn_129 : decode cX0_goOn 129 = .ok (.getfield 29, 3) := dk_180 0 29 (dk_at dksX0_goOn_5 14 rfl rfl)
theorem dX0_goOn_132 : decode cX0_goOn 132 = .ok (.aload_n 0, 1) := dk_42 (dk_at dksX0_goOn_5 17 rfl rfl)
theorem dX0_goOn_133 : decode cX0_goOn 133 = .ok (.getfield 165, 3) := dk_180 0 165 (dk_at dksX0_goOn_5 18 rfl rfl)
theorem dX0_goOn_136 : decode cX0_goOn 136 = .ok (.getfield 524, 3) := dk_180 2 12 (dk_at dksX0_goOn_5 21 rfl rfl)
theorem dX0_goOn_139 : decode cX0_goOn 139 = .ok (.aload_n 0, 1) := dk_42 (dk_at dksX0_goOn_6 0 rfl rfl)
theorem dX0_goOn_140 : decode cX0_goOn 140 = .ok (.getfield 165, 3) := dk_180 0 165 (dk_at dksX0_goOn_6 1 rfl rfl)
theorem dX0_goOn_143 : decode cX0_goOn 143 = .ok (.getfield 524, 3) := dk_180 2 12 (dk_at dksX0_goOn_6 4 rfl rfl)
theorem dX0_goOn_146 : decode cX0_goOn 146 = .ok (.aload_n 0, 1) := dk_42 (dk_at dksX0_goOn_6 7 rfl rfl)
theorem dX0_goOn_147 : decode cX0_goOn 147 = .ok (.getfield 86, 3) := dk_180 0 86 (dk_at dksX0_goOn_6 8 rfl rfl)
theorem dX0_goOn_150 : decode cX0_goOn 150 = .ok (.iconst 1, 1) := dk_4 (dk_at dksX0_goOn_6 11 rfl rfl)
theorem dX0_goOn_151 : decode cX0_goOn 151 = .ok (.invokevirtual 540, 3) := dk_182 2 28 (dk_at dksX0_goOn_6 12 rfl rfl)
theorem dX0_goOn_154 : decode cX0_goOn 154 = .ok (.iconst 1, 1) := dk_4 (dk_at dksX0_goOn_6 15 rfl rfl)
theorem dX0_goOn_155 : decode cX0_goOn 155 = .ok (.ireturn, 1) := dk_172 (dk_at dksX0_goOn_6 16 rfl rfl)
abbrev cX0_within : ByteArray := prog_1_method_53_code
def yX0_within : MethodName := ⟨RX0, "within", "(LIdealCourt$Chain;LIdealCourt$Real;)I"⟩
def dkwX0_within_2 : List UInt8 := [180, 0, 83, 44, 182, 1, 126, 182, 1, 247, 100, 172]
abbrev dktX0_within_2 : List UInt8 := dkwX0_within_2 ++ []
def dkwX0_within_1 : List UInt8 := [180, 0, 86, 42, 180, 0, 29, 182, 1, 122, 43, 42, 180, 0, 79, 44, 182, 1, 126, 182, 1, 247, 43, 42]
abbrev dktX0_within_1 : List UInt8 := dkwX0_within_1 ++ dktX0_within_2
def dkwX0_within_0 : List UInt8 := [44, 3, 42, 180, 0, 79, 42, 180, 0, 86, 42, 180, 0, 29, 182, 1, 122, 44, 4, 42, 180, 0, 83, 42]
abbrev dktX0_within_0 : List UInt8 := dkwX0_within_0 ++ dktX0_within_1
theorem dksX0_within_0 : cX0_within.data.toList.drop 0 = dktX0_within_0 := by decide +kernel
theorem dksX0_within_1 : cX0_within.data.toList.drop 24 = dktX0_within_1 := dk_seg dksX0_within_0 24 rfl rfl
theorem dksX0_within_2 : cX0_within.data.toList.drop 48 = dktX0_within_2 := dk_seg dksX0_within_1 24 rfl rfl
theorem dX0_within_0 : decode cX0_within 0 = .ok (.aload_n 2, 1) := dk_44 (dk_at dksX0_within_0 0 rfl rfl)
theorem dX0_within_1 : decode cX0_within 1 = .ok (.iconst 0, 1) := dk_3 (dk_at dksX0_within_0 1 rfl rfl)
theorem dX0_within_2 : decode cX0_within 2 = .ok (.aload_n 0, 1) := dk_42 (dk_at dksX0_within_0 2 rfl rfl)
theorem dX0_within_3 : decode cX0_within 3 = .ok (.getfield 79, 3) := dk_180 0 79 (dk_at dksX0_within_0 3 rfl rfl)
theorem dX0_within_6 : decode cX0_within 6 = .ok (.aload_n 0, 1) := dk_42 (dk_at dksX0_within_0 6 rfl rfl)
theorem dX0_within_7 : decode cX0_within 7 = .ok (.getfield 86, 3) := dk_180 0 86 (dk_at dksX0_within_0 7 rfl rfl)
theorem dX0_within_10 : decode cX0_within 10 = .ok (.aload_n 0, 1) := dk_42 (dk_at dksX0_within_0 10 rfl rfl)
theorem dX0_within_11 : decode cX0_within 11 = .ok (.getfield 29, 3) := dk_180 0 29 (dk_at dksX0_within_0 11 rfl rfl)
theorem dX0_within_14 : decode cX0_within 14 = .ok (.invokevirtual 378, 3) := dk_182 1 122 (dk_at dksX0_within_0 14 rfl rfl)
theorem dX0_within_17 : decode cX0_within 17 = .ok (.aload_n 2, 1) := dk_44 (dk_at dksX0_within_0 17 rfl rfl)
theorem dX0_within_18 : decode cX0_within 18 = .ok (.iconst 1, 1) := dk_4 (dk_at dksX0_within_0 18 rfl rfl)
theorem dX0_within_19 : decode cX0_within 19 = .ok (.aload_n 0, 1) := dk_42 (dk_at dksX0_within_0 19 rfl rfl)
theorem dX0_within_20 : decode cX0_within 20 = .ok (.getfield 83, 3) := dk_180 0 83 (dk_at dksX0_within_0 20 rfl rfl)
theorem dX0_within_23 : decode cX0_within 23 = .ok (.aload_n 0, 1) := dk_42 (dk_at dksX0_within_0 23 rfl rfl)
theorem dX0_within_24 : decode cX0_within 24 = .ok (.getfield 86, 3) := dk_180 0 86 (dk_at dksX0_within_1 0 rfl rfl)
theorem dX0_within_27 : decode cX0_within 27 = .ok (.aload_n 0, 1) := dk_42 (dk_at dksX0_within_1 3 rfl rfl)
theorem dX0_within_28 : decode cX0_within 28 = .ok (.getfield 29, 3) := dk_180 0 29 (dk_at dksX0_within_1 4 rfl rfl)
theorem dX0_within_31 : decode cX0_within 31 = .ok (.invokevirtual 378, 3) := dk_182 1 122 (dk_at dksX0_within_1 7 rfl rfl)
theorem dX0_within_34 : decode cX0_within 34 = .ok (.aload_n 1, 1) := dk_43 (dk_at dksX0_within_1 10 rfl rfl)
theorem dX0_within_35 : decode cX0_within 35 = .ok (.aload_n 0, 1) := dk_42 (dk_at dksX0_within_1 11 rfl rfl)
theorem dX0_within_36 : decode cX0_within 36 = .ok (.getfield 79, 3) := dk_180 0 79 (dk_at dksX0_within_1 12 rfl rfl)
theorem dX0_within_39 : decode cX0_within 39 = .ok (.aload_n 2, 1) := dk_44 (dk_at dksX0_within_1 15 rfl rfl)
theorem dX0_within_40 : decode cX0_within 40 = .ok (.invokevirtual 382, 3) := dk_182 1 126 (dk_at dksX0_within_1 16 rfl rfl)
theorem dX0_within_43 : decode cX0_within 43 = .ok (.invokevirtual 503, 3) := dk_182 1 247 (dk_at dksX0_within_1 19 rfl rfl)
theorem dX0_within_46 : decode cX0_within 46 = .ok (.aload_n 1, 1) := dk_43 (dk_at dksX0_within_1 22 rfl rfl)
theorem dX0_within_47 : decode cX0_within 47 = .ok (.aload_n 0, 1) := dk_42 (dk_at dksX0_within_1 23 rfl rfl)
theorem dX0_within_48 : decode cX0_within 48 = .ok (.getfield 83, 3) := dk_180 0 83 (dk_at dksX0_within_2 0 rfl rfl)
theorem dX0_within_51 : decode cX0_within 51 = .ok (.aload_n 2, 1) := dk_44 (dk_at dksX0_within_2 3 rfl rfl)
theorem dX0_within_52 : decode cX0_within 52 = .ok (.invokevirtual 382, 3) := dk_182 1 126 (dk_at dksX0_within_2 4 rfl rfl)
theorem dX0_within_55 : decode cX0_within 55 = .ok (.invokevirtual 503, 3) := dk_182 1 247 (dk_at dksX0_within_2 7 rfl rfl)
theorem dX0_within_58 : decode cX0_within 58 = .ok (.isub, 1) := dk_100 (dk_at dksX0_within_2 10 rfl rfl)
theorem dX0_within_59 : decode cX0_within 59 = .ok (.ireturn, 1) := dk_172 (dk_at dksX0_within_2 11 rfl rfl)
abbrev cX0_root : ByteArray := prog_1_method_56_code
def yX0_root : MethodName := ⟨RX0, "root", "(II)I"⟩
def dkwX0_root_2 : List UInt8 := [182, 2, 31, 3, 181, 2, 9, 3, 172, 78, 42, 45, 182, 0, 233, 172]
abbrev dktX0_root_2 : List UInt8 := dkwX0_root_2 ++ []
def dkwX0_root_1 : List UInt8 := [180, 0, 160, 162, 0, 7, 4, 167, 0, 4, 3, 16, 249, 182, 0, 229, 42, 45, 42, 180, 0, 156, 27, 50]
abbrev dktX0_root_1 : List UInt8 := dkwX0_root_1 ++ dktX0_root_2
def dkwX0_root_0 : List UInt8 := [42, 28, 182, 0, 190, 78, 42, 42, 180, 0, 160, 16, 249, 159, 0, 19, 27, 155, 0, 15, 27, 42]
abbrev dktX0_root_0 : List UInt8 := dkwX0_root_0 ++ dktX0_root_1
theorem dksX0_root_0 : cX0_root.data.toList.drop 0 = dktX0_root_0 := by decide +kernel
theorem dksX0_root_1 : cX0_root.data.toList.drop 22 = dktX0_root_1 := dk_seg dksX0_root_0 22 rfl rfl
theorem dksX0_root_2 : cX0_root.data.toList.drop 46 = dktX0_root_2 := dk_seg dksX0_root_1 24 rfl rfl
theorem dX0_root_0 : decode cX0_root 0 = .ok (.aload_n 0, 1) := dk_42 (dk_at dksX0_root_0 0 rfl rfl)
theorem dX0_root_1 : decode cX0_root 1 = .ok (.iload_n 2, 1) := dk_28 (dk_at dksX0_root_0 1 rfl rfl)
theorem dX0_root_2 : decode cX0_root 2 = .ok (.invokevirtual 190, 3) := dk_182 0 190 (dk_at dksX0_root_0 2 rfl rfl)
theorem dX0_root_5 : decode cX0_root 5 = .ok (.astore_n 3, 1) := dk_78 (dk_at dksX0_root_0 5 rfl rfl)
theorem dX0_root_6 : decode cX0_root 6 = .ok (.aload_n 0, 1) := dk_42 (dk_at dksX0_root_0 6 rfl rfl)
theorem dX0_root_7 : decode cX0_root 7 = .ok (.aload_n 0, 1) := dk_42 (dk_at dksX0_root_0 7 rfl rfl)
theorem dX0_root_8 : decode cX0_root 8 = .ok (.getfield 160, 3) := dk_180 0 160 (dk_at dksX0_root_0 8 rfl rfl)
theorem dX0_root_11 : decode cX0_root 11 = .ok (.bipush (-7), 2) := dk_16 249 (dk_at dksX0_root_0 11 rfl rfl)
theorem dX0_root_13 : decode cX0_root 13 = .ok (.if_icmp .eq 19, 3) := dk_159 0 19 (dk_at dksX0_root_0 13 rfl rfl)
theorem dX0_root_16 : decode cX0_root 16 = .ok (.iload_n 1, 1) := dk_27 (dk_at dksX0_root_0 16 rfl rfl)
theorem dX0_root_17 : decode cX0_root 17 = .ok (.ifCond .lt 15, 3) := dk_155 0 15 (dk_at dksX0_root_0 17 rfl rfl)
theorem dX0_root_20 : decode cX0_root 20 = .ok (.iload_n 1, 1) := dk_27 (dk_at dksX0_root_0 20 rfl rfl)
theorem dX0_root_21 : decode cX0_root 21 = .ok (.aload_n 0, 1) := dk_42 (dk_at dksX0_root_0 21 rfl rfl)
theorem dX0_root_22 : decode cX0_root 22 = .ok (.getfield 160, 3) := dk_180 0 160 (dk_at dksX0_root_1 0 rfl rfl)
theorem dX0_root_25 : decode cX0_root 25 = .ok (.if_icmp .ge 7, 3) := dk_162 0 7 (dk_at dksX0_root_1 3 rfl rfl)
theorem dX0_root_28 : decode cX0_root 28 = .ok (.iconst 1, 1) := dk_4 (dk_at dksX0_root_1 6 rfl rfl)
theorem dX0_root_29 : decode cX0_root 29 = .ok (.goto 4, 3) := dk_167 0 4 (dk_at dksX0_root_1 7 rfl rfl)
theorem dX0_root_32 : decode cX0_root 32 = .ok (.iconst 0, 1) := dk_3 (dk_at dksX0_root_1 10 rfl rfl)
theorem dX0_root_33 : decode cX0_root 33 = .ok (.bipush (-7), 2) := dk_16 249 (dk_at dksX0_root_1 11 rfl rfl)
theorem dX0_root_35 : decode cX0_root 35 = .ok (.invokevirtual 229, 3) := dk_182 0 229 (dk_at dksX0_root_1 13 rfl rfl)
theorem dX0_root_38 : decode cX0_root 38 = .ok (.aload_n 0, 1) := dk_42 (dk_at dksX0_root_1 16 rfl rfl)
theorem dX0_root_39 : decode cX0_root 39 = .ok (.aload_n 3, 1) := dk_45 (dk_at dksX0_root_1 17 rfl rfl)
theorem dX0_root_40 : decode cX0_root 40 = .ok (.aload_n 0, 1) := dk_42 (dk_at dksX0_root_1 18 rfl rfl)
theorem dX0_root_41 : decode cX0_root 41 = .ok (.getfield 156, 3) := dk_180 0 156 (dk_at dksX0_root_1 19 rfl rfl)
theorem dX0_root_44 : decode cX0_root 44 = .ok (.iload_n 1, 1) := dk_27 (dk_at dksX0_root_1 22 rfl rfl)
theorem dX0_root_45 : decode cX0_root 45 = .ok (.aaload, 1) := dk_50 (dk_at dksX0_root_1 23 rfl rfl)
theorem dX0_root_46 : decode cX0_root 46 = .ok (.invokevirtual 543, 3) := dk_182 2 31 (dk_at dksX0_root_2 0 rfl rfl)
theorem dX0_root_49 : decode cX0_root 49 = .ok (.iconst 0, 1) := dk_3 (dk_at dksX0_root_2 3 rfl rfl)
theorem dX0_root_50 : decode cX0_root 50 = .ok (.putfield 521, 3) := dk_181 2 9 (dk_at dksX0_root_2 4 rfl rfl)
theorem dX0_root_53 : decode cX0_root 53 = .ok (.iconst 0, 1) := dk_3 (dk_at dksX0_root_2 7 rfl rfl)
theorem dX0_root_54 : decode cX0_root 54 = .ok (.ireturn, 1) := dk_172 (dk_at dksX0_root_2 8 rfl rfl)
theorem dX0_root_55 : decode cX0_root 55 = .ok (.astore_n 3, 1) := dk_78 (dk_at dksX0_root_2 9 rfl rfl)
theorem dX0_root_56 : decode cX0_root 56 = .ok (.aload_n 0, 1) := dk_42 (dk_at dksX0_root_2 10 rfl rfl)
theorem dX0_root_57 : decode cX0_root 57 = .ok (.aload_n 3, 1) := dk_45 (dk_at dksX0_root_2 11 rfl rfl)
theorem dX0_root_58 : decode cX0_root 58 = .ok (.invokevirtual 233, 3) := dk_182 0 233 (dk_at dksX0_root_2 12 rfl rfl)
theorem dX0_root_61 : decode cX0_root 61 = .ok (.ireturn, 1) := dk_172 (dk_at dksX0_root_2 15 rfl rfl)
abbrev cX0_stands : ByteArray := prog_1_method_57_code
def yX0_stands : MethodName := ⟨RX0, "stands", "(LIdealCourt$Stand;LIdealCourt$Real;)LIdealCourt$Real;"⟩
def dkwX0_stands_1 : List UInt8 := [182, 2, 25, 43, 43, 180, 2, 34, 181, 0, 194, 43, 180, 2, 34, 176]
abbrev dktX0_stands_1 : List UInt8 := dkwX0_stands_1 ++ []
def dkwX0_stands_0 : List UInt8 := [43, 180, 2, 34, 199, 0, 14, 43, 187, 0, 154, 89, 183, 0, 164, 181, 2, 34, 43, 180, 2, 34, 44]
abbrev dktX0_stands_0 : List UInt8 := dkwX0_stands_0 ++ dktX0_stands_1
theorem dksX0_stands_0 : cX0_stands.data.toList.drop 0 = dktX0_stands_0 := by decide +kernel
theorem dksX0_stands_1 : cX0_stands.data.toList.drop 23 = dktX0_stands_1 := dk_seg dksX0_stands_0 23 rfl rfl
theorem dX0_stands_0 : decode cX0_stands 0 = .ok (.aload_n 1, 1) := dk_43 (dk_at dksX0_stands_0 0 rfl rfl)
theorem dX0_stands_1 : decode cX0_stands 1 = .ok (.getfield 546, 3) := dk_180 2 34 (dk_at dksX0_stands_0 1 rfl rfl)
theorem dX0_stands_4 : decode cX0_stands 4 = .ok (.ifnonnull 14, 3) := dk_199 0 14 (dk_at dksX0_stands_0 4 rfl rfl)
theorem dX0_stands_7 : decode cX0_stands 7 = .ok (.aload_n 1, 1) := dk_43 (dk_at dksX0_stands_0 7 rfl rfl)
theorem dX0_stands_8 : decode cX0_stands 8 = .ok (.new 154, 3) := dk_187 0 154 (dk_at dksX0_stands_0 8 rfl rfl)
theorem dX0_stands_11 : decode cX0_stands 11 = .ok (.dup, 1) := dk_89 (dk_at dksX0_stands_0 11 rfl rfl)
theorem dX0_stands_12 : decode cX0_stands 12 = .ok (.invokespecial 164, 3) := dk_183 0 164 (dk_at dksX0_stands_0 12 rfl rfl)
theorem dX0_stands_15 : decode cX0_stands 15 = .ok (.putfield 546, 3) := dk_181 2 34 (dk_at dksX0_stands_0 15 rfl rfl)
theorem dX0_stands_18 : decode cX0_stands 18 = .ok (.aload_n 1, 1) := dk_43 (dk_at dksX0_stands_0 18 rfl rfl)
theorem dX0_stands_19 : decode cX0_stands 19 = .ok (.getfield 546, 3) := dk_180 2 34 (dk_at dksX0_stands_0 19 rfl rfl)
theorem dX0_stands_22 : decode cX0_stands 22 = .ok (.aload_n 2, 1) := dk_44 (dk_at dksX0_stands_0 22 rfl rfl)
theorem dX0_stands_23 : decode cX0_stands 23 = .ok (.invokevirtual 537, 3) := dk_182 2 25 (dk_at dksX0_stands_1 0 rfl rfl)
theorem dX0_stands_26 : decode cX0_stands 26 = .ok (.aload_n 1, 1) := dk_43 (dk_at dksX0_stands_1 3 rfl rfl)
theorem dX0_stands_27 : decode cX0_stands 27 = .ok (.aload_n 1, 1) := dk_43 (dk_at dksX0_stands_1 4 rfl rfl)
theorem dX0_stands_28 : decode cX0_stands 28 = .ok (.getfield 546, 3) := dk_180 2 34 (dk_at dksX0_stands_1 5 rfl rfl)
theorem dX0_stands_31 : decode cX0_stands 31 = .ok (.putfield 194, 3) := dk_181 0 194 (dk_at dksX0_stands_1 8 rfl rfl)
theorem dX0_stands_34 : decode cX0_stands 34 = .ok (.aload_n 1, 1) := dk_43 (dk_at dksX0_stands_1 11 rfl rfl)
theorem dX0_stands_35 : decode cX0_stands 35 = .ok (.getfield 546, 3) := dk_180 2 34 (dk_at dksX0_stands_1 12 rfl rfl)
theorem dX0_stands_38 : decode cX0_stands 38 = .ok (.areturn, 1) := dk_176 (dk_at dksX0_stands_1 15 rfl rfl)
abbrev cX0_narrow : ByteArray := prog_1_method_59_code
def yX0_narrow : MethodName := ⟨RX0, "narrow", "(I)I"⟩
def dkwX0_narrow_2 : List UInt8 := [44, 29, 182, 2, 22, 44, 89, 180, 2, 9, 4, 96, 181, 2, 9, 29, 172, 77, 42, 44, 182, 0, 233, 172]
abbrev dktX0_narrow_2 : List UInt8 := dkwX0_narrow_2 ++ []
def dkwX0_narrow_1 : List UInt8 := [182, 0, 229, 42, 180, 0, 54, 44, 180, 2, 3, 44, 180, 2, 4, 182, 1, 255, 42, 44, 182, 2, 40, 62]
abbrev dktX0_narrow_1 : List UInt8 := dkwX0_narrow_1 ++ dktX0_narrow_2
def dkwX0_narrow_0 : List UInt8 := [42, 27, 182, 2, 37, 77, 42, 44, 180, 2, 9, 16, 60, 162, 0, 7, 4, 167, 0, 4, 3, 16, 250]
abbrev dktX0_narrow_0 : List UInt8 := dkwX0_narrow_0 ++ dktX0_narrow_1
theorem dksX0_narrow_0 : cX0_narrow.data.toList.drop 0 = dktX0_narrow_0 := by decide +kernel
theorem dksX0_narrow_1 : cX0_narrow.data.toList.drop 23 = dktX0_narrow_1 := dk_seg dksX0_narrow_0 23 rfl rfl
theorem dksX0_narrow_2 : cX0_narrow.data.toList.drop 47 = dktX0_narrow_2 := dk_seg dksX0_narrow_1 24 rfl rfl
theorem dX0_narrow_0 : decode cX0_narrow 0 = .ok (.aload_n 0, 1) := dk_42 (dk_at dksX0_narrow_0 0 rfl rfl)
theorem dX0_narrow_1 : decode cX0_narrow 1 = .ok (.iload_n 1, 1) := dk_27 (dk_at dksX0_narrow_0 1 rfl rfl)
theorem dX0_narrow_2 : decode cX0_narrow 2 = .ok (.invokevirtual 549, 3) := dk_182 2 37 (dk_at dksX0_narrow_0 2 rfl rfl)
theorem dX0_narrow_5 : decode cX0_narrow 5 = .ok (.astore_n 2, 1) := dk_77 (dk_at dksX0_narrow_0 5 rfl rfl)
theorem dX0_narrow_6 : decode cX0_narrow 6 = .ok (.aload_n 0, 1) := dk_42 (dk_at dksX0_narrow_0 6 rfl rfl)
theorem dX0_narrow_7 : decode cX0_narrow 7 = .ok (.aload_n 2, 1) := dk_44 (dk_at dksX0_narrow_0 7 rfl rfl)
theorem dX0_narrow_8 : decode cX0_narrow 8 = .ok (.getfield 521, 3) := dk_180 2 9 (dk_at dksX0_narrow_0 8 rfl rfl)
theorem dX0_narrow_11 : decode cX0_narrow 11 = .ok (.bipush 60, 2) := dk_16 60 (dk_at dksX0_narrow_0 11 rfl rfl)
theorem dX0_narrow_13 : decode cX0_narrow 13 = .ok (.if_icmp .ge 7, 3) := dk_162 0 7 (dk_at dksX0_narrow_0 13 rfl rfl)
theorem dX0_narrow_16 : decode cX0_narrow 16 = .ok (.iconst 1, 1) := dk_4 (dk_at dksX0_narrow_0 16 rfl rfl)
theorem dX0_narrow_17 : decode cX0_narrow 17 = .ok (.goto 4, 3) := dk_167 0 4 (dk_at dksX0_narrow_0 17 rfl rfl)
theorem dX0_narrow_20 : decode cX0_narrow 20 = .ok (.iconst 0, 1) := dk_3 (dk_at dksX0_narrow_0 20 rfl rfl)
theorem dX0_narrow_21 : decode cX0_narrow 21 = .ok (.bipush (-6), 2) := dk_16 250 (dk_at dksX0_narrow_0 21 rfl rfl)
theorem dX0_narrow_23 : decode cX0_narrow 23 = .ok (.invokevirtual 229, 3) := dk_182 0 229 (dk_at dksX0_narrow_1 0 rfl rfl)
theorem dX0_narrow_26 : decode cX0_narrow 26 = .ok (.aload_n 0, 1) := dk_42 (dk_at dksX0_narrow_1 3 rfl rfl)
theorem dX0_narrow_27 : decode cX0_narrow 27 = .ok (.getfield 54, 3) := dk_180 0 54 (dk_at dksX0_narrow_1 4 rfl rfl)
theorem dX0_narrow_30 : decode cX0_narrow 30 = .ok (.aload_n 2, 1) := dk_44 (dk_at dksX0_narrow_1 7 rfl rfl)
theorem dX0_narrow_31 : decode cX0_narrow 31 = .ok (.getfield 515, 3) := dk_180 2 3 (dk_at dksX0_narrow_1 8 rfl rfl)
theorem dX0_narrow_34 : decode cX0_narrow 34 = .ok (.aload_n 2, 1) := dk_44 (dk_at dksX0_narrow_1 11 rfl rfl)
theorem dX0_narrow_35 : decode cX0_narrow 35 = .ok (.getfield 516, 3) := dk_180 2 4 (dk_at dksX0_narrow_1 12 rfl rfl)
theorem dX0_narrow_38 : decode cX0_narrow 38 = .ok (.invokevirtual 511, 3) := dk_182 1 255 (dk_at dksX0_narrow_1 15 rfl rfl)
theorem dX0_narrow_41 : decode cX0_narrow 41 = .ok (.aload_n 0, 1) := dk_42 (dk_at dksX0_narrow_1 18 rfl rfl)
theorem dX0_narrow_42 : decode cX0_narrow 42 = .ok (.aload_n 2, 1) := dk_44 (dk_at dksX0_narrow_1 19 rfl rfl)
theorem dX0_narrow_43 : decode cX0_narrow 43 = .ok (.invokevirtual 552, 3) := dk_182 2 40 (dk_at dksX0_narrow_1 20 rfl rfl)
theorem dX0_narrow_46 : decode cX0_narrow 46 = .ok (.istore_n 3, 1) := dk_62 (dk_at dksX0_narrow_1 23 rfl rfl)
theorem dX0_narrow_47 : decode cX0_narrow 47 = .ok (.aload_n 2, 1) := dk_44 (dk_at dksX0_narrow_2 0 rfl rfl)
theorem dX0_narrow_48 : decode cX0_narrow 48 = .ok (.iload_n 3, 1) := dk_29 (dk_at dksX0_narrow_2 1 rfl rfl)
theorem dX0_narrow_49 : decode cX0_narrow 49 = .ok (.invokevirtual 534, 3) := dk_182 2 22 (dk_at dksX0_narrow_2 2 rfl rfl)
theorem dX0_narrow_52 : decode cX0_narrow 52 = .ok (.aload_n 2, 1) := dk_44 (dk_at dksX0_narrow_2 5 rfl rfl)
theorem dX0_narrow_53 : decode cX0_narrow 53 = .ok (.dup, 1) := dk_89 (dk_at dksX0_narrow_2 6 rfl rfl)
theorem dX0_narrow_54 : decode cX0_narrow 54 = .ok (.getfield 521, 3) := dk_180 2 9 (dk_at dksX0_narrow_2 7 rfl rfl)
theorem dX0_narrow_57 : decode cX0_narrow 57 = .ok (.iconst 1, 1) := dk_4 (dk_at dksX0_narrow_2 10 rfl rfl)
theorem dX0_narrow_58 : decode cX0_narrow 58 = .ok (.iadd, 1) := dk_96 (dk_at dksX0_narrow_2 11 rfl rfl)
theorem dX0_narrow_59 : decode cX0_narrow 59 = .ok (.putfield 521, 3) := dk_181 2 9 (dk_at dksX0_narrow_2 12 rfl rfl)
theorem dX0_narrow_62 : decode cX0_narrow 62 = .ok (.iload_n 3, 1) := dk_29 (dk_at dksX0_narrow_2 15 rfl rfl)
theorem dX0_narrow_63 : decode cX0_narrow 63 = .ok (.ireturn, 1) := dk_172 (dk_at dksX0_narrow_2 16 rfl rfl)
theorem dX0_narrow_64 : decode cX0_narrow 64 = .ok (.astore_n 2, 1) := dk_77 (dk_at dksX0_narrow_2 17 rfl rfl)
theorem dX0_narrow_65 : decode cX0_narrow 65 = .ok (.aload_n 0, 1) := dk_42 (dk_at dksX0_narrow_2 18 rfl rfl)
theorem dX0_narrow_66 : decode cX0_narrow 66 = .ok (.aload_n 2, 1) := dk_44 (dk_at dksX0_narrow_2 19 rfl rfl)
theorem dX0_narrow_67 : decode cX0_narrow 67 = .ok (.invokevirtual 233, 3) := dk_182 0 233 (dk_at dksX0_narrow_2 20 rfl rfl)
theorem dX0_narrow_70 : decode cX0_narrow 70 = .ok (.ireturn, 1) := dk_172 (dk_at dksX0_narrow_2 23 rfl rfl)
abbrev cX0_real : ByteArray := prog_1_method_10_code
def yX0_real : MethodName := ⟨RX0, "real", "(I)LIdealCourt$Real;"⟩
def dkwX0_real_0 : List UInt8 := [42, 27, 182, 0, 210, 77, 44, 192, 0, 154, 176, 78, 42, 16, 253, 182, 0, 178, 191]
abbrev dktX0_real_0 : List UInt8 := dkwX0_real_0 ++ []
theorem dksX0_real_0 : cX0_real.data.toList.drop 0 = dktX0_real_0 := by decide +kernel
theorem dX0_real_0 : decode cX0_real 0 = .ok (.aload_n 0, 1) := dk_42 (dk_at dksX0_real_0 0 rfl rfl)
theorem dX0_real_1 : decode cX0_real 1 = .ok (.iload_n 1, 1) := dk_27 (dk_at dksX0_real_0 1 rfl rfl)
theorem dX0_real_2 : decode cX0_real 2 = .ok (.invokevirtual 210, 3) := dk_182 0 210 (dk_at dksX0_real_0 2 rfl rfl)
theorem dX0_real_5 : decode cX0_real 5 = .ok (.astore_n 2, 1) := dk_77 (dk_at dksX0_real_0 5 rfl rfl)
theorem dX0_real_6 : decode cX0_real 6 = .ok (.aload_n 2, 1) := dk_44 (dk_at dksX0_real_0 6 rfl rfl)
theorem dX0_real_7 : decode cX0_real 7 = .ok (.checkcast 154, 3) := dk_192 0 154 (dk_at dksX0_real_0 7 rfl rfl)
theorem dX0_real_10 : decode cX0_real 10 = .ok (.areturn, 1) := dk_176 (dk_at dksX0_real_0 10 rfl rfl)
theorem dX0_real_11 : decode cX0_real 11 = .ok (.astore_n 3, 1) := dk_78 (dk_at dksX0_real_0 11 rfl rfl)
theorem dX0_real_12 : decode cX0_real 12 = .ok (.aload_n 0, 1) := dk_42 (dk_at dksX0_real_0 12 rfl rfl)
theorem dX0_real_13 : decode cX0_real 13 = .ok (.bipush (-3), 2) := dk_16 253 (dk_at dksX0_real_0 13 rfl rfl)
theorem dX0_real_15 : decode cX0_real 15 = .ok (.invokevirtual 178, 3) := dk_182 0 178 (dk_at dksX0_real_0 15 rfl rfl)
theorem dX0_real_18 : decode cX0_real 18 = .ok (.athrow, 1) := dk_191 (dk_at dksX0_real_0 18 rfl rfl)
abbrev cX0_halfOf : ByteArray := prog_1_method_58_code
def yX0_halfOf : MethodName := ⟨RX0, "halfOf", "(LIdealCourt$Real;)I"⟩
def dkwX0_halfOf_1 : List UInt8 := [180, 0, 165, 182, 2, 18, 4, 160, 0, 7, 3, 167, 0, 4, 4, 172]
abbrev dktX0_halfOf_1 : List UInt8 := dkwX0_halfOf_1 ++ []
def dkwX0_halfOf_0 : List UInt8 := [42, 180, 0, 165, 43, 182, 2, 25, 42, 180, 0, 165, 3, 182, 2, 22, 42, 42, 180, 0, 54, 42]
abbrev dktX0_halfOf_0 : List UInt8 := dkwX0_halfOf_0 ++ dktX0_halfOf_1
theorem dksX0_halfOf_0 : cX0_halfOf.data.toList.drop 0 = dktX0_halfOf_0 := by decide +kernel
theorem dksX0_halfOf_1 : cX0_halfOf.data.toList.drop 22 = dktX0_halfOf_1 := dk_seg dksX0_halfOf_0 22 rfl rfl
theorem dX0_halfOf_0 : decode cX0_halfOf 0 = .ok (.aload_n 0, 1) := dk_42 (dk_at dksX0_halfOf_0 0 rfl rfl)
theorem dX0_halfOf_1 : decode cX0_halfOf 1 = .ok (.getfield 165, 3) := dk_180 0 165 (dk_at dksX0_halfOf_0 1 rfl rfl)
theorem dX0_halfOf_4 : decode cX0_halfOf 4 = .ok (.aload_n 1, 1) := dk_43 (dk_at dksX0_halfOf_0 4 rfl rfl)
theorem dX0_halfOf_5 : decode cX0_halfOf 5 = .ok (.invokevirtual 537, 3) := dk_182 2 25 (dk_at dksX0_halfOf_0 5 rfl rfl)
theorem dX0_halfOf_8 : decode cX0_halfOf 8 = .ok (.aload_n 0, 1) := dk_42 (dk_at dksX0_halfOf_0 8 rfl rfl)
theorem dX0_halfOf_9 : decode cX0_halfOf 9 = .ok (.getfield 165, 3) := dk_180 0 165 (dk_at dksX0_halfOf_0 9 rfl rfl)
theorem dX0_halfOf_12 : decode cX0_halfOf 12 = .ok (.iconst 0, 1) := dk_3 (dk_at dksX0_halfOf_0 12 rfl rfl)
theorem dX0_halfOf_13 : decode cX0_halfOf 13 = .ok (.invokevirtual 534, 3) := dk_182 2 22 (dk_at dksX0_halfOf_0 13 rfl rfl)
theorem dX0_halfOf_16 : decode cX0_halfOf 16 = .ok (.aload_n 0, 1) := dk_42 (dk_at dksX0_halfOf_0 16 rfl rfl)
theorem dX0_halfOf_17 : decode cX0_halfOf 17 = .ok (.aload_n 0, 1) := dk_42 (dk_at dksX0_halfOf_0 17 rfl rfl)
theorem dX0_halfOf_18 : decode cX0_halfOf 18 = .ok (.getfield 54, 3) := dk_180 0 54 (dk_at dksX0_halfOf_0 18 rfl rfl)
theorem dX0_halfOf_21 : decode cX0_halfOf 21 = .ok (.aload_n 0, 1) := dk_42 (dk_at dksX0_halfOf_0 21 rfl rfl)
theorem dX0_halfOf_22 : decode cX0_halfOf 22 = .ok (.getfield 165, 3) := dk_180 0 165 (dk_at dksX0_halfOf_1 0 rfl rfl)
theorem dX0_halfOf_25 : decode cX0_halfOf 25 = .ok (.invokevirtual 530, 3) := dk_182 2 18 (dk_at dksX0_halfOf_1 3 rfl rfl)
theorem dX0_halfOf_28 : decode cX0_halfOf 28 = .ok (.iconst 1, 1) := dk_4 (dk_at dksX0_halfOf_1 6 rfl rfl)
theorem dX0_halfOf_29 : decode cX0_halfOf 29 = .ok (.if_icmp .ne 7, 3) := dk_160 0 7 (dk_at dksX0_halfOf_1 7 rfl rfl)
theorem dX0_halfOf_32 : decode cX0_halfOf 32 = .ok (.iconst 0, 1) := dk_3 (dk_at dksX0_halfOf_1 10 rfl rfl)
theorem dX0_halfOf_33 : decode cX0_halfOf 33 = .ok (.goto 4, 3) := dk_167 0 4 (dk_at dksX0_halfOf_1 11 rfl rfl)
theorem dX0_halfOf_36 : decode cX0_halfOf 36 = .ok (.iconst 1, 1) := dk_4 (dk_at dksX0_halfOf_1 14 rfl rfl)
theorem dX0_halfOf_37 : decode cX0_halfOf 37 = .ok (.ireturn, 1) := dk_172 (dk_at dksX0_halfOf_1 15 rfl rfl)
abbrev cX0_sign : ByteArray := prog_1_method_60_code
def yX0_sign : MethodName := ⟨RX0, "sign", "(II)I"⟩
def dkwX0_sign_9 : List UInt8 := [182, 2, 51, 96, 172, 78, 42, 45, 182, 0, 233, 172]
abbrev dktX0_sign_9 : List UInt8 := dkwX0_sign_9 ++ []
def dkwX0_sign_8 : List UInt8 := [180, 0, 151, 21, 5, 182, 2, 48, 4, 42, 180, 0, 58, 42, 180, 0, 83, 42, 180, 0, 173, 182, 1, 126]
abbrev dktX0_sign_8 : List UInt8 := dkwX0_sign_8 ++ dktX0_sign_9
def dkwX0_sign_7 : List UInt8 := [180, 0, 173, 4, 42, 180, 0, 83, 42, 180, 0, 86, 42, 180, 0, 29, 182, 1, 122, 42, 180, 0, 58, 42]
abbrev dktX0_sign_7 : List UInt8 := dkwX0_sign_7 ++ dktX0_sign_8
def dkwX0_sign_6 : List UInt8 := [158, 0, 21, 42, 180, 0, 173, 42, 42, 180, 0, 173, 182, 2, 40, 182, 2, 22, 167, 255, 226, 42]
abbrev dktX0_sign_6 : List UInt8 := dkwX0_sign_6 ++ dktX0_sign_7
def dkwX0_sign_5 : List UInt8 := [180, 0, 58, 42, 180, 0, 151, 21, 5, 182, 1, 255, 42, 42, 180, 0, 58, 42, 180, 0, 173, 182, 2, 18]
abbrev dktX0_sign_5 : List UInt8 := dkwX0_sign_5 ++ dktX0_sign_6
def dkwX0_sign_4 : List UInt8 := [25, 4, 182, 2, 25, 42, 180, 0, 54, 25, 4, 180, 2, 3, 25, 4, 180, 2, 4, 182, 1, 255, 42]
abbrev dktX0_sign_4 : List UInt8 := dkwX0_sign_4 ++ dktX0_sign_5
def dkwX0_sign_3 : List UInt8 := [21, 5, 182, 2, 44, 42, 42, 180, 0, 58, 25, 4, 182, 2, 18, 158, 0, 5, 4, 172, 42, 180, 0, 173]
abbrev dktX0_sign_3 : List UInt8 := dkwX0_sign_3 ++ dktX0_sign_4
def dkwX0_sign_2 : List UInt8 := [167, 0, 4, 5, 172, 42, 180, 0, 58, 25, 4, 180, 2, 3, 25, 4, 180, 2, 4, 42, 180, 0, 151]
abbrev dktX0_sign_2 : List UInt8 := dkwX0_sign_2 ++ dktX0_sign_3
def dkwX0_sign_1 : List UInt8 := [42, 180, 0, 151, 182, 1, 251, 54, 5, 21, 5, 154, 0, 18, 42, 180, 0, 151, 3, 46, 156, 0, 7, 3]
abbrev dktX0_sign_1 : List UInt8 := dkwX0_sign_1 ++ dktX0_sign_2
def dkwX0_sign_0 : List UInt8 := [42, 27, 182, 0, 242, 78, 42, 28, 182, 2, 37, 58, 4, 45, 180, 0, 226, 154, 0, 5, 4, 172, 42, 45]
abbrev dktX0_sign_0 : List UInt8 := dkwX0_sign_0 ++ dktX0_sign_1
theorem dksX0_sign_0 : cX0_sign.data.toList.drop 0 = dktX0_sign_0 := by decide +kernel
theorem dksX0_sign_1 : cX0_sign.data.toList.drop 24 = dktX0_sign_1 := dk_seg dksX0_sign_0 24 rfl rfl
theorem dksX0_sign_2 : cX0_sign.data.toList.drop 48 = dktX0_sign_2 := dk_seg dksX0_sign_1 24 rfl rfl
theorem dksX0_sign_3 : cX0_sign.data.toList.drop 71 = dktX0_sign_3 := dk_seg dksX0_sign_2 23 rfl rfl
theorem dksX0_sign_4 : cX0_sign.data.toList.drop 95 = dktX0_sign_4 := dk_seg dksX0_sign_3 24 rfl rfl
theorem dksX0_sign_5 : cX0_sign.data.toList.drop 118 = dktX0_sign_5 := dk_seg dksX0_sign_4 23 rfl rfl
theorem dksX0_sign_6 : cX0_sign.data.toList.drop 142 = dktX0_sign_6 := dk_seg dksX0_sign_5 24 rfl rfl
theorem dksX0_sign_7 : cX0_sign.data.toList.drop 164 = dktX0_sign_7 := dk_seg dksX0_sign_6 22 rfl rfl
theorem dksX0_sign_8 : cX0_sign.data.toList.drop 188 = dktX0_sign_8 := dk_seg dksX0_sign_7 24 rfl rfl
theorem dksX0_sign_9 : cX0_sign.data.toList.drop 212 = dktX0_sign_9 := dk_seg dksX0_sign_8 24 rfl rfl
theorem dX0_sign_0 : decode cX0_sign 0 = .ok (.aload_n 0, 1) := dk_42 (dk_at dksX0_sign_0 0 rfl rfl)
theorem dX0_sign_1 : decode cX0_sign 1 = .ok (.iload_n 1, 1) := dk_27 (dk_at dksX0_sign_0 1 rfl rfl)
theorem dX0_sign_2 : decode cX0_sign 2 = .ok (.invokevirtual 242, 3) := dk_182 0 242 (dk_at dksX0_sign_0 2 rfl rfl)
theorem dX0_sign_5 : decode cX0_sign 5 = .ok (.astore_n 3, 1) := dk_78 (dk_at dksX0_sign_0 5 rfl rfl)
theorem dX0_sign_6 : decode cX0_sign 6 = .ok (.aload_n 0, 1) := dk_42 (dk_at dksX0_sign_0 6 rfl rfl)
theorem dX0_sign_7 : decode cX0_sign 7 = .ok (.iload_n 2, 1) := dk_28 (dk_at dksX0_sign_0 7 rfl rfl)
theorem dX0_sign_8 : decode cX0_sign 8 = .ok (.invokevirtual 549, 3) := dk_182 2 37 (dk_at dksX0_sign_0 8 rfl rfl)
theorem dX0_sign_11 : decode cX0_sign 11 = .ok (.astore 4, 2) := dk_58 4 (dk_at dksX0_sign_0 11 rfl rfl)
theorem dX0_sign_13 : decode cX0_sign 13 = .ok (.aload_n 3, 1) := dk_45 (dk_at dksX0_sign_0 13 rfl rfl)
theorem dX0_sign_14 : decode cX0_sign 14 = .ok (.getfield 226, 3) := dk_180 0 226 (dk_at dksX0_sign_0 14 rfl rfl)
theorem dX0_sign_17 : decode cX0_sign 17 = .ok (.ifCond .ne 5, 3) := dk_154 0 5 (dk_at dksX0_sign_0 17 rfl rfl)
theorem dX0_sign_20 : decode cX0_sign 20 = .ok (.iconst 1, 1) := dk_4 (dk_at dksX0_sign_0 20 rfl rfl)
theorem dX0_sign_21 : decode cX0_sign 21 = .ok (.ireturn, 1) := dk_172 (dk_at dksX0_sign_0 21 rfl rfl)
theorem dX0_sign_22 : decode cX0_sign 22 = .ok (.aload_n 0, 1) := dk_42 (dk_at dksX0_sign_0 22 rfl rfl)
theorem dX0_sign_23 : decode cX0_sign 23 = .ok (.aload_n 3, 1) := dk_45 (dk_at dksX0_sign_0 23 rfl rfl)
theorem dX0_sign_24 : decode cX0_sign 24 = .ok (.aload_n 0, 1) := dk_42 (dk_at dksX0_sign_1 0 rfl rfl)
theorem dX0_sign_25 : decode cX0_sign 25 = .ok (.getfield 151, 3) := dk_180 0 151 (dk_at dksX0_sign_1 1 rfl rfl)
theorem dX0_sign_28 : decode cX0_sign 28 = .ok (.invokevirtual 507, 3) := dk_182 1 251 (dk_at dksX0_sign_1 4 rfl rfl)
theorem dX0_sign_31 : decode cX0_sign 31 = .ok (.istore 5, 2) := dk_54 5 (dk_at dksX0_sign_1 7 rfl rfl)
theorem dX0_sign_33 : decode cX0_sign 33 = .ok (.iload 5, 2) := dk_21 5 (dk_at dksX0_sign_1 9 rfl rfl)
theorem dX0_sign_35 : decode cX0_sign 35 = .ok (.ifCond .ne 18, 3) := dk_154 0 18 (dk_at dksX0_sign_1 11 rfl rfl)
theorem dX0_sign_38 : decode cX0_sign 38 = .ok (.aload_n 0, 1) := dk_42 (dk_at dksX0_sign_1 14 rfl rfl)
theorem dX0_sign_39 : decode cX0_sign 39 = .ok (.getfield 151, 3) := dk_180 0 151 (dk_at dksX0_sign_1 15 rfl rfl)
theorem dX0_sign_42 : decode cX0_sign 42 = .ok (.iconst 0, 1) := dk_3 (dk_at dksX0_sign_1 18 rfl rfl)
theorem dX0_sign_43 : decode cX0_sign 43 = .ok (.iaload, 1) := dk_46 (dk_at dksX0_sign_1 19 rfl rfl)
theorem dX0_sign_44 : decode cX0_sign 44 = .ok (.ifCond .ge 7, 3) := dk_156 0 7 (dk_at dksX0_sign_1 20 rfl rfl)
theorem dX0_sign_47 : decode cX0_sign 47 = .ok (.iconst 0, 1) := dk_3 (dk_at dksX0_sign_1 23 rfl rfl)
theorem dX0_sign_48 : decode cX0_sign 48 = .ok (.goto 4, 3) := dk_167 0 4 (dk_at dksX0_sign_2 0 rfl rfl)
theorem dX0_sign_51 : decode cX0_sign 51 = .ok (.iconst 2, 1) := dk_5 (dk_at dksX0_sign_2 3 rfl rfl)
theorem dX0_sign_52 : decode cX0_sign 52 = .ok (.ireturn, 1) := dk_172 (dk_at dksX0_sign_2 4 rfl rfl)
theorem dX0_sign_53 : decode cX0_sign 53 = .ok (.aload_n 0, 1) := dk_42 (dk_at dksX0_sign_2 5 rfl rfl)
theorem dX0_sign_54 : decode cX0_sign 54 = .ok (.getfield 58, 3) := dk_180 0 58 (dk_at dksX0_sign_2 6 rfl rfl)
theorem dX0_sign_57 : decode cX0_sign 57 = .ok (.aload 4, 2) := dk_25 4 (dk_at dksX0_sign_2 9 rfl rfl)
theorem dX0_sign_59 : decode cX0_sign 59 = .ok (.getfield 515, 3) := dk_180 2 3 (dk_at dksX0_sign_2 11 rfl rfl)
theorem dX0_sign_62 : decode cX0_sign 62 = .ok (.aload 4, 2) := dk_25 4 (dk_at dksX0_sign_2 14 rfl rfl)
theorem dX0_sign_64 : decode cX0_sign 64 = .ok (.getfield 516, 3) := dk_180 2 4 (dk_at dksX0_sign_2 16 rfl rfl)
theorem dX0_sign_67 : decode cX0_sign 67 = .ok (.aload_n 0, 1) := dk_42 (dk_at dksX0_sign_2 19 rfl rfl)
theorem dX0_sign_68 : decode cX0_sign 68 = .ok (.getfield 151, 3) := dk_180 0 151 (dk_at dksX0_sign_2 20 rfl rfl)
theorem dX0_sign_71 : decode cX0_sign 71 = .ok (.iload 5, 2) := dk_21 5 (dk_at dksX0_sign_3 0 rfl rfl)
theorem dX0_sign_73 : decode cX0_sign 73 = .ok (.invokevirtual 556, 3) := dk_182 2 44 (dk_at dksX0_sign_3 2 rfl rfl)
theorem dX0_sign_76 : decode cX0_sign 76 = .ok (.aload_n 0, 1) := dk_42 (dk_at dksX0_sign_3 5 rfl rfl)
theorem dX0_sign_77 : decode cX0_sign 77 = .ok (.aload_n 0, 1) := dk_42 (dk_at dksX0_sign_3 6 rfl rfl)
theorem dX0_sign_78 : decode cX0_sign 78 = .ok (.getfield 58, 3) := dk_180 0 58 (dk_at dksX0_sign_3 7 rfl rfl)
theorem dX0_sign_81 : decode cX0_sign 81 = .ok (.aload 4, 2) := dk_25 4 (dk_at dksX0_sign_3 10 rfl rfl)
theorem dX0_sign_83 : decode cX0_sign 83 = .ok (.invokevirtual 530, 3) := dk_182 2 18 (dk_at dksX0_sign_3 12 rfl rfl)
theorem dX0_sign_86 : decode cX0_sign 86 = .ok (.ifCond .le 5, 3) := dk_158 0 5 (dk_at dksX0_sign_3 15 rfl rfl)
theorem dX0_sign_89 : decode cX0_sign 89 = .ok (.iconst 1, 1) := dk_4 (dk_at dksX0_sign_3 18 rfl rfl)
theorem dX0_sign_90 : decode cX0_sign 90 = .ok (.ireturn, 1) := dk_172 (dk_at dksX0_sign_3 19 rfl rfl)
theorem dX0_sign_91 : decode cX0_sign 91 = .ok (.aload_n 0, 1) := dk_42 (dk_at dksX0_sign_3 20 rfl rfl)
theorem dX0_sign_92 : decode cX0_sign 92 = .ok (.getfield 173, 3) := dk_180 0 173 (dk_at dksX0_sign_3 21 rfl rfl)
theorem dX0_sign_95 : decode cX0_sign 95 = .ok (.aload 4, 2) := dk_25 4 (dk_at dksX0_sign_4 0 rfl rfl)
theorem dX0_sign_97 : decode cX0_sign 97 = .ok (.invokevirtual 537, 3) := dk_182 2 25 (dk_at dksX0_sign_4 2 rfl rfl)
theorem dX0_sign_100 : decode cX0_sign 100 = .ok (.aload_n 0, 1) := dk_42 (dk_at dksX0_sign_4 5 rfl rfl)
theorem dX0_sign_101 : decode cX0_sign 101 = .ok (.getfield 54, 3) := dk_180 0 54 (dk_at dksX0_sign_4 6 rfl rfl)
theorem dX0_sign_104 : decode cX0_sign 104 = .ok (.aload 4, 2) := dk_25 4 (dk_at dksX0_sign_4 9 rfl rfl)
theorem dX0_sign_106 : decode cX0_sign 106 = .ok (.getfield 515, 3) := dk_180 2 3 (dk_at dksX0_sign_4 11 rfl rfl)
theorem dX0_sign_109 : decode cX0_sign 109 = .ok (.aload 4, 2) := dk_25 4 (dk_at dksX0_sign_4 14 rfl rfl)
theorem dX0_sign_111 : decode cX0_sign 111 = .ok (.getfield 516, 3) := dk_180 2 4 (dk_at dksX0_sign_4 16 rfl rfl)
theorem dX0_sign_114 : decode cX0_sign 114 = .ok (.invokevirtual 511, 3) := dk_182 1 255 (dk_at dksX0_sign_4 19 rfl rfl)
theorem dX0_sign_117 : decode cX0_sign 117 = .ok (.aload_n 0, 1) := dk_42 (dk_at dksX0_sign_4 22 rfl rfl)
theorem dX0_sign_118 : decode cX0_sign 118 = .ok (.getfield 58, 3) := dk_180 0 58 (dk_at dksX0_sign_5 0 rfl rfl)
theorem dX0_sign_121 : decode cX0_sign 121 = .ok (.aload_n 0, 1) := dk_42 (dk_at dksX0_sign_5 3 rfl rfl)
theorem dX0_sign_122 : decode cX0_sign 122 = .ok (.getfield 151, 3) := dk_180 0 151 (dk_at dksX0_sign_5 4 rfl rfl)
theorem dX0_sign_125 : decode cX0_sign 125 = .ok (.iload 5, 2) := dk_21 5 (dk_at dksX0_sign_5 7 rfl rfl)
theorem dX0_sign_127 : decode cX0_sign 127 = .ok (.invokevirtual 511, 3) := dk_182 1 255 (dk_at dksX0_sign_5 9 rfl rfl)
theorem dX0_sign_130 : decode cX0_sign 130 = .ok (.aload_n 0, 1) := dk_42 (dk_at dksX0_sign_5 12 rfl rfl)
theorem dX0_sign_131 : decode cX0_sign 131 = .ok (.aload_n 0, 1) := dk_42 (dk_at dksX0_sign_5 13 rfl rfl)
theorem dX0_sign_132 : decode cX0_sign 132 = .ok (.getfield 58, 3) := dk_180 0 58 (dk_at dksX0_sign_5 14 rfl rfl)
theorem dX0_sign_135 : decode cX0_sign 135 = .ok (.aload_n 0, 1) := dk_42 (dk_at dksX0_sign_5 17 rfl rfl)
theorem dX0_sign_136 : decode cX0_sign 136 = .ok (.getfield 173, 3) := dk_180 0 173 (dk_at dksX0_sign_5 18 rfl rfl)
theorem dX0_sign_139 : decode cX0_sign 139 = .ok (.invokevirtual 530, 3) := dk_182 2 18 (dk_at dksX0_sign_5 21 rfl rfl)
theorem dX0_sign_142 : decode cX0_sign 142 = .ok (.ifCond .le 21, 3) := dk_158 0 21 (dk_at dksX0_sign_6 0 rfl rfl)
theorem dX0_sign_145 : decode cX0_sign 145 = .ok (.aload_n 0, 1) := dk_42 (dk_at dksX0_sign_6 3 rfl rfl)
theorem dX0_sign_146 : decode cX0_sign 146 = .ok (.getfield 173, 3) := dk_180 0 173 (dk_at dksX0_sign_6 4 rfl rfl)
theorem dX0_sign_149 : decode cX0_sign 149 = .ok (.aload_n 0, 1) := dk_42 (dk_at dksX0_sign_6 7 rfl rfl)
theorem dX0_sign_150 : decode cX0_sign 150 = .ok (.aload_n 0, 1) := dk_42 (dk_at dksX0_sign_6 8 rfl rfl)
theorem dX0_sign_151 : decode cX0_sign 151 = .ok (.getfield 173, 3) := dk_180 0 173 (dk_at dksX0_sign_6 9 rfl rfl)
theorem dX0_sign_154 : decode cX0_sign 154 = .ok (.invokevirtual 552, 3) := dk_182 2 40 (dk_at dksX0_sign_6 12 rfl rfl)
theorem dX0_sign_157 : decode cX0_sign 157 = .ok (.invokevirtual 534, 3) := dk_182 2 22 (dk_at dksX0_sign_6 15 rfl rfl)
theorem dX0_sign_160 : decode cX0_sign 160 = .ok (.goto (-30), 3) := dk_167 255 226 (dk_at dksX0_sign_6 18 rfl rfl)
theorem dX0_sign_163 : decode cX0_sign 163 = .ok (.aload_n 0, 1) := dk_42 (dk_at dksX0_sign_6 21 rfl rfl)
theorem dX0_sign_164 : decode cX0_sign 164 = .ok (.getfield 173, 3) := dk_180 0 173 (dk_at dksX0_sign_7 0 rfl rfl)
theorem dX0_sign_167 : decode cX0_sign 167 = .ok (.iconst 1, 1) := dk_4 (dk_at dksX0_sign_7 3 rfl rfl)
theorem dX0_sign_168 : decode cX0_sign 168 = .ok (.aload_n 0, 1) := dk_42 (dk_at dksX0_sign_7 4 rfl rfl)
theorem dX0_sign_169 : decode cX0_sign 169 = .ok (.getfield 83, 3) := dk_180 0 83 (dk_at dksX0_sign_7 5 rfl rfl)
theorem dX0_sign_172 : decode cX0_sign 172 = .ok (.aload_n 0, 1) := dk_42 (dk_at dksX0_sign_7 8 rfl rfl)
theorem dX0_sign_173 : decode cX0_sign 173 = .ok (.getfield 86, 3) := dk_180 0 86 (dk_at dksX0_sign_7 9 rfl rfl)
theorem dX0_sign_176 : decode cX0_sign 176 = .ok (.aload_n 0, 1) := dk_42 (dk_at dksX0_sign_7 12 rfl rfl)
theorem dX0_sign_177 : decode cX0_sign 177 = .ok (.getfield 29, 3) := dk_180 0 29 (dk_at dksX0_sign_7 13 rfl rfl)
theorem dX0_sign_180 : decode cX0_sign 180 = .ok (.invokevirtual 378, 3) := dk_182 1 122 (dk_at dksX0_sign_7 16 rfl rfl)
theorem dX0_sign_183 : decode cX0_sign 183 = .ok (.aload_n 0, 1) := dk_42 (dk_at dksX0_sign_7 19 rfl rfl)
theorem dX0_sign_184 : decode cX0_sign 184 = .ok (.getfield 58, 3) := dk_180 0 58 (dk_at dksX0_sign_7 20 rfl rfl)
theorem dX0_sign_187 : decode cX0_sign 187 = .ok (.aload_n 0, 1) := dk_42 (dk_at dksX0_sign_7 23 rfl rfl)
theorem dX0_sign_188 : decode cX0_sign 188 = .ok (.getfield 151, 3) := dk_180 0 151 (dk_at dksX0_sign_8 0 rfl rfl)
theorem dX0_sign_191 : decode cX0_sign 191 = .ok (.iload 5, 2) := dk_21 5 (dk_at dksX0_sign_8 3 rfl rfl)
theorem dX0_sign_193 : decode cX0_sign 193 = .ok (.invokevirtual 560, 3) := dk_182 2 48 (dk_at dksX0_sign_8 5 rfl rfl)
theorem dX0_sign_196 : decode cX0_sign 196 = .ok (.iconst 1, 1) := dk_4 (dk_at dksX0_sign_8 8 rfl rfl)
theorem dX0_sign_197 : decode cX0_sign 197 = .ok (.aload_n 0, 1) := dk_42 (dk_at dksX0_sign_8 9 rfl rfl)
theorem dX0_sign_198 : decode cX0_sign 198 = .ok (.getfield 58, 3) := dk_180 0 58 (dk_at dksX0_sign_8 10 rfl rfl)
theorem dX0_sign_201 : decode cX0_sign 201 = .ok (.aload_n 0, 1) := dk_42 (dk_at dksX0_sign_8 13 rfl rfl)
theorem dX0_sign_202 : decode cX0_sign 202 = .ok (.getfield 83, 3) := dk_180 0 83 (dk_at dksX0_sign_8 14 rfl rfl)
theorem dX0_sign_205 : decode cX0_sign 205 = .ok (.aload_n 0, 1) := dk_42 (dk_at dksX0_sign_8 17 rfl rfl)
theorem dX0_sign_206 : decode cX0_sign 206 = .ok (.getfield 173, 3) := dk_180 0 173 (dk_at dksX0_sign_8 18 rfl rfl)
theorem dX0_sign_209 : decode cX0_sign 209 = .ok (.invokevirtual 382, 3) := dk_182 1 126 (dk_at dksX0_sign_8 21 rfl rfl)
theorem dX0_sign_212 : decode cX0_sign 212 = .ok (.invokevirtual 563, 3) := dk_182 2 51 (dk_at dksX0_sign_9 0 rfl rfl)
theorem dX0_sign_215 : decode cX0_sign 215 = .ok (.iadd, 1) := dk_96 (dk_at dksX0_sign_9 3 rfl rfl)
theorem dX0_sign_216 : decode cX0_sign 216 = .ok (.ireturn, 1) := dk_172 (dk_at dksX0_sign_9 4 rfl rfl)
theorem dX0_sign_217 : decode cX0_sign 217 = .ok (.astore_n 3, 1) := dk_78 (dk_at dksX0_sign_9 5 rfl rfl)
theorem dX0_sign_218 : decode cX0_sign 218 = .ok (.aload_n 0, 1) := dk_42 (dk_at dksX0_sign_9 6 rfl rfl)
theorem dX0_sign_219 : decode cX0_sign 219 = .ok (.aload_n 3, 1) := dk_45 (dk_at dksX0_sign_9 7 rfl rfl)
theorem dX0_sign_220 : decode cX0_sign 220 = .ok (.invokevirtual 233, 3) := dk_182 0 233 (dk_at dksX0_sign_9 8 rfl rfl)
theorem dX0_sign_223 : decode cX0_sign 223 = .ok (.ireturn, 1) := dk_172 (dk_at dksX0_sign_9 11 rfl rfl)
abbrev cX0_same : ByteArray := prog_1_method_61_code
def yX0_same : MethodName := ⟨RX0, "same", "(II)I"⟩
def dkwX0_same_6 : List UInt8 := [167, 0, 4, 3, 172, 78, 42, 45, 182, 0, 233, 172]
abbrev dktX0_same_6 : List UInt8 := dkwX0_same_6 ++ []
def dkwX0_same_5 : List UInt8 := [180, 2, 12, 182, 2, 57, 154, 0, 7, 4, 167, 0, 4, 3, 54, 5, 21, 5, 153, 0, 7, 4]
abbrev dktX0_same_5 : List UInt8 := dkwX0_same_5 ++ dktX0_same_6
def dkwX0_same_4 : List UInt8 := [192, 0, 154, 180, 2, 6, 160, 0, 30, 42, 180, 0, 29, 25, 7, 180, 2, 12, 25, 4, 192, 0, 154]
abbrev dktX0_same_4 : List UInt8 := dkwX0_same_4 ++ dktX0_same_5
def dkwX0_same_3 : List UInt8 := [167, 0, 62, 45, 193, 0, 154, 153, 0, 55, 45, 192, 0, 154, 58, 7, 25, 7, 180, 2, 6, 25, 4]
abbrev dktX0_same_3 : List UInt8 := dkwX0_same_3 ++ dktX0_same_4
def dkwX0_same_2 : List UInt8 := [193, 0, 119, 153, 0, 24, 45, 192, 0, 119, 58, 6, 25, 6, 25, 4, 192, 0, 119, 182, 2, 53, 54, 5]
abbrev dktX0_same_2 : List UInt8 := dkwX0_same_2 ++ dktX0_same_3
def dkwX0_same_1 : List UInt8 := [185, 0, 204, 1, 0, 159, 0, 5, 3, 172, 45, 25, 4, 166, 0, 7, 4, 167, 0, 4, 3, 54, 5, 45]
abbrev dktX0_same_1 : List UInt8 := dkwX0_same_1 ++ dktX0_same_2
def dkwX0_same_0 : List UInt8 := [42, 27, 182, 0, 210, 78, 42, 28, 182, 0, 210, 58, 4, 45, 185, 0, 204, 1, 0, 25, 4]
abbrev dktX0_same_0 : List UInt8 := dkwX0_same_0 ++ dktX0_same_1
theorem dksX0_same_0 : cX0_same.data.toList.drop 0 = dktX0_same_0 := by decide +kernel
theorem dksX0_same_1 : cX0_same.data.toList.drop 21 = dktX0_same_1 := dk_seg dksX0_same_0 21 rfl rfl
theorem dksX0_same_2 : cX0_same.data.toList.drop 45 = dktX0_same_2 := dk_seg dksX0_same_1 24 rfl rfl
theorem dksX0_same_3 : cX0_same.data.toList.drop 69 = dktX0_same_3 := dk_seg dksX0_same_2 24 rfl rfl
theorem dksX0_same_4 : cX0_same.data.toList.drop 92 = dktX0_same_4 := dk_seg dksX0_same_3 23 rfl rfl
theorem dksX0_same_5 : cX0_same.data.toList.drop 115 = dktX0_same_5 := dk_seg dksX0_same_4 23 rfl rfl
theorem dksX0_same_6 : cX0_same.data.toList.drop 137 = dktX0_same_6 := dk_seg dksX0_same_5 22 rfl rfl
theorem dX0_same_0 : decode cX0_same 0 = .ok (.aload_n 0, 1) := dk_42 (dk_at dksX0_same_0 0 rfl rfl)
theorem dX0_same_1 : decode cX0_same 1 = .ok (.iload_n 1, 1) := dk_27 (dk_at dksX0_same_0 1 rfl rfl)
theorem dX0_same_2 : decode cX0_same 2 = .ok (.invokevirtual 210, 3) := dk_182 0 210 (dk_at dksX0_same_0 2 rfl rfl)
theorem dX0_same_5 : decode cX0_same 5 = .ok (.astore_n 3, 1) := dk_78 (dk_at dksX0_same_0 5 rfl rfl)
theorem dX0_same_6 : decode cX0_same 6 = .ok (.aload_n 0, 1) := dk_42 (dk_at dksX0_same_0 6 rfl rfl)
theorem dX0_same_7 : decode cX0_same 7 = .ok (.iload_n 2, 1) := dk_28 (dk_at dksX0_same_0 7 rfl rfl)
theorem dX0_same_8 : decode cX0_same 8 = .ok (.invokevirtual 210, 3) := dk_182 0 210 (dk_at dksX0_same_0 8 rfl rfl)
theorem dX0_same_11 : decode cX0_same 11 = .ok (.astore 4, 2) := dk_58 4 (dk_at dksX0_same_0 11 rfl rfl)
theorem dX0_same_13 : decode cX0_same 13 = .ok (.aload_n 3, 1) := dk_45 (dk_at dksX0_same_0 13 rfl rfl)
theorem dX0_same_14 : decode cX0_same 14 = .ok (.invokeinterface 204 1, 5) := by decide +kernel
theorem dX0_same_19 : decode cX0_same 19 = .ok (.aload 4, 2) := dk_25 4 (dk_at dksX0_same_0 19 rfl rfl)
theorem dX0_same_21 : decode cX0_same 21 = .ok (.invokeinterface 204 1, 5) := by decide +kernel
theorem dX0_same_26 : decode cX0_same 26 = .ok (.if_icmp .eq 5, 3) := dk_159 0 5 (dk_at dksX0_same_1 5 rfl rfl)
theorem dX0_same_29 : decode cX0_same 29 = .ok (.iconst 0, 1) := dk_3 (dk_at dksX0_same_1 8 rfl rfl)
theorem dX0_same_30 : decode cX0_same 30 = .ok (.ireturn, 1) := dk_172 (dk_at dksX0_same_1 9 rfl rfl)
theorem dX0_same_31 : decode cX0_same 31 = .ok (.aload_n 3, 1) := dk_45 (dk_at dksX0_same_1 10 rfl rfl)
theorem dX0_same_32 : decode cX0_same 32 = .ok (.aload 4, 2) := dk_25 4 (dk_at dksX0_same_1 11 rfl rfl)
theorem dX0_same_34 : decode cX0_same 34 = .ok (.if_acmp .ne 7, 3) := dk_166 0 7 (dk_at dksX0_same_1 13 rfl rfl)
theorem dX0_same_37 : decode cX0_same 37 = .ok (.iconst 1, 1) := dk_4 (dk_at dksX0_same_1 16 rfl rfl)
theorem dX0_same_38 : decode cX0_same 38 = .ok (.goto 4, 3) := dk_167 0 4 (dk_at dksX0_same_1 17 rfl rfl)
theorem dX0_same_41 : decode cX0_same 41 = .ok (.iconst 0, 1) := dk_3 (dk_at dksX0_same_1 20 rfl rfl)
theorem dX0_same_42 : decode cX0_same 42 = .ok (.istore 5, 2) := dk_54 5 (dk_at dksX0_same_1 21 rfl rfl)
theorem dX0_same_44 : decode cX0_same 44 = .ok (.aload_n 3, 1) := dk_45 (dk_at dksX0_same_1 23 rfl rfl)
theorem dX0_same_45 : decode cX0_same 45 = .ok (.instanceof 119, 3) := dk_193 0 119 (dk_at dksX0_same_2 0 rfl rfl)
theorem dX0_same_48 : decode cX0_same 48 = .ok (.ifCond .eq 24, 3) := dk_153 0 24 (dk_at dksX0_same_2 3 rfl rfl)
theorem dX0_same_51 : decode cX0_same 51 = .ok (.aload_n 3, 1) := dk_45 (dk_at dksX0_same_2 6 rfl rfl)
theorem dX0_same_52 : decode cX0_same 52 = .ok (.checkcast 119, 3) := dk_192 0 119 (dk_at dksX0_same_2 7 rfl rfl)
theorem dX0_same_55 : decode cX0_same 55 = .ok (.astore 6, 2) := dk_58 6 (dk_at dksX0_same_2 10 rfl rfl)
theorem dX0_same_57 : decode cX0_same 57 = .ok (.aload 6, 2) := dk_25 6 (dk_at dksX0_same_2 12 rfl rfl)
theorem dX0_same_59 : decode cX0_same 59 = .ok (.aload 4, 2) := dk_25 4 (dk_at dksX0_same_2 14 rfl rfl)
theorem dX0_same_61 : decode cX0_same 61 = .ok (.checkcast 119, 3) := dk_192 0 119 (dk_at dksX0_same_2 16 rfl rfl)
theorem dX0_same_64 : decode cX0_same 64 = .ok (.invokevirtual 565, 3) := dk_182 2 53 (dk_at dksX0_same_2 19 rfl rfl)
theorem dX0_same_67 : decode cX0_same 67 = .ok (.istore 5, 2) := dk_54 5 (dk_at dksX0_same_2 22 rfl rfl)
theorem dX0_same_69 : decode cX0_same 69 = .ok (.goto 62, 3) := dk_167 0 62 (dk_at dksX0_same_3 0 rfl rfl)
theorem dX0_same_72 : decode cX0_same 72 = .ok (.aload_n 3, 1) := dk_45 (dk_at dksX0_same_3 3 rfl rfl)
theorem dX0_same_73 : decode cX0_same 73 = .ok (.instanceof 154, 3) := dk_193 0 154 (dk_at dksX0_same_3 4 rfl rfl)
theorem dX0_same_76 : decode cX0_same 76 = .ok (.ifCond .eq 55, 3) := dk_153 0 55 (dk_at dksX0_same_3 7 rfl rfl)
theorem dX0_same_79 : decode cX0_same 79 = .ok (.aload_n 3, 1) := dk_45 (dk_at dksX0_same_3 10 rfl rfl)
theorem dX0_same_80 : decode cX0_same 80 = .ok (.checkcast 154, 3) := dk_192 0 154 (dk_at dksX0_same_3 11 rfl rfl)
theorem dX0_same_83 : decode cX0_same 83 = .ok (.astore 7, 2) := dk_58 7 (dk_at dksX0_same_3 14 rfl rfl)
theorem dX0_same_85 : decode cX0_same 85 = .ok (.aload 7, 2) := dk_25 7 (dk_at dksX0_same_3 16 rfl rfl)
theorem dX0_same_87 : decode cX0_same 87 = .ok (.getfield 518, 3) := dk_180 2 6 (dk_at dksX0_same_3 18 rfl rfl)
theorem dX0_same_90 : decode cX0_same 90 = .ok (.aload 4, 2) := dk_25 4 (dk_at dksX0_same_3 21 rfl rfl)
theorem dX0_same_92 : decode cX0_same 92 = .ok (.checkcast 154, 3) := dk_192 0 154 (dk_at dksX0_same_4 0 rfl rfl)
theorem dX0_same_95 : decode cX0_same 95 = .ok (.getfield 518, 3) := dk_180 2 6 (dk_at dksX0_same_4 3 rfl rfl)
theorem dX0_same_98 : decode cX0_same 98 = .ok (.if_icmp .ne 30, 3) := dk_160 0 30 (dk_at dksX0_same_4 6 rfl rfl)
theorem dX0_same_101 : decode cX0_same 101 = .ok (.aload_n 0, 1) := dk_42 (dk_at dksX0_same_4 9 rfl rfl)
theorem dX0_same_102 : decode cX0_same 102 = .ok (.getfield 29, 3) := dk_180 0 29 (dk_at dksX0_same_4 10 rfl rfl)
theorem dX0_same_105 : decode cX0_same 105 = .ok (.aload 7, 2) := dk_25 7 (dk_at dksX0_same_4 13 rfl rfl)
theorem dX0_same_107 : decode cX0_same 107 = .ok (.getfield 524, 3) := dk_180 2 12 (dk_at dksX0_same_4 15 rfl rfl)
theorem dX0_same_110 : decode cX0_same 110 = .ok (.aload 4, 2) := dk_25 4 (dk_at dksX0_same_4 18 rfl rfl)
theorem dX0_same_112 : decode cX0_same 112 = .ok (.checkcast 154, 3) := dk_192 0 154 (dk_at dksX0_same_4 20 rfl rfl)
theorem dX0_same_115 : decode cX0_same 115 = .ok (.getfield 524, 3) := dk_180 2 12 (dk_at dksX0_same_5 0 rfl rfl)
theorem dX0_same_118 : decode cX0_same 118 = .ok (.invokevirtual 569, 3) := dk_182 2 57 (dk_at dksX0_same_5 3 rfl rfl)
theorem dX0_same_121 : decode cX0_same 121 = .ok (.ifCond .ne 7, 3) := dk_154 0 7 (dk_at dksX0_same_5 6 rfl rfl)
theorem dX0_same_124 : decode cX0_same 124 = .ok (.iconst 1, 1) := dk_4 (dk_at dksX0_same_5 9 rfl rfl)
theorem dX0_same_125 : decode cX0_same 125 = .ok (.goto 4, 3) := dk_167 0 4 (dk_at dksX0_same_5 10 rfl rfl)
theorem dX0_same_128 : decode cX0_same 128 = .ok (.iconst 0, 1) := dk_3 (dk_at dksX0_same_5 13 rfl rfl)
theorem dX0_same_129 : decode cX0_same 129 = .ok (.istore 5, 2) := dk_54 5 (dk_at dksX0_same_5 14 rfl rfl)
theorem dX0_same_131 : decode cX0_same 131 = .ok (.iload 5, 2) := dk_21 5 (dk_at dksX0_same_5 16 rfl rfl)
theorem dX0_same_133 : decode cX0_same 133 = .ok (.ifCond .eq 7, 3) := dk_153 0 7 (dk_at dksX0_same_5 18 rfl rfl)
theorem dX0_same_136 : decode cX0_same 136 = .ok (.iconst 1, 1) := dk_4 (dk_at dksX0_same_5 21 rfl rfl)
theorem dX0_same_137 : decode cX0_same 137 = .ok (.goto 4, 3) := dk_167 0 4 (dk_at dksX0_same_6 0 rfl rfl)
theorem dX0_same_140 : decode cX0_same 140 = .ok (.iconst 0, 1) := dk_3 (dk_at dksX0_same_6 3 rfl rfl)
theorem dX0_same_141 : decode cX0_same 141 = .ok (.ireturn, 1) := dk_172 (dk_at dksX0_same_6 4 rfl rfl)
theorem dX0_same_142 : decode cX0_same 142 = .ok (.astore_n 3, 1) := dk_78 (dk_at dksX0_same_6 5 rfl rfl)
theorem dX0_same_143 : decode cX0_same 143 = .ok (.aload_n 0, 1) := dk_42 (dk_at dksX0_same_6 6 rfl rfl)
theorem dX0_same_144 : decode cX0_same 144 = .ok (.aload_n 3, 1) := dk_45 (dk_at dksX0_same_6 7 rfl rfl)
theorem dX0_same_145 : decode cX0_same 145 = .ok (.invokevirtual 233, 3) := dk_182 0 233 (dk_at dksX0_same_6 8 rfl rfl)
theorem dX0_same_148 : decode cX0_same 148 = .ok (.ireturn, 1) := dk_172 (dk_at dksX0_same_6 11 rfl rfl)
abbrev cX0_kind : ByteArray := prog_1_method_62_code
def yX0_kind : MethodName := ⟨RX0, "kind", "(I)I"⟩
def dkwX0_kind_0 : List UInt8 := [42, 42, 27, 182, 0, 210, 182, 0, 200, 172, 77, 42, 44, 182, 0, 233, 172]
abbrev dktX0_kind_0 : List UInt8 := dkwX0_kind_0 ++ []
theorem dksX0_kind_0 : cX0_kind.data.toList.drop 0 = dktX0_kind_0 := by decide +kernel
theorem dX0_kind_0 : decode cX0_kind 0 = .ok (.aload_n 0, 1) := dk_42 (dk_at dksX0_kind_0 0 rfl rfl)
theorem dX0_kind_1 : decode cX0_kind 1 = .ok (.aload_n 0, 1) := dk_42 (dk_at dksX0_kind_0 1 rfl rfl)
theorem dX0_kind_2 : decode cX0_kind 2 = .ok (.iload_n 1, 1) := dk_27 (dk_at dksX0_kind_0 2 rfl rfl)
theorem dX0_kind_3 : decode cX0_kind 3 = .ok (.invokevirtual 210, 3) := dk_182 0 210 (dk_at dksX0_kind_0 3 rfl rfl)
theorem dX0_kind_6 : decode cX0_kind 6 = .ok (.invokevirtual 200, 3) := dk_182 0 200 (dk_at dksX0_kind_0 6 rfl rfl)
theorem dX0_kind_9 : decode cX0_kind 9 = .ok (.ireturn, 1) := dk_172 (dk_at dksX0_kind_0 9 rfl rfl)
theorem dX0_kind_10 : decode cX0_kind 10 = .ok (.astore_n 2, 1) := dk_77 (dk_at dksX0_kind_0 10 rfl rfl)
theorem dX0_kind_11 : decode cX0_kind 11 = .ok (.aload_n 0, 1) := dk_42 (dk_at dksX0_kind_0 11 rfl rfl)
theorem dX0_kind_12 : decode cX0_kind 12 = .ok (.aload_n 2, 1) := dk_44 (dk_at dksX0_kind_0 12 rfl rfl)
theorem dX0_kind_13 : decode cX0_kind 13 = .ok (.invokevirtual 233, 3) := dk_182 0 233 (dk_at dksX0_kind_0 13 rfl rfl)
theorem dX0_kind_16 : decode cX0_kind 16 = .ok (.ireturn, 1) := dk_172 (dk_at dksX0_kind_0 16 rfl rfl)
abbrev cX0_put : ByteArray := prog_1_method_63_code
def yX0_put : MethodName := ⟨RX0, "put", "(II)I"⟩
def dkwX0_put_4 : List UInt8 := [185, 0, 204, 1, 0, 172, 78, 42, 45, 182, 0, 233, 172]
abbrev dktX0_put_4 : List UInt8 := dkwX0_put_4 ++ []
def dkwX0_put_3 : List UInt8 := [165, 0, 21, 42, 25, 4, 25, 6, 182, 2, 31, 87, 167, 0, 9, 25, 4, 45, 181, 0, 194, 45]
abbrev dktX0_put_3 : List UInt8 := dkwX0_put_3 ++ dktX0_put_4
def dkwX0_put_2 : List UInt8 := [167, 0, 44, 45, 193, 0, 154, 153, 0, 31, 45, 192, 0, 154, 58, 6, 25, 4, 180, 0, 194, 25, 6]
abbrev dktX0_put_2 : List UInt8 := dkwX0_put_2 ++ dktX0_put_3
def dkwX0_put_1 : List UInt8 := [58, 5, 25, 4, 180, 0, 194, 25, 5, 165, 0, 58, 42, 25, 4, 182, 0, 218, 25, 5, 182, 0, 222]
abbrev dktX0_put_1 : List UInt8 := dkwX0_put_1 ++ dktX0_put_2
def dkwX0_put_0 : List UInt8 := [42, 27, 182, 0, 210, 78, 42, 28, 182, 0, 190, 58, 4, 45, 193, 0, 119, 153, 0, 33, 45, 192, 0, 119]
abbrev dktX0_put_0 : List UInt8 := dkwX0_put_0 ++ dktX0_put_1
theorem dksX0_put_0 : cX0_put.data.toList.drop 0 = dktX0_put_0 := by decide +kernel
theorem dksX0_put_1 : cX0_put.data.toList.drop 24 = dktX0_put_1 := dk_seg dksX0_put_0 24 rfl rfl
theorem dksX0_put_2 : cX0_put.data.toList.drop 47 = dktX0_put_2 := dk_seg dksX0_put_1 23 rfl rfl
theorem dksX0_put_3 : cX0_put.data.toList.drop 70 = dktX0_put_3 := dk_seg dksX0_put_2 23 rfl rfl
theorem dksX0_put_4 : cX0_put.data.toList.drop 92 = dktX0_put_4 := dk_seg dksX0_put_3 22 rfl rfl
theorem dX0_put_0 : decode cX0_put 0 = .ok (.aload_n 0, 1) := dk_42 (dk_at dksX0_put_0 0 rfl rfl)
theorem dX0_put_1 : decode cX0_put 1 = .ok (.iload_n 1, 1) := dk_27 (dk_at dksX0_put_0 1 rfl rfl)
theorem dX0_put_2 : decode cX0_put 2 = .ok (.invokevirtual 210, 3) := dk_182 0 210 (dk_at dksX0_put_0 2 rfl rfl)
theorem dX0_put_5 : decode cX0_put 5 = .ok (.astore_n 3, 1) := dk_78 (dk_at dksX0_put_0 5 rfl rfl)
theorem dX0_put_6 : decode cX0_put 6 = .ok (.aload_n 0, 1) := dk_42 (dk_at dksX0_put_0 6 rfl rfl)
theorem dX0_put_7 : decode cX0_put 7 = .ok (.iload_n 2, 1) := dk_28 (dk_at dksX0_put_0 7 rfl rfl)
theorem dX0_put_8 : decode cX0_put 8 = .ok (.invokevirtual 190, 3) := dk_182 0 190 (dk_at dksX0_put_0 8 rfl rfl)
theorem dX0_put_11 : decode cX0_put 11 = .ok (.astore 4, 2) := dk_58 4 (dk_at dksX0_put_0 11 rfl rfl)
theorem dX0_put_13 : decode cX0_put 13 = .ok (.aload_n 3, 1) := dk_45 (dk_at dksX0_put_0 13 rfl rfl)
theorem dX0_put_14 : decode cX0_put 14 = .ok (.instanceof 119, 3) := dk_193 0 119 (dk_at dksX0_put_0 14 rfl rfl)
theorem dX0_put_17 : decode cX0_put 17 = .ok (.ifCond .eq 33, 3) := dk_153 0 33 (dk_at dksX0_put_0 17 rfl rfl)
theorem dX0_put_20 : decode cX0_put 20 = .ok (.aload_n 3, 1) := dk_45 (dk_at dksX0_put_0 20 rfl rfl)
theorem dX0_put_21 : decode cX0_put 21 = .ok (.checkcast 119, 3) := dk_192 0 119 (dk_at dksX0_put_0 21 rfl rfl)
theorem dX0_put_24 : decode cX0_put 24 = .ok (.astore 5, 2) := dk_58 5 (dk_at dksX0_put_1 0 rfl rfl)
theorem dX0_put_26 : decode cX0_put 26 = .ok (.aload 4, 2) := dk_25 4 (dk_at dksX0_put_1 2 rfl rfl)
theorem dX0_put_28 : decode cX0_put 28 = .ok (.getfield 194, 3) := dk_180 0 194 (dk_at dksX0_put_1 4 rfl rfl)
theorem dX0_put_31 : decode cX0_put 31 = .ok (.aload 5, 2) := dk_25 5 (dk_at dksX0_put_1 7 rfl rfl)
theorem dX0_put_33 : decode cX0_put 33 = .ok (.if_acmp .eq 58, 3) := dk_165 0 58 (dk_at dksX0_put_1 9 rfl rfl)
theorem dX0_put_36 : decode cX0_put 36 = .ok (.aload_n 0, 1) := dk_42 (dk_at dksX0_put_1 12 rfl rfl)
theorem dX0_put_37 : decode cX0_put 37 = .ok (.aload 4, 2) := dk_25 4 (dk_at dksX0_put_1 13 rfl rfl)
theorem dX0_put_39 : decode cX0_put 39 = .ok (.invokevirtual 218, 3) := dk_182 0 218 (dk_at dksX0_put_1 15 rfl rfl)
theorem dX0_put_42 : decode cX0_put 42 = .ok (.aload 5, 2) := dk_25 5 (dk_at dksX0_put_1 18 rfl rfl)
theorem dX0_put_44 : decode cX0_put 44 = .ok (.invokevirtual 222, 3) := dk_182 0 222 (dk_at dksX0_put_1 20 rfl rfl)
theorem dX0_put_47 : decode cX0_put 47 = .ok (.goto 44, 3) := dk_167 0 44 (dk_at dksX0_put_2 0 rfl rfl)
theorem dX0_put_50 : decode cX0_put 50 = .ok (.aload_n 3, 1) := dk_45 (dk_at dksX0_put_2 3 rfl rfl)
theorem dX0_put_51 : decode cX0_put 51 = .ok (.instanceof 154, 3) := dk_193 0 154 (dk_at dksX0_put_2 4 rfl rfl)
theorem dX0_put_54 : decode cX0_put 54 = .ok (.ifCond .eq 31, 3) := dk_153 0 31 (dk_at dksX0_put_2 7 rfl rfl)
theorem dX0_put_57 : decode cX0_put 57 = .ok (.aload_n 3, 1) := dk_45 (dk_at dksX0_put_2 10 rfl rfl)
theorem dX0_put_58 : decode cX0_put 58 = .ok (.checkcast 154, 3) := dk_192 0 154 (dk_at dksX0_put_2 11 rfl rfl)
theorem dX0_put_61 : decode cX0_put 61 = .ok (.astore 6, 2) := dk_58 6 (dk_at dksX0_put_2 14 rfl rfl)
theorem dX0_put_63 : decode cX0_put 63 = .ok (.aload 4, 2) := dk_25 4 (dk_at dksX0_put_2 16 rfl rfl)
theorem dX0_put_65 : decode cX0_put 65 = .ok (.getfield 194, 3) := dk_180 0 194 (dk_at dksX0_put_2 18 rfl rfl)
theorem dX0_put_68 : decode cX0_put 68 = .ok (.aload 6, 2) := dk_25 6 (dk_at dksX0_put_2 21 rfl rfl)
theorem dX0_put_70 : decode cX0_put 70 = .ok (.if_acmp .eq 21, 3) := dk_165 0 21 (dk_at dksX0_put_3 0 rfl rfl)
theorem dX0_put_73 : decode cX0_put 73 = .ok (.aload_n 0, 1) := dk_42 (dk_at dksX0_put_3 3 rfl rfl)
theorem dX0_put_74 : decode cX0_put 74 = .ok (.aload 4, 2) := dk_25 4 (dk_at dksX0_put_3 4 rfl rfl)
theorem dX0_put_76 : decode cX0_put 76 = .ok (.aload 6, 2) := dk_25 6 (dk_at dksX0_put_3 6 rfl rfl)
theorem dX0_put_78 : decode cX0_put 78 = .ok (.invokevirtual 543, 3) := dk_182 2 31 (dk_at dksX0_put_3 8 rfl rfl)
theorem dX0_put_81 : decode cX0_put 81 = .ok (.pop, 1) := dk_87 (dk_at dksX0_put_3 11 rfl rfl)
theorem dX0_put_82 : decode cX0_put 82 = .ok (.goto 9, 3) := dk_167 0 9 (dk_at dksX0_put_3 12 rfl rfl)
theorem dX0_put_85 : decode cX0_put 85 = .ok (.aload 4, 2) := dk_25 4 (dk_at dksX0_put_3 15 rfl rfl)
theorem dX0_put_87 : decode cX0_put 87 = .ok (.aload_n 3, 1) := dk_45 (dk_at dksX0_put_3 17 rfl rfl)
theorem dX0_put_88 : decode cX0_put 88 = .ok (.putfield 194, 3) := dk_181 0 194 (dk_at dksX0_put_3 18 rfl rfl)
theorem dX0_put_91 : decode cX0_put 91 = .ok (.aload_n 3, 1) := dk_45 (dk_at dksX0_put_3 21 rfl rfl)
theorem dX0_put_92 : decode cX0_put 92 = .ok (.invokeinterface 204 1, 5) := by decide +kernel
theorem dX0_put_97 : decode cX0_put 97 = .ok (.ireturn, 1) := dk_172 (dk_at dksX0_put_4 5 rfl rfl)
theorem dX0_put_98 : decode cX0_put 98 = .ok (.astore_n 3, 1) := dk_78 (dk_at dksX0_put_4 6 rfl rfl)
theorem dX0_put_99 : decode cX0_put 99 = .ok (.aload_n 0, 1) := dk_42 (dk_at dksX0_put_4 7 rfl rfl)
theorem dX0_put_100 : decode cX0_put 100 = .ok (.aload_n 3, 1) := dk_45 (dk_at dksX0_put_4 8 rfl rfl)
theorem dX0_put_101 : decode cX0_put 101 = .ok (.invokevirtual 233, 3) := dk_182 0 233 (dk_at dksX0_put_4 9 rfl rfl)
theorem dX0_put_104 : decode cX0_put 104 = .ok (.ireturn, 1) := dk_172 (dk_at dksX0_put_4 12 rfl rfl)
abbrev cX0_gone : ByteArray := prog_1_method_64_code
def yX0_gone : MethodName := ⟨RX0, "gone", "(I)I"⟩
def dkwX0_gone_0 : List UInt8 := [42, 27, 182, 0, 190, 1, 181, 0, 194, 3, 172, 77, 42, 44, 182, 0, 233, 172]
abbrev dktX0_gone_0 : List UInt8 := dkwX0_gone_0 ++ []
theorem dksX0_gone_0 : cX0_gone.data.toList.drop 0 = dktX0_gone_0 := by decide +kernel
theorem dX0_gone_0 : decode cX0_gone 0 = .ok (.aload_n 0, 1) := dk_42 (dk_at dksX0_gone_0 0 rfl rfl)
theorem dX0_gone_1 : decode cX0_gone 1 = .ok (.iload_n 1, 1) := dk_27 (dk_at dksX0_gone_0 1 rfl rfl)
theorem dX0_gone_2 : decode cX0_gone 2 = .ok (.invokevirtual 190, 3) := dk_182 0 190 (dk_at dksX0_gone_0 2 rfl rfl)
theorem dX0_gone_5 : decode cX0_gone 5 = .ok (.aconst_null, 1) := dk_1 (dk_at dksX0_gone_0 5 rfl rfl)
theorem dX0_gone_6 : decode cX0_gone 6 = .ok (.putfield 194, 3) := dk_181 0 194 (dk_at dksX0_gone_0 6 rfl rfl)
theorem dX0_gone_9 : decode cX0_gone 9 = .ok (.iconst 0, 1) := dk_3 (dk_at dksX0_gone_0 9 rfl rfl)
theorem dX0_gone_10 : decode cX0_gone 10 = .ok (.ireturn, 1) := dk_172 (dk_at dksX0_gone_0 10 rfl rfl)
theorem dX0_gone_11 : decode cX0_gone 11 = .ok (.astore_n 2, 1) := dk_77 (dk_at dksX0_gone_0 11 rfl rfl)
theorem dX0_gone_12 : decode cX0_gone 12 = .ok (.aload_n 0, 1) := dk_42 (dk_at dksX0_gone_0 12 rfl rfl)
theorem dX0_gone_13 : decode cX0_gone 13 = .ok (.aload_n 2, 1) := dk_44 (dk_at dksX0_gone_0 13 rfl rfl)
theorem dX0_gone_14 : decode cX0_gone 14 = .ok (.invokevirtual 233, 3) := dk_182 0 233 (dk_at dksX0_gone_0 14 rfl rfl)
theorem dX0_gone_17 : decode cX0_gone 17 = .ok (.ireturn, 1) := dk_172 (dk_at dksX0_gone_0 17 rfl rfl)
abbrev cX0_keep : ByteArray := prog_1_method_65_code
def yX0_keep : MethodName := ⟨RX0, "keep", "(I)I"⟩
def dkwX0_keep_2 : List UInt8 := [172]
abbrev dktX0_keep_2 : List UInt8 := dkwX0_keep_2 ++ []
def dkwX0_keep_1 : List UInt8 := [44, 42, 42, 180, 0, 185, 182, 0, 178, 181, 0, 194, 42, 180, 0, 185, 116, 172, 77, 42, 44, 182, 0, 233]
abbrev dktX0_keep_1 : List UInt8 := dkwX0_keep_1 ++ dktX0_keep_2
def dkwX0_keep_0 : List UInt8 := [42, 27, 182, 0, 190, 77, 42, 42, 180, 0, 185, 153, 0, 7, 4, 167, 0, 4, 3, 16, 249, 182, 0, 229]
abbrev dktX0_keep_0 : List UInt8 := dkwX0_keep_0 ++ dktX0_keep_1
theorem dksX0_keep_0 : cX0_keep.data.toList.drop 0 = dktX0_keep_0 := by decide +kernel
theorem dksX0_keep_1 : cX0_keep.data.toList.drop 24 = dktX0_keep_1 := dk_seg dksX0_keep_0 24 rfl rfl
theorem dksX0_keep_2 : cX0_keep.data.toList.drop 48 = dktX0_keep_2 := dk_seg dksX0_keep_1 24 rfl rfl
theorem dX0_keep_0 : decode cX0_keep 0 = .ok (.aload_n 0, 1) := dk_42 (dk_at dksX0_keep_0 0 rfl rfl)
theorem dX0_keep_1 : decode cX0_keep 1 = .ok (.iload_n 1, 1) := dk_27 (dk_at dksX0_keep_0 1 rfl rfl)
theorem dX0_keep_2 : decode cX0_keep 2 = .ok (.invokevirtual 190, 3) := dk_182 0 190 (dk_at dksX0_keep_0 2 rfl rfl)
theorem dX0_keep_5 : decode cX0_keep 5 = .ok (.astore_n 2, 1) := dk_77 (dk_at dksX0_keep_0 5 rfl rfl)
theorem dX0_keep_6 : decode cX0_keep 6 = .ok (.aload_n 0, 1) := dk_42 (dk_at dksX0_keep_0 6 rfl rfl)
theorem dX0_keep_7 : decode cX0_keep 7 = .ok (.aload_n 0, 1) := dk_42 (dk_at dksX0_keep_0 7 rfl rfl)
theorem dX0_keep_8 : decode cX0_keep 8 = .ok (.getfield 185, 3) := dk_180 0 185 (dk_at dksX0_keep_0 8 rfl rfl)
theorem dX0_keep_11 : decode cX0_keep 11 = .ok (.ifCond .eq 7, 3) := dk_153 0 7 (dk_at dksX0_keep_0 11 rfl rfl)
theorem dX0_keep_14 : decode cX0_keep 14 = .ok (.iconst 1, 1) := dk_4 (dk_at dksX0_keep_0 14 rfl rfl)
theorem dX0_keep_15 : decode cX0_keep 15 = .ok (.goto 4, 3) := dk_167 0 4 (dk_at dksX0_keep_0 15 rfl rfl)
theorem dX0_keep_18 : decode cX0_keep 18 = .ok (.iconst 0, 1) := dk_3 (dk_at dksX0_keep_0 18 rfl rfl)
theorem dX0_keep_19 : decode cX0_keep 19 = .ok (.bipush (-7), 2) := dk_16 249 (dk_at dksX0_keep_0 19 rfl rfl)
theorem dX0_keep_21 : decode cX0_keep 21 = .ok (.invokevirtual 229, 3) := dk_182 0 229 (dk_at dksX0_keep_0 21 rfl rfl)
theorem dX0_keep_24 : decode cX0_keep 24 = .ok (.aload_n 2, 1) := dk_44 (dk_at dksX0_keep_1 0 rfl rfl)
theorem dX0_keep_25 : decode cX0_keep 25 = .ok (.aload_n 0, 1) := dk_42 (dk_at dksX0_keep_1 1 rfl rfl)
theorem dX0_keep_26 : decode cX0_keep 26 = .ok (.aload_n 0, 1) := dk_42 (dk_at dksX0_keep_1 2 rfl rfl)
theorem dX0_keep_27 : decode cX0_keep 27 = .ok (.getfield 185, 3) := dk_180 0 185 (dk_at dksX0_keep_1 3 rfl rfl)
theorem dX0_keep_30 : decode cX0_keep 30 = .ok (.invokevirtual 178, 3) := dk_182 0 178 (dk_at dksX0_keep_1 6 rfl rfl)
theorem dX0_keep_33 : decode cX0_keep 33 = .ok (.putfield 194, 3) := dk_181 0 194 (dk_at dksX0_keep_1 9 rfl rfl)
theorem dX0_keep_36 : decode cX0_keep 36 = .ok (.aload_n 0, 1) := dk_42 (dk_at dksX0_keep_1 12 rfl rfl)
theorem dX0_keep_37 : decode cX0_keep 37 = .ok (.getfield 185, 3) := dk_180 0 185 (dk_at dksX0_keep_1 13 rfl rfl)
theorem dX0_keep_40 : decode cX0_keep 40 = .ok (.ineg, 1) := dk_116 (dk_at dksX0_keep_1 16 rfl rfl)
theorem dX0_keep_41 : decode cX0_keep 41 = .ok (.ireturn, 1) := dk_172 (dk_at dksX0_keep_1 17 rfl rfl)
theorem dX0_keep_42 : decode cX0_keep 42 = .ok (.astore_n 2, 1) := dk_77 (dk_at dksX0_keep_1 18 rfl rfl)
theorem dX0_keep_43 : decode cX0_keep 43 = .ok (.aload_n 0, 1) := dk_42 (dk_at dksX0_keep_1 19 rfl rfl)
theorem dX0_keep_44 : decode cX0_keep 44 = .ok (.aload_n 2, 1) := dk_44 (dk_at dksX0_keep_1 20 rfl rfl)
theorem dX0_keep_45 : decode cX0_keep 45 = .ok (.invokevirtual 233, 3) := dk_182 0 233 (dk_at dksX0_keep_1 21 rfl rfl)
theorem dX0_keep_48 : decode cX0_keep 48 = .ok (.ireturn, 1) := dk_172 (dk_at dksX0_keep_2 0 rfl rfl)
abbrev cX0_raise : ByteArray := prog_1_method_67_code
def yX0_raise : MethodName := ⟨RX0, "raise", "(I)I"⟩
def dkwX0_raise_0 : List UInt8 := [42, 27, 182, 0, 190, 180, 0, 194, 77, 42, 44, 182, 2, 61, 172, 77, 42, 44, 182, 0, 233, 172]
abbrev dktX0_raise_0 : List UInt8 := dkwX0_raise_0 ++ []
theorem dksX0_raise_0 : cX0_raise.data.toList.drop 0 = dktX0_raise_0 := by decide +kernel
theorem dX0_raise_0 : decode cX0_raise 0 = .ok (.aload_n 0, 1) := dk_42 (dk_at dksX0_raise_0 0 rfl rfl)
theorem dX0_raise_1 : decode cX0_raise 1 = .ok (.iload_n 1, 1) := dk_27 (dk_at dksX0_raise_0 1 rfl rfl)
theorem dX0_raise_2 : decode cX0_raise 2 = .ok (.invokevirtual 190, 3) := dk_182 0 190 (dk_at dksX0_raise_0 2 rfl rfl)
theorem dX0_raise_5 : decode cX0_raise 5 = .ok (.getfield 194, 3) := dk_180 0 194 (dk_at dksX0_raise_0 5 rfl rfl)
theorem dX0_raise_8 : decode cX0_raise 8 = .ok (.astore_n 2, 1) := dk_77 (dk_at dksX0_raise_0 8 rfl rfl)
theorem dX0_raise_9 : decode cX0_raise 9 = .ok (.aload_n 0, 1) := dk_42 (dk_at dksX0_raise_0 9 rfl rfl)
theorem dX0_raise_10 : decode cX0_raise 10 = .ok (.aload_n 2, 1) := dk_44 (dk_at dksX0_raise_0 10 rfl rfl)
theorem dX0_raise_11 : decode cX0_raise 11 = .ok (.invokevirtual 573, 3) := dk_182 2 61 (dk_at dksX0_raise_0 11 rfl rfl)
theorem dX0_raise_14 : decode cX0_raise 14 = .ok (.ireturn, 1) := dk_172 (dk_at dksX0_raise_0 14 rfl rfl)
theorem dX0_raise_15 : decode cX0_raise 15 = .ok (.astore_n 2, 1) := dk_77 (dk_at dksX0_raise_0 15 rfl rfl)
theorem dX0_raise_16 : decode cX0_raise 16 = .ok (.aload_n 0, 1) := dk_42 (dk_at dksX0_raise_0 16 rfl rfl)
theorem dX0_raise_17 : decode cX0_raise 17 = .ok (.aload_n 2, 1) := dk_44 (dk_at dksX0_raise_0 17 rfl rfl)
theorem dX0_raise_18 : decode cX0_raise 18 = .ok (.invokevirtual 233, 3) := dk_182 0 233 (dk_at dksX0_raise_0 18 rfl rfl)
theorem dX0_raise_21 : decode cX0_raise 21 = .ok (.ireturn, 1) := dk_172 (dk_at dksX0_raise_0 21 rfl rfl)
abbrev cX0_raised : ByteArray := prog_1_method_68_code
def yX0_raised : MethodName := ⟨RX0, "raised", "(Ljava/lang/Object;)I"⟩
def dkwX0_raised_1 : List UInt8 := [3, 62, 42, 44, 182, 2, 65, 172, 58, 4, 29, 154, 0, 6, 25, 4, 191, 25, 4, 180, 0, 182, 116, 172]
abbrev dktX0_raised_1 : List UInt8 := dkwX0_raised_1 ++ []
def dkwX0_raised_0 : List UInt8 := [43, 192, 0, 7, 77, 167, 0, 11, 78, 42, 16, 253, 182, 0, 178, 191, 44, 198, 0, 7, 4, 167, 0, 4]
abbrev dktX0_raised_0 : List UInt8 := dkwX0_raised_0 ++ dktX0_raised_1
theorem dksX0_raised_0 : cX0_raised.data.toList.drop 0 = dktX0_raised_0 := by decide +kernel
theorem dksX0_raised_1 : cX0_raised.data.toList.drop 24 = dktX0_raised_1 := dk_seg dksX0_raised_0 24 rfl rfl
theorem dX0_raised_0 : decode cX0_raised 0 = .ok (.aload_n 1, 1) := dk_43 (dk_at dksX0_raised_0 0 rfl rfl)
theorem dX0_raised_1 : decode cX0_raised 1 = .ok (.checkcast 7, 3) := dk_192 0 7 (dk_at dksX0_raised_0 1 rfl rfl)
theorem dX0_raised_4 : decode cX0_raised 4 = .ok (.astore_n 2, 1) := dk_77 (dk_at dksX0_raised_0 4 rfl rfl)
theorem dX0_raised_5 : decode cX0_raised 5 = .ok (.goto 11, 3) := dk_167 0 11 (dk_at dksX0_raised_0 5 rfl rfl)
theorem dX0_raised_8 : decode cX0_raised 8 = .ok (.astore_n 3, 1) := dk_78 (dk_at dksX0_raised_0 8 rfl rfl)
theorem dX0_raised_9 : decode cX0_raised 9 = .ok (.aload_n 0, 1) := dk_42 (dk_at dksX0_raised_0 9 rfl rfl)
theorem dX0_raised_10 : decode cX0_raised 10 = .ok (.bipush (-3), 2) := dk_16 253 (dk_at dksX0_raised_0 10 rfl rfl)
theorem dX0_raised_12 : decode cX0_raised 12 = .ok (.invokevirtual 178, 3) := dk_182 0 178 (dk_at dksX0_raised_0 12 rfl rfl)
theorem dX0_raised_15 : decode cX0_raised 15 = .ok (.athrow, 1) := dk_191 (dk_at dksX0_raised_0 15 rfl rfl)
theorem dX0_raised_16 : decode cX0_raised 16 = .ok (.aload_n 2, 1) := dk_44 (dk_at dksX0_raised_0 16 rfl rfl)
theorem dX0_raised_17 : decode cX0_raised 17 = .ok (.ifnull 7, 3) := dk_198 0 7 (dk_at dksX0_raised_0 17 rfl rfl)
theorem dX0_raised_20 : decode cX0_raised 20 = .ok (.iconst 1, 1) := dk_4 (dk_at dksX0_raised_0 20 rfl rfl)
theorem dX0_raised_21 : decode cX0_raised 21 = .ok (.goto 4, 3) := dk_167 0 4 (dk_at dksX0_raised_0 21 rfl rfl)
theorem dX0_raised_24 : decode cX0_raised 24 = .ok (.iconst 0, 1) := dk_3 (dk_at dksX0_raised_1 0 rfl rfl)
theorem dX0_raised_25 : decode cX0_raised 25 = .ok (.istore_n 3, 1) := dk_62 (dk_at dksX0_raised_1 1 rfl rfl)
theorem dX0_raised_26 : decode cX0_raised 26 = .ok (.aload_n 0, 1) := dk_42 (dk_at dksX0_raised_1 2 rfl rfl)
theorem dX0_raised_27 : decode cX0_raised 27 = .ok (.aload_n 2, 1) := dk_44 (dk_at dksX0_raised_1 3 rfl rfl)
theorem dX0_raised_28 : decode cX0_raised 28 = .ok (.invokevirtual 577, 3) := dk_182 2 65 (dk_at dksX0_raised_1 4 rfl rfl)
theorem dX0_raised_31 : decode cX0_raised 31 = .ok (.ireturn, 1) := dk_172 (dk_at dksX0_raised_1 7 rfl rfl)
theorem dX0_raised_32 : decode cX0_raised 32 = .ok (.astore 4, 2) := dk_58 4 (dk_at dksX0_raised_1 8 rfl rfl)
theorem dX0_raised_34 : decode cX0_raised 34 = .ok (.iload_n 3, 1) := dk_29 (dk_at dksX0_raised_1 10 rfl rfl)
theorem dX0_raised_35 : decode cX0_raised 35 = .ok (.ifCond .ne 6, 3) := dk_154 0 6 (dk_at dksX0_raised_1 11 rfl rfl)
theorem dX0_raised_38 : decode cX0_raised 38 = .ok (.aload 4, 2) := dk_25 4 (dk_at dksX0_raised_1 14 rfl rfl)
theorem dX0_raised_40 : decode cX0_raised 40 = .ok (.athrow, 1) := dk_191 (dk_at dksX0_raised_1 16 rfl rfl)
theorem dX0_raised_41 : decode cX0_raised 41 = .ok (.aload 4, 2) := dk_25 4 (dk_at dksX0_raised_1 17 rfl rfl)
theorem dX0_raised_43 : decode cX0_raised 43 = .ok (.getfield 182, 3) := dk_180 0 182 (dk_at dksX0_raised_1 19 rfl rfl)
theorem dX0_raised_46 : decode cX0_raised 46 = .ok (.ineg, 1) := dk_116 (dk_at dksX0_raised_1 22 rfl rfl)
theorem dX0_raised_47 : decode cX0_raised 47 = .ok (.ireturn, 1) := dk_172 (dk_at dksX0_raised_1 23 rfl rfl)
abbrev cX0_thrown : ByteArray := prog_1_method_66_code
def yX0_thrown : MethodName := ⟨RX0, "thrown", "(LIdealCourt$Failure;)I"⟩
def dkwX0_thrown_0 : List UInt8 := [43, 191, 77, 42, 16, 254, 182, 0, 178, 191]
abbrev dktX0_thrown_0 : List UInt8 := dkwX0_thrown_0 ++ []
theorem dksX0_thrown_0 : cX0_thrown.data.toList.drop 0 = dktX0_thrown_0 := by decide +kernel
theorem dX0_thrown_0 : decode cX0_thrown 0 = .ok (.aload_n 1, 1) := dk_43 (dk_at dksX0_thrown_0 0 rfl rfl)
theorem dX0_thrown_1 : decode cX0_thrown 1 = .ok (.athrow, 1) := dk_191 (dk_at dksX0_thrown_0 1 rfl rfl)
theorem dX0_thrown_2 : decode cX0_thrown 2 = .ok (.astore_n 2, 1) := dk_77 (dk_at dksX0_thrown_0 2 rfl rfl)
theorem dX0_thrown_3 : decode cX0_thrown 3 = .ok (.aload_n 0, 1) := dk_42 (dk_at dksX0_thrown_0 3 rfl rfl)
theorem dX0_thrown_4 : decode cX0_thrown 4 = .ok (.bipush (-2), 2) := dk_16 254 (dk_at dksX0_thrown_0 4 rfl rfl)
theorem dX0_thrown_6 : decode cX0_thrown 6 = .ok (.invokevirtual 178, 3) := dk_182 0 178 (dk_at dksX0_thrown_0 6 rfl rfl)
theorem dX0_thrown_9 : decode cX0_thrown 9 = .ok (.athrow, 1) := dk_191 (dk_at dksX0_thrown_0 9 rfl rfl)
abbrev cX0_found : ByteArray := prog_1_method_69_code
def yX0_found : MethodName := ⟨RX0, "found", "(I)I"⟩
def dkwX0_found_1 : List UInt8 := [180, 0, 15, 27, 116, 46, 172, 77, 42, 44, 182, 0, 233, 172]
abbrev dktX0_found_1 : List UInt8 := dkwX0_found_1 ++ []
def dkwX0_found_0 : List UInt8 := [42, 27, 16, 249, 161, 0, 12, 27, 2, 163, 0, 7, 4, 167, 0, 4, 3, 16, 249, 182, 0, 229, 42]
abbrev dktX0_found_0 : List UInt8 := dkwX0_found_0 ++ dktX0_found_1
theorem dksX0_found_0 : cX0_found.data.toList.drop 0 = dktX0_found_0 := by decide +kernel
theorem dksX0_found_1 : cX0_found.data.toList.drop 23 = dktX0_found_1 := dk_seg dksX0_found_0 23 rfl rfl
theorem dX0_found_0 : decode cX0_found 0 = .ok (.aload_n 0, 1) := dk_42 (dk_at dksX0_found_0 0 rfl rfl)
theorem dX0_found_1 : decode cX0_found 1 = .ok (.iload_n 1, 1) := dk_27 (dk_at dksX0_found_0 1 rfl rfl)
theorem dX0_found_2 : decode cX0_found 2 = .ok (.bipush (-7), 2) := dk_16 249 (dk_at dksX0_found_0 2 rfl rfl)
theorem dX0_found_4 : decode cX0_found 4 = .ok (.if_icmp .lt 12, 3) := dk_161 0 12 (dk_at dksX0_found_0 4 rfl rfl)
theorem dX0_found_7 : decode cX0_found 7 = .ok (.iload_n 1, 1) := dk_27 (dk_at dksX0_found_0 7 rfl rfl)
theorem dX0_found_8 : decode cX0_found 8 = .ok (.iconst (-1), 1) := dk_2 (dk_at dksX0_found_0 8 rfl rfl)
theorem dX0_found_9 : decode cX0_found 9 = .ok (.if_icmp .gt 7, 3) := dk_163 0 7 (dk_at dksX0_found_0 9 rfl rfl)
theorem dX0_found_12 : decode cX0_found 12 = .ok (.iconst 1, 1) := dk_4 (dk_at dksX0_found_0 12 rfl rfl)
theorem dX0_found_13 : decode cX0_found 13 = .ok (.goto 4, 3) := dk_167 0 4 (dk_at dksX0_found_0 13 rfl rfl)
theorem dX0_found_16 : decode cX0_found 16 = .ok (.iconst 0, 1) := dk_3 (dk_at dksX0_found_0 16 rfl rfl)
theorem dX0_found_17 : decode cX0_found 17 = .ok (.bipush (-7), 2) := dk_16 249 (dk_at dksX0_found_0 17 rfl rfl)
theorem dX0_found_19 : decode cX0_found 19 = .ok (.invokevirtual 229, 3) := dk_182 0 229 (dk_at dksX0_found_0 19 rfl rfl)
theorem dX0_found_22 : decode cX0_found 22 = .ok (.aload_n 0, 1) := dk_42 (dk_at dksX0_found_0 22 rfl rfl)
theorem dX0_found_23 : decode cX0_found 23 = .ok (.getfield 15, 3) := dk_180 0 15 (dk_at dksX0_found_1 0 rfl rfl)
theorem dX0_found_26 : decode cX0_found 26 = .ok (.iload_n 1, 1) := dk_27 (dk_at dksX0_found_1 3 rfl rfl)
theorem dX0_found_27 : decode cX0_found 27 = .ok (.ineg, 1) := dk_116 (dk_at dksX0_found_1 4 rfl rfl)
theorem dX0_found_28 : decode cX0_found 28 = .ok (.iaload, 1) := dk_46 (dk_at dksX0_found_1 5 rfl rfl)
theorem dX0_found_29 : decode cX0_found 29 = .ok (.ireturn, 1) := dk_172 (dk_at dksX0_found_1 6 rfl rfl)
theorem dX0_found_30 : decode cX0_found 30 = .ok (.astore_n 2, 1) := dk_77 (dk_at dksX0_found_1 7 rfl rfl)
theorem dX0_found_31 : decode cX0_found 31 = .ok (.aload_n 0, 1) := dk_42 (dk_at dksX0_found_1 8 rfl rfl)
theorem dX0_found_32 : decode cX0_found 32 = .ok (.aload_n 2, 1) := dk_44 (dk_at dksX0_found_1 9 rfl rfl)
theorem dX0_found_33 : decode cX0_found 33 = .ok (.invokevirtual 233, 3) := dk_182 0 233 (dk_at dksX0_found_1 10 rfl rfl)
theorem dX0_found_36 : decode cX0_found 36 = .ok (.ireturn, 1) := dk_172 (dk_at dksX0_found_1 13 rfl rfl)
theorem q99 : (Jvm.Cond.initialized "IdealCourt") ∈ lw_all := lw_g (lw_at lw_m1 1 rfl) rfl
theorem q136 : (Jvm.Cond.instantiable "IdealCourt" (38 : Nat)) ∈ lw_all := lw_g (lw_at lw_m1 38 rfl) rfl
theorem q138 : (Jvm.Cond.instanceMethod ({ cls := "IdealCourt", name := "<init>", desc := "()V" } : Jvm.MethodName)) ∈ lw_all := lw_g (lw_at lw_m1 40 rfl) rfl
theorem q139 : (Jvm.Cond.code ({ cls := "IdealCourt", name := "<init>", desc := "()V" } : Jvm.MethodName) prog_1_method_1_code (2 : Nat) (Option.none : Option Jvm.ClassFile.FieldType)) ∈ lw_all := lw_g (lw_at lw_m1 41 rfl) rfl
theorem q140 : (Jvm.Cond.methodLink "IdealCourt" (1 : Nat) ({ cls := "java/lang/Object", name := "<init>", desc := "()V" } : Jvm.MethodName)) ∈ lw_all := lw_g (lw_at lw_m1 42 rfl) rfl
theorem q143 : (Jvm.Cond.classLink "IdealCourt" (7 : Nat) "IdealCourt$Failure") ∈ lw_all := lw_g (lw_at lw_m1 45 rfl) rfl
theorem q145 : (Jvm.Cond.classLink "IdealCourt" (19 : Nat) "IdealCourt$Terms") ∈ lw_all := lw_g (lw_at lw_m1 47 rfl) rfl
theorem q147 : (Jvm.Cond.methodLink "IdealCourt" (21 : Nat) ({ cls := "IdealCourt$Terms", name := "<init>", desc := "()V" } : Jvm.MethodName)) ∈ lw_all := lw_g (lw_at lw_m1 49 rfl) rfl
theorem q156 : (Jvm.Cond.fieldLinkNest "IdealCourt" (365 : Nat) "IdealCourt$Terms" "letters" "[[B" "IdealCourt") ∈ lw_tbl := lw_at lw_m1 58 rfl
theorem q166 : (Jvm.Cond.classLink "IdealCourt" (26 : Nat) "IdealCourt$Reckoner") ∈ lw_all := lw_g (lw_at lw_m1 68 rfl) rfl
theorem q168 : (Jvm.Cond.methodLinkNest "IdealCourt" (28 : Nat) ({ cls := "IdealCourt$Reckoner", name := "<init>", desc := "()V" } : Jvm.MethodName) "IdealCourt") ∈ lw_tbl := lw_at lw_m1 70 rfl
theorem q183 : (Jvm.Cond.fieldLinkNest "IdealCourt" (347 : Nat) "IdealCourt$Whole" "digits" "[I" "IdealCourt") ∈ lw_tbl := lw_at lw_m1 85 rfl
theorem q189 : (Jvm.Cond.fieldLinkNest "IdealCourt" (340 : Nat) "IdealCourt$Whole" "size" "I" "IdealCourt") ∈ lw_tbl := lw_at lw_m1 91 rfl
theorem q196 : (Jvm.Cond.fieldLinkNest "IdealCourt" (275 : Nat) "IdealCourt$Whole" "sign" "I" "IdealCourt") ∈ lw_tbl := lw_at lw_m1 98 rfl
theorem q223 : (Jvm.Cond.classLink "IdealCourt" (33 : Nat) "IdealCourt$Divider") ∈ lw_all := lw_g (lw_at lw_m1 125 rfl) rfl
theorem q225 : (Jvm.Cond.methodLink "IdealCourt" (35 : Nat) ({ cls := "IdealCourt$Divider", name := "<init>", desc := "(LIdealCourt$Terms;LIdealCourt$Reckoner;)V" } : Jvm.MethodName)) ∈ lw_all := lw_g (lw_at lw_m1 127 rfl) rfl
theorem q238 : (Jvm.Cond.fieldLinkNest "IdealCourt" (226 : Nat) "IdealCourt$Poly" "many" "I" "IdealCourt") ∈ lw_tbl := lw_at lw_m1 140 rfl
theorem q262 : (Jvm.Cond.fieldLinkNest "IdealCourt" (272 : Nat) "IdealCourt$Ratio" "top" "LIdealCourt$Whole;" "IdealCourt") ∈ lw_tbl := lw_at lw_m1 164 rfl
theorem q266 : (Jvm.Cond.fieldLinkNest "IdealCourt" (358 : Nat) "IdealCourt$Ratio" "under" "LIdealCourt$Whole;" "IdealCourt") ∈ lw_tbl := lw_at lw_m1 168 rfl
theorem q282 : (Jvm.Cond.fieldLinkNest "IdealCourt" (430 : Nat) "IdealCourt$Divider" "f" "LIdealCourt$Poly;" "IdealCourt") ∈ lw_tbl := lw_at lw_m1 184 rfl
theorem q315 : (Jvm.Cond.classLink "IdealCourt" (42 : Nat) "IdealCourt$Square") ∈ lw_all := lw_g (lw_at lw_m1 217 rfl) rfl
theorem q317 : (Jvm.Cond.methodLink "IdealCourt" (44 : Nat) ({ cls := "IdealCourt$Square", name := "<init>", desc := "(LIdealCourt$Terms;LIdealCourt$Reckoner;)V" } : Jvm.MethodName)) ∈ lw_all := lw_g (lw_at lw_m1 219 rfl) rfl
theorem q340 : (Jvm.Cond.fieldLinkNest "IdealCourt" (457 : Nat) "IdealCourt$Square" "rows" "I" "IdealCourt") ∈ lw_tbl := lw_at lw_m2 2 rfl
theorem q342 : (Jvm.Cond.fieldLinkNest "IdealCourt" (460 : Nat) "IdealCourt$Square" "most" "I" "IdealCourt") ∈ lw_tbl := lw_at lw_m2 4 rfl
theorem q344 : (Jvm.Cond.fieldLinkNest "IdealCourt" (497 : Nat) "IdealCourt$Square" "told" "I" "IdealCourt") ∈ lw_tbl := lw_at lw_m2 6 rfl
theorem q346 : (Jvm.Cond.fieldLinkNest "IdealCourt" (473 : Nat) "IdealCourt$Square" "order" "LIdealCourt$Ranks;" "IdealCourt") ∈ lw_tbl := lw_at lw_m2 8 rfl
theorem q389 : (Jvm.Cond.classLink "IdealCourt" (49 : Nat) "IdealCourt$Chain") ∈ lw_all := lw_g (lw_at lw_m2 51 rfl) rfl
theorem q391 : (Jvm.Cond.methodLink "IdealCourt" (51 : Nat) ({ cls := "IdealCourt$Chain", name := "<init>", desc := "(LIdealCourt$Reckoner;)V" } : Jvm.MethodName)) ∈ lw_all := lw_g (lw_at lw_m2 53 rfl) rfl
theorem q428 : (Jvm.Cond.classLink "IdealCourt" (61 : Nat) "IdealCourt$Ratio") ∈ lw_all := lw_g (lw_at lw_m2 90 rfl) rfl
theorem q429 : (Jvm.Cond.methodLink "IdealCourt" (63 : Nat) ({ cls := "IdealCourt$Ratio", name := "<init>", desc := "(LIdealCourt$Reckoner;)V" } : Jvm.MethodName)) ∈ lw_all := lw_g (lw_at lw_m2 91 rfl) rfl
theorem q430 : (Jvm.Cond.classLink "IdealCourt" (74 : Nat) "IdealCourt$Whole") ∈ lw_all := lw_g (lw_at lw_m2 92 rfl) rfl
theorem q431 : (Jvm.Cond.methodLink "IdealCourt" (76 : Nat) ({ cls := "IdealCourt$Whole", name := "<init>", desc := "(I)V" } : Jvm.MethodName)) ∈ lw_all := lw_g (lw_at lw_m2 93 rfl) rfl
theorem q432 : (Jvm.Cond.classLink "IdealCourt" (89 : Nat) "IdealCourt$Stand") ∈ lw_all := lw_g (lw_at lw_m2 94 rfl) rfl
theorem q434 : (Jvm.Cond.classLink "IdealCourt" (95 : Nat) "IdealCourt$Lex") ∈ lw_all := lw_g (lw_at lw_m2 96 rfl) rfl
theorem q436 : (Jvm.Cond.methodLink "IdealCourt" (97 : Nat) ({ cls := "IdealCourt$Lex", name := "<init>", desc := "(LIdealCourt$Terms;)V" } : Jvm.MethodName)) ∈ lw_all := lw_g (lw_at lw_m2 98 rfl) rfl
theorem q449 : (Jvm.Cond.classLink "IdealCourt" (104 : Nat) "IdealCourt$Degree") ∈ lw_all := lw_g (lw_at lw_m2 111 rfl) rfl
theorem q451 : (Jvm.Cond.methodLink "IdealCourt" (106 : Nat) ({ cls := "IdealCourt$Degree", name := "<init>", desc := "(LIdealCourt$Terms;)V" } : Jvm.MethodName)) ∈ lw_all := lw_g (lw_at lw_m2 113 rfl) rfl
theorem q457 : (Jvm.Cond.classLink "IdealCourt" (107 : Nat) "IdealCourt$Reverse") ∈ lw_all := lw_g (lw_at lw_m2 119 rfl) rfl
theorem q459 : (Jvm.Cond.methodLink "IdealCourt" (109 : Nat) ({ cls := "IdealCourt$Reverse", name := "<init>", desc := "(LIdealCourt$Terms;)V" } : Jvm.MethodName)) ∈ lw_all := lw_g (lw_at lw_m2 121 rfl) rfl
theorem q465 : (Jvm.Cond.classLink "IdealCourt" (110 : Nat) "IdealCourt$Block") ∈ lw_all := lw_g (lw_at lw_m2 127 rfl) rfl
theorem q467 : (Jvm.Cond.methodLink "IdealCourt" (112 : Nat) ({ cls := "IdealCourt$Block", name := "<init>", desc := "(LIdealCourt$Terms;I)V" } : Jvm.MethodName)) ∈ lw_all := lw_g (lw_at lw_m2 129 rfl) rfl
theorem q476 : (Jvm.Cond.classLink "IdealCourt" (119 : Nat) "IdealCourt$Poly") ∈ lw_all := lw_g (lw_at lw_m2 138 rfl) rfl
theorem q477 : (Jvm.Cond.methodLinkNest "IdealCourt" (121 : Nat) ({ cls := "IdealCourt$Poly", name := "<init>", desc := "()V" } : Jvm.MethodName) "IdealCourt") ∈ lw_tbl := lw_at lw_m2 139 rfl
theorem q479 : (Jvm.Cond.classLink "IdealCourt" (154 : Nat) "IdealCourt$Real") ∈ lw_all := lw_g (lw_at lw_m2 141 rfl) rfl
theorem q482 : (Jvm.Cond.methodLinkNest "IdealCourt" (164 : Nat) ({ cls := "IdealCourt$Real", name := "<init>", desc := "()V" } : Jvm.MethodName) "IdealCourt") ∈ lw_tbl := lw_at lw_m2 144 rfl
theorem q489 : (Jvm.Cond.fieldLinkNest "IdealCourt" (515 : Nat) "IdealCourt$Real" "numbers" "[I" "IdealCourt") ∈ lw_tbl := lw_at lw_m2 151 rfl
theorem q491 : (Jvm.Cond.fieldLinkNest "IdealCourt" (516 : Nat) "IdealCourt$Real" "degree" "I" "IdealCourt") ∈ lw_tbl := lw_at lw_m2 153 rfl
theorem q493 : (Jvm.Cond.fieldLinkNest "IdealCourt" (518 : Nat) "IdealCourt$Real" "halved" "I" "IdealCourt") ∈ lw_tbl := lw_at lw_m2 155 rfl
theorem q495 : (Jvm.Cond.fieldLinkNest "IdealCourt" (521 : Nat) "IdealCourt$Real" "since" "I" "IdealCourt") ∈ lw_tbl := lw_at lw_m2 157 rfl
theorem q497 : (Jvm.Cond.fieldLinkNest "IdealCourt" (524 : Nat) "IdealCourt$Real" "which" "LIdealCourt$Whole;" "IdealCourt") ∈ lw_tbl := lw_at lw_m2 159 rfl
theorem q565 : (Jvm.Cond.methodLink "IdealCourt" (176 : Nat) ({ cls := "IdealCourt$Failure", name := "<init>", desc := "(I)V" } : Jvm.MethodName)) ∈ lw_all := lw_g (lw_at lw_m2 227 rfl) rfl
theorem q576 : (Jvm.Cond.fieldLinkNest "IdealCourt" (182 : Nat) "IdealCourt$Failure" "finding" "I" "IdealCourt") ∈ lw_tbl := lw_at lw_m2 238 rfl
theorem q593 : (Jvm.Cond.methodLinkNest "IdealCourt" (177 : Nat) ({ cls := "IdealCourt$Stand", name := "<init>", desc := "()V" } : Jvm.MethodName) "IdealCourt") ∈ lw_tbl := lw_at lw_m3 15 rfl
theorem q597 : (Jvm.Cond.fieldLinkNest "IdealCourt" (194 : Nat) "IdealCourt$Stand" "thing" "Ljava/lang/Object;" "IdealCourt") ∈ lw_tbl := lw_at lw_m3 19 rfl
theorem q598 : (Jvm.Cond.fieldLinkNest "IdealCourt" (215 : Nat) "IdealCourt$Stand" "poly" "LIdealCourt$Poly;" "IdealCourt") ∈ lw_tbl := lw_at lw_m3 20 rfl
theorem q599 : (Jvm.Cond.fieldLinkNest "IdealCourt" (546 : Nat) "IdealCourt$Stand" "real" "LIdealCourt$Real;" "IdealCourt") ∈ lw_tbl := lw_at lw_m3 21 rfl
theorem q607 : (Jvm.Cond.fieldLink "IdealCourt" (9 : Nat) "IdealCourt" "failures" "[LIdealCourt$Failure;") ∈ lw_all := lw_g (lw_at lw_m3 29 rfl) rfl
theorem q608 : (Jvm.Cond.fieldLink "IdealCourt" (15 : Nat) "IdealCourt" "found" "[I") ∈ lw_all := lw_g (lw_at lw_m3 30 rfl) rfl
theorem q609 : (Jvm.Cond.fieldLink "IdealCourt" (185 : Nat) "IdealCourt" "latest" "I") ∈ lw_all := lw_g (lw_at lw_m3 31 rfl) rfl
theorem q610 : (Jvm.Cond.fieldLink "IdealCourt" (22 : Nat) "IdealCourt" "terms" "LIdealCourt$Terms;") ∈ lw_all := lw_g (lw_at lw_m3 32 rfl) rfl
theorem q611 : (Jvm.Cond.fieldLink "IdealCourt" (29 : Nat) "IdealCourt" "reckoner" "LIdealCourt$Reckoner;") ∈ lw_all := lw_g (lw_at lw_m3 33 rfl) rfl
theorem q612 : (Jvm.Cond.fieldLink "IdealCourt" (38 : Nat) "IdealCourt" "divider" "LIdealCourt$Divider;") ∈ lw_all := lw_g (lw_at lw_m3 34 rfl) rfl
theorem q613 : (Jvm.Cond.fieldLink "IdealCourt" (45 : Nat) "IdealCourt" "square" "LIdealCourt$Square;") ∈ lw_all := lw_g (lw_at lw_m3 35 rfl) rfl
theorem q614 : (Jvm.Cond.fieldLink "IdealCourt" (54 : Nat) "IdealCourt" "chain" "LIdealCourt$Chain;") ∈ lw_all := lw_g (lw_at lw_m3 36 rfl) rfl
theorem q615 : (Jvm.Cond.fieldLink "IdealCourt" (58 : Nat) "IdealCourt" "others" "LIdealCourt$Chain;") ∈ lw_all := lw_g (lw_at lw_m3 37 rfl) rfl
theorem q616 : (Jvm.Cond.fieldLink "IdealCourt" (64 : Nat) "IdealCourt" "ratio" "LIdealCourt$Ratio;") ∈ lw_all := lw_g (lw_at lw_m3 38 rfl) rfl
theorem q617 : (Jvm.Cond.fieldLink "IdealCourt" (68 : Nat) "IdealCourt" "factor" "LIdealCourt$Ratio;") ∈ lw_all := lw_g (lw_at lw_m3 39 rfl) rfl
theorem q618 : (Jvm.Cond.fieldLink "IdealCourt" (71 : Nat) "IdealCourt" "sum" "LIdealCourt$Ratio;") ∈ lw_all := lw_g (lw_at lw_m3 40 rfl) rfl
theorem q619 : (Jvm.Cond.fieldLink "IdealCourt" (79 : Nat) "IdealCourt" "low" "LIdealCourt$Whole;") ∈ lw_all := lw_g (lw_at lw_m3 41 rfl) rfl
theorem q620 : (Jvm.Cond.fieldLink "IdealCourt" (83 : Nat) "IdealCourt" "high" "LIdealCourt$Whole;") ∈ lw_all := lw_g (lw_at lw_m3 42 rfl) rfl
theorem q621 : (Jvm.Cond.fieldLink "IdealCourt" (86 : Nat) "IdealCourt" "help" "LIdealCourt$Whole;") ∈ lw_all := lw_g (lw_at lw_m3 43 rfl) rfl
theorem q622 : (Jvm.Cond.fieldLink "IdealCourt" (91 : Nat) "IdealCourt" "stands" "[LIdealCourt$Stand;") ∈ lw_all := lw_g (lw_at lw_m3 44 rfl) rfl
theorem q623 : (Jvm.Cond.fieldLink "IdealCourt" (100 : Nat) "IdealCourt" "lex" "LIdealCourt$Lex;") ∈ lw_all := lw_g (lw_at lw_m3 45 rfl) rfl
theorem q624 : (Jvm.Cond.fieldLink "IdealCourt" (115 : Nat) "IdealCourt" "orders" "[LIdealCourt$Lex;") ∈ lw_all := lw_g (lw_at lw_m3 46 rfl) rfl
theorem q625 : (Jvm.Cond.fieldLink "IdealCourt" (122 : Nat) "IdealCourt" "made" "LIdealCourt$Poly;") ∈ lw_all := lw_g (lw_at lw_m3 47 rfl) rfl
theorem q626 : (Jvm.Cond.fieldLink "IdealCourt" (126 : Nat) "IdealCourt" "row" "[LIdealCourt$Poly;") ∈ lw_all := lw_g (lw_at lw_m3 48 rfl) rfl
theorem q627 : (Jvm.Cond.fieldLink "IdealCourt" (420 : Nat) "IdealCourt" "rowed" "I") ∈ lw_all := lw_g (lw_at lw_m3 49 rfl) rfl
theorem q628 : (Jvm.Cond.fieldLink "IdealCourt" (130 : Nat) "IdealCourt" "ideal" "[I") ∈ lw_all := lw_g (lw_at lw_m3 50 rfl) rfl
theorem q629 : (Jvm.Cond.fieldLink "IdealCourt" (447 : Nat) "IdealCourt" "told" "I") ∈ lw_all := lw_g (lw_at lw_m3 51 rfl) rfl
theorem q630 : (Jvm.Cond.fieldLink "IdealCourt" (133 : Nat) "IdealCourt" "quotients" "[LIdealCourt$Poly;") ∈ lw_all := lw_g (lw_at lw_m3 52 rfl) rfl
theorem q631 : (Jvm.Cond.fieldLink "IdealCourt" (136 : Nat) "IdealCourt" "nextQuotients" "[LIdealCourt$Poly;") ∈ lw_all := lw_g (lw_at lw_m3 53 rfl) rfl
theorem q632 : (Jvm.Cond.fieldLink "IdealCourt" (423 : Nat) "IdealCourt" "divided" "I") ∈ lw_all := lw_g (lw_at lw_m3 54 rfl) rfl
theorem q633 : (Jvm.Cond.fieldLink "IdealCourt" (139 : Nat) "IdealCourt" "rest" "LIdealCourt$Poly;") ∈ lw_all := lw_g (lw_at lw_m3 55 rfl) rfl
theorem q634 : (Jvm.Cond.fieldLink "IdealCourt" (142 : Nat) "IdealCourt" "nextRest" "LIdealCourt$Poly;") ∈ lw_all := lw_g (lw_at lw_m3 56 rfl) rfl
theorem q635 : (Jvm.Cond.fieldLink "IdealCourt" (426 : Nat) "IdealCourt" "hasRest" "Z") ∈ lw_all := lw_g (lw_at lw_m3 57 rfl) rfl
theorem q636 : (Jvm.Cond.fieldLink "IdealCourt" (145 : Nat) "IdealCourt" "minimal" "[LIdealCourt$Poly;") ∈ lw_all := lw_g (lw_at lw_m3 58 rfl) rfl
theorem q637 : (Jvm.Cond.fieldLink "IdealCourt" (148 : Nat) "IdealCourt" "numbers" "[I") ∈ lw_all := lw_g (lw_at lw_m3 59 rfl) rfl
theorem q638 : (Jvm.Cond.fieldLink "IdealCourt" (151 : Nat) "IdealCourt" "others0" "[I") ∈ lw_all := lw_g (lw_at lw_m3 60 rfl) rfl
theorem q639 : (Jvm.Cond.fieldLink "IdealCourt" (156 : Nat) "IdealCourt" "roots" "[LIdealCourt$Real;") ∈ lw_all := lw_g (lw_at lw_m3 61 rfl) rfl
theorem q640 : (Jvm.Cond.fieldLink "IdealCourt" (160 : Nat) "IdealCourt" "rooted" "I") ∈ lw_all := lw_g (lw_at lw_m3 62 rfl) rfl
theorem q641 : (Jvm.Cond.fieldLink "IdealCourt" (165 : Nat) "IdealCourt" "walk" "LIdealCourt$Real;") ∈ lw_all := lw_g (lw_at lw_m3 63 rfl) rfl
theorem q642 : (Jvm.Cond.fieldLink "IdealCourt" (169 : Nat) "IdealCourt" "text" "[B") ∈ lw_all := lw_g (lw_at lw_m3 64 rfl) rfl
theorem q643 : (Jvm.Cond.fieldLink "IdealCourt" (337 : Nat) "IdealCourt" "written" "I") ∈ lw_all := lw_g (lw_at lw_m3 65 rfl) rfl
theorem q644 : (Jvm.Cond.fieldLink "IdealCourt" (173 : Nat) "IdealCourt" "moving" "LIdealCourt$Real;") ∈ lw_all := lw_g (lw_at lw_m3 66 rfl) rfl
theorem q645 : (Jvm.Cond.laysFinal "IdealCourt" "IdealCourt" "failures" "[LIdealCourt$Failure;") ∈ lw_all := lw_g (lw_at lw_m3 67 rfl) rfl
theorem q646 : (Jvm.Cond.soleField "IdealCourt" "failures") ∈ lw_all := lw_g (lw_at lw_m3 68 rfl) rfl
theorem q647 : (Jvm.Cond.laysFinal "IdealCourt" "IdealCourt" "found" "[I") ∈ lw_all := lw_g (lw_at lw_m3 69 rfl) rfl
theorem q648 : (Jvm.Cond.soleField "IdealCourt" "found") ∈ lw_all := lw_g (lw_at lw_m3 70 rfl) rfl
theorem q649 : (Jvm.Cond.lays "IdealCourt" "IdealCourt" "latest" "I") ∈ lw_all := lw_g (lw_at lw_m3 71 rfl) rfl
theorem q650 : (Jvm.Cond.soleField "IdealCourt" "latest") ∈ lw_all := lw_g (lw_at lw_m3 72 rfl) rfl
theorem q651 : (Jvm.Cond.laysFinal "IdealCourt" "IdealCourt" "terms" "LIdealCourt$Terms;") ∈ lw_all := lw_g (lw_at lw_m3 73 rfl) rfl
theorem q652 : (Jvm.Cond.soleField "IdealCourt" "terms") ∈ lw_all := lw_g (lw_at lw_m3 74 rfl) rfl
theorem q653 : (Jvm.Cond.laysFinal "IdealCourt" "IdealCourt" "reckoner" "LIdealCourt$Reckoner;") ∈ lw_all := lw_g (lw_at lw_m3 75 rfl) rfl
theorem q654 : (Jvm.Cond.soleField "IdealCourt" "reckoner") ∈ lw_all := lw_g (lw_at lw_m3 76 rfl) rfl
theorem q655 : (Jvm.Cond.laysFinal "IdealCourt" "IdealCourt" "divider" "LIdealCourt$Divider;") ∈ lw_all := lw_g (lw_at lw_m3 77 rfl) rfl
theorem q656 : (Jvm.Cond.soleField "IdealCourt" "divider") ∈ lw_all := lw_g (lw_at lw_m3 78 rfl) rfl
theorem q657 : (Jvm.Cond.laysFinal "IdealCourt" "IdealCourt" "square" "LIdealCourt$Square;") ∈ lw_all := lw_g (lw_at lw_m3 79 rfl) rfl
theorem q658 : (Jvm.Cond.soleField "IdealCourt" "square") ∈ lw_all := lw_g (lw_at lw_m3 80 rfl) rfl
theorem q659 : (Jvm.Cond.laysFinal "IdealCourt" "IdealCourt" "chain" "LIdealCourt$Chain;") ∈ lw_all := lw_g (lw_at lw_m3 81 rfl) rfl
theorem q660 : (Jvm.Cond.soleField "IdealCourt" "chain") ∈ lw_all := lw_g (lw_at lw_m3 82 rfl) rfl
theorem q661 : (Jvm.Cond.laysFinal "IdealCourt" "IdealCourt" "others" "LIdealCourt$Chain;") ∈ lw_all := lw_g (lw_at lw_m3 83 rfl) rfl
theorem q662 : (Jvm.Cond.soleField "IdealCourt" "others") ∈ lw_all := lw_g (lw_at lw_m3 84 rfl) rfl
theorem q663 : (Jvm.Cond.laysFinal "IdealCourt" "IdealCourt" "ratio" "LIdealCourt$Ratio;") ∈ lw_all := lw_g (lw_at lw_m3 85 rfl) rfl
theorem q664 : (Jvm.Cond.soleField "IdealCourt" "ratio") ∈ lw_all := lw_g (lw_at lw_m3 86 rfl) rfl
theorem q665 : (Jvm.Cond.laysFinal "IdealCourt" "IdealCourt" "factor" "LIdealCourt$Ratio;") ∈ lw_all := lw_g (lw_at lw_m3 87 rfl) rfl
theorem q666 : (Jvm.Cond.soleField "IdealCourt" "factor") ∈ lw_all := lw_g (lw_at lw_m3 88 rfl) rfl
theorem q667 : (Jvm.Cond.laysFinal "IdealCourt" "IdealCourt" "sum" "LIdealCourt$Ratio;") ∈ lw_all := lw_g (lw_at lw_m3 89 rfl) rfl
theorem q668 : (Jvm.Cond.soleField "IdealCourt" "sum") ∈ lw_all := lw_g (lw_at lw_m3 90 rfl) rfl
theorem q669 : (Jvm.Cond.laysFinal "IdealCourt" "IdealCourt" "low" "LIdealCourt$Whole;") ∈ lw_all := lw_g (lw_at lw_m3 91 rfl) rfl
theorem q670 : (Jvm.Cond.soleField "IdealCourt" "low") ∈ lw_all := lw_g (lw_at lw_m3 92 rfl) rfl
theorem q671 : (Jvm.Cond.laysFinal "IdealCourt" "IdealCourt" "high" "LIdealCourt$Whole;") ∈ lw_all := lw_g (lw_at lw_m3 93 rfl) rfl
theorem q672 : (Jvm.Cond.soleField "IdealCourt" "high") ∈ lw_all := lw_g (lw_at lw_m3 94 rfl) rfl
theorem q673 : (Jvm.Cond.laysFinal "IdealCourt" "IdealCourt" "help" "LIdealCourt$Whole;") ∈ lw_all := lw_g (lw_at lw_m3 95 rfl) rfl
theorem q674 : (Jvm.Cond.soleField "IdealCourt" "help") ∈ lw_all := lw_g (lw_at lw_m3 96 rfl) rfl
theorem q675 : (Jvm.Cond.laysFinal "IdealCourt" "IdealCourt" "stands" "[LIdealCourt$Stand;") ∈ lw_all := lw_g (lw_at lw_m3 97 rfl) rfl
theorem q676 : (Jvm.Cond.soleField "IdealCourt" "stands") ∈ lw_all := lw_g (lw_at lw_m3 98 rfl) rfl
theorem q677 : (Jvm.Cond.laysFinal "IdealCourt" "IdealCourt" "lex" "LIdealCourt$Lex;") ∈ lw_all := lw_g (lw_at lw_m3 99 rfl) rfl
theorem q678 : (Jvm.Cond.soleField "IdealCourt" "lex") ∈ lw_all := lw_g (lw_at lw_m3 100 rfl) rfl
theorem q679 : (Jvm.Cond.laysFinal "IdealCourt" "IdealCourt" "orders" "[LIdealCourt$Lex;") ∈ lw_all := lw_g (lw_at lw_m3 101 rfl) rfl
theorem q680 : (Jvm.Cond.soleField "IdealCourt" "orders") ∈ lw_all := lw_g (lw_at lw_m3 102 rfl) rfl
theorem q681 : (Jvm.Cond.lays "IdealCourt" "IdealCourt" "made" "LIdealCourt$Poly;") ∈ lw_all := lw_g (lw_at lw_m3 103 rfl) rfl
theorem q682 : (Jvm.Cond.soleField "IdealCourt" "made") ∈ lw_all := lw_g (lw_at lw_m3 104 rfl) rfl
theorem q683 : (Jvm.Cond.laysFinal "IdealCourt" "IdealCourt" "row" "[LIdealCourt$Poly;") ∈ lw_all := lw_g (lw_at lw_m3 105 rfl) rfl
theorem q684 : (Jvm.Cond.soleField "IdealCourt" "row") ∈ lw_all := lw_g (lw_at lw_m3 106 rfl) rfl
theorem q685 : (Jvm.Cond.lays "IdealCourt" "IdealCourt" "rowed" "I") ∈ lw_all := lw_g (lw_at lw_m3 107 rfl) rfl
theorem q686 : (Jvm.Cond.soleField "IdealCourt" "rowed") ∈ lw_all := lw_g (lw_at lw_m3 108 rfl) rfl
theorem q687 : (Jvm.Cond.laysFinal "IdealCourt" "IdealCourt" "ideal" "[I") ∈ lw_all := lw_g (lw_at lw_m3 109 rfl) rfl
theorem q688 : (Jvm.Cond.soleField "IdealCourt" "ideal") ∈ lw_all := lw_g (lw_at lw_m3 110 rfl) rfl
theorem q689 : (Jvm.Cond.lays "IdealCourt" "IdealCourt" "told" "I") ∈ lw_all := lw_g (lw_at lw_m3 111 rfl) rfl
theorem q690 : (Jvm.Cond.soleField "IdealCourt" "told") ∈ lw_all := lw_g (lw_at lw_m3 112 rfl) rfl
theorem q691 : (Jvm.Cond.lays "IdealCourt" "IdealCourt" "quotients" "[LIdealCourt$Poly;") ∈ lw_all := lw_g (lw_at lw_m3 113 rfl) rfl
theorem q692 : (Jvm.Cond.soleField "IdealCourt" "quotients") ∈ lw_all := lw_g (lw_at lw_m3 114 rfl) rfl
theorem q693 : (Jvm.Cond.lays "IdealCourt" "IdealCourt" "nextQuotients" "[LIdealCourt$Poly;") ∈ lw_all := lw_g (lw_at lw_m3 115 rfl) rfl
theorem q694 : (Jvm.Cond.soleField "IdealCourt" "nextQuotients") ∈ lw_all := lw_g (lw_at lw_m3 116 rfl) rfl
theorem q695 : (Jvm.Cond.lays "IdealCourt" "IdealCourt" "divided" "I") ∈ lw_all := lw_g (lw_at lw_m3 117 rfl) rfl
theorem q696 : (Jvm.Cond.soleField "IdealCourt" "divided") ∈ lw_all := lw_g (lw_at lw_m3 118 rfl) rfl
theorem q697 : (Jvm.Cond.lays "IdealCourt" "IdealCourt" "rest" "LIdealCourt$Poly;") ∈ lw_all := lw_g (lw_at lw_m3 119 rfl) rfl
theorem q698 : (Jvm.Cond.soleField "IdealCourt" "rest") ∈ lw_all := lw_g (lw_at lw_m3 120 rfl) rfl
theorem q699 : (Jvm.Cond.lays "IdealCourt" "IdealCourt" "nextRest" "LIdealCourt$Poly;") ∈ lw_all := lw_g (lw_at lw_m3 121 rfl) rfl
theorem q700 : (Jvm.Cond.soleField "IdealCourt" "nextRest") ∈ lw_all := lw_g (lw_at lw_m3 122 rfl) rfl
theorem q701 : (Jvm.Cond.lays "IdealCourt" "IdealCourt" "hasRest" "Z") ∈ lw_all := lw_g (lw_at lw_m3 123 rfl) rfl
theorem q702 : (Jvm.Cond.soleField "IdealCourt" "hasRest") ∈ lw_all := lw_g (lw_at lw_m3 124 rfl) rfl
theorem q703 : (Jvm.Cond.laysFinal "IdealCourt" "IdealCourt" "minimal" "[LIdealCourt$Poly;") ∈ lw_all := lw_g (lw_at lw_m3 125 rfl) rfl
theorem q704 : (Jvm.Cond.soleField "IdealCourt" "minimal") ∈ lw_all := lw_g (lw_at lw_m3 126 rfl) rfl
theorem q705 : (Jvm.Cond.laysFinal "IdealCourt" "IdealCourt" "numbers" "[I") ∈ lw_all := lw_g (lw_at lw_m3 127 rfl) rfl
theorem q706 : (Jvm.Cond.soleField "IdealCourt" "numbers") ∈ lw_all := lw_g (lw_at lw_m3 128 rfl) rfl
theorem q707 : (Jvm.Cond.laysFinal "IdealCourt" "IdealCourt" "others0" "[I") ∈ lw_all := lw_g (lw_at lw_m3 129 rfl) rfl
theorem q708 : (Jvm.Cond.soleField "IdealCourt" "others0") ∈ lw_all := lw_g (lw_at lw_m3 130 rfl) rfl
theorem q709 : (Jvm.Cond.laysFinal "IdealCourt" "IdealCourt" "roots" "[LIdealCourt$Real;") ∈ lw_all := lw_g (lw_at lw_m3 131 rfl) rfl
theorem q710 : (Jvm.Cond.soleField "IdealCourt" "roots") ∈ lw_all := lw_g (lw_at lw_m3 132 rfl) rfl
theorem q711 : (Jvm.Cond.lays "IdealCourt" "IdealCourt" "rooted" "I") ∈ lw_all := lw_g (lw_at lw_m3 133 rfl) rfl
theorem q712 : (Jvm.Cond.soleField "IdealCourt" "rooted") ∈ lw_all := lw_g (lw_at lw_m3 134 rfl) rfl
theorem q713 : (Jvm.Cond.laysFinal "IdealCourt" "IdealCourt" "walk" "LIdealCourt$Real;") ∈ lw_all := lw_g (lw_at lw_m3 135 rfl) rfl
theorem q714 : (Jvm.Cond.soleField "IdealCourt" "walk") ∈ lw_all := lw_g (lw_at lw_m3 136 rfl) rfl
theorem q715 : (Jvm.Cond.laysFinal "IdealCourt" "IdealCourt" "text" "[B") ∈ lw_all := lw_g (lw_at lw_m3 137 rfl) rfl
theorem q716 : (Jvm.Cond.soleField "IdealCourt" "text") ∈ lw_all := lw_g (lw_at lw_m3 138 rfl) rfl
theorem q717 : (Jvm.Cond.lays "IdealCourt" "IdealCourt" "written" "I") ∈ lw_all := lw_g (lw_at lw_m3 139 rfl) rfl
theorem q718 : (Jvm.Cond.soleField "IdealCourt" "written") ∈ lw_all := lw_g (lw_at lw_m3 140 rfl) rfl
theorem q719 : (Jvm.Cond.laysFinal "IdealCourt" "IdealCourt" "moving" "LIdealCourt$Real;") ∈ lw_all := lw_g (lw_at lw_m3 141 rfl) rfl
theorem q720 : (Jvm.Cond.soleField "IdealCourt" "moving") ∈ lw_all := lw_g (lw_at lw_m3 142 rfl) rfl
theorem q721 : (Jvm.Cond.superclass "IdealCourt" "java/lang/Object") ∈ lw_all := lw_g (lw_at lw_m3 143 rfl) rfl
theorem q723 : (Jvm.Cond.instanceMethod ({ cls := "IdealCourt", name := "order", desc := "(III)I" } : Jvm.MethodName)) ∈ lw_all := lw_g (lw_at lw_m3 145 rfl) rfl
theorem q724 : (Jvm.Cond.selects "IdealCourt" ({ cls := "IdealCourt", name := "order", desc := "(III)I" } : Jvm.MethodName) ({ cls := "IdealCourt", name := "order", desc := "(III)I" } : Jvm.MethodName)) ∈ lw_all := lw_g (lw_at lw_m3 146 rfl) rfl
theorem q725 : (Jvm.Cond.codeWith ({ cls := "IdealCourt", name := "order", desc := "(III)I" } : Jvm.MethodName) prog_1_method_13_code (5 : Nat) (Option.some Jvm.ClassFile.FieldType.int) [((0 : Nat), (65 : Nat), (66 : Nat), (7 : Nat))]) ∈ lw_all := lw_g (lw_at lw_m3 147 rfl) rfl
theorem q726 : (Jvm.Cond.methodLink "IdealCourt" (190 : Nat) ({ cls := "IdealCourt", name := "stand", desc := "(I)LIdealCourt$Stand;" } : Jvm.MethodName)) ∈ lw_all := lw_g (lw_at lw_m3 148 rfl) rfl
theorem q727 : (Jvm.Cond.privateMethod ({ cls := "IdealCourt", name := "stand", desc := "(I)LIdealCourt$Stand;" } : Jvm.MethodName)) ∈ lw_tbl := lw_at lw_m3 149 rfl
theorem q728 : (Jvm.Cond.instanceMethod ({ cls := "IdealCourt", name := "stand", desc := "(I)LIdealCourt$Stand;" } : Jvm.MethodName)) ∈ lw_all := lw_g (lw_at lw_m3 150 rfl) rfl
theorem q729 : (Jvm.Cond.codeWith ({ cls := "IdealCourt", name := "stand", desc := "(I)LIdealCourt$Stand;" } : Jvm.MethodName) prog_1_method_5_code (3 : Nat) (Option.some (Jvm.ClassFile.FieldType.object "IdealCourt$Stand")) [((0 : Nat), (6 : Nat), (7 : Nat), (188 : Nat))]) ∈ lw_all := lw_g (lw_at lw_m3 151 rfl) rfl
theorem q730 : (Jvm.Cond.classLink "IdealCourt" (188 : Nat) "java/lang/ArrayIndexOutOfBoundsException") ∈ lw_all := lw_g (lw_at lw_m3 152 rfl) rfl
theorem q762 : (Jvm.Cond.methodLink "IdealCourt" (178 : Nat) ({ cls := "IdealCourt", name := "failure", desc := "(I)LIdealCourt$Failure;" } : Jvm.MethodName)) ∈ lw_all := lw_g (lw_at lw_m3 184 rfl) rfl
theorem q763 : (Jvm.Cond.privateMethod ({ cls := "IdealCourt", name := "failure", desc := "(I)LIdealCourt$Failure;" } : Jvm.MethodName)) ∈ lw_tbl := lw_at lw_m3 185 rfl
theorem q764 : (Jvm.Cond.instanceMethod ({ cls := "IdealCourt", name := "failure", desc := "(I)LIdealCourt$Failure;" } : Jvm.MethodName)) ∈ lw_all := lw_g (lw_at lw_m3 186 rfl) rfl
theorem q765 : (Jvm.Cond.code ({ cls := "IdealCourt", name := "failure", desc := "(I)LIdealCourt$Failure;" } : Jvm.MethodName) prog_1_method_2_code (2 : Nat) (Option.some (Jvm.ClassFile.FieldType.object "IdealCourt$Failure"))) ∈ lw_all := lw_g (lw_at lw_m3 187 rfl) rfl
theorem q766 : (Jvm.Cond.methodLink "IdealCourt" (229 : Nat) ({ cls := "IdealCourt", name := "need", desc := "(ZI)V" } : Jvm.MethodName)) ∈ lw_all := lw_g (lw_at lw_m3 188 rfl) rfl
theorem q767 : (Jvm.Cond.privateMethod ({ cls := "IdealCourt", name := "need", desc := "(ZI)V" } : Jvm.MethodName)) ∈ lw_tbl := lw_at lw_m3 189 rfl
theorem q768 : (Jvm.Cond.instanceMethod ({ cls := "IdealCourt", name := "need", desc := "(ZI)V" } : Jvm.MethodName)) ∈ lw_all := lw_g (lw_at lw_m3 190 rfl) rfl
theorem q769 : (Jvm.Cond.code ({ cls := "IdealCourt", name := "need", desc := "(ZI)V" } : Jvm.MethodName) prog_1_method_3_code (3 : Nat) (Option.none : Option Jvm.ClassFile.FieldType)) ∈ lw_all := lw_g (lw_at lw_m3 191 rfl) rfl
theorem q770 : (Jvm.Cond.methodLink "IdealCourt" (233 : Nat) ({ cls := "IdealCourt", name := "finds", desc := "(LIdealCourt$Failure;)I" } : Jvm.MethodName)) ∈ lw_all := lw_g (lw_at lw_m3 192 rfl) rfl
theorem q771 : (Jvm.Cond.privateMethod ({ cls := "IdealCourt", name := "finds", desc := "(LIdealCourt$Failure;)I" } : Jvm.MethodName)) ∈ lw_tbl := lw_at lw_m3 193 rfl
theorem q772 : (Jvm.Cond.instanceMethod ({ cls := "IdealCourt", name := "finds", desc := "(LIdealCourt$Failure;)I" } : Jvm.MethodName)) ∈ lw_all := lw_g (lw_at lw_m3 194 rfl) rfl
theorem q773 : (Jvm.Cond.code ({ cls := "IdealCourt", name := "finds", desc := "(LIdealCourt$Failure;)I" } : Jvm.MethodName) prog_1_method_4_code (2 : Nat) (Option.some Jvm.ClassFile.FieldType.int)) ∈ lw_all := lw_g (lw_at lw_m3 195 rfl) rfl
theorem q775 : (Jvm.Cond.instanceMethod ({ cls := "IdealCourt", name := "zero", desc := "(I)I" } : Jvm.MethodName)) ∈ lw_all := lw_g (lw_at lw_m3 197 rfl) rfl
theorem q776 : (Jvm.Cond.selects "IdealCourt" ({ cls := "IdealCourt", name := "zero", desc := "(I)I" } : Jvm.MethodName) ({ cls := "IdealCourt", name := "zero", desc := "(I)I" } : Jvm.MethodName)) ∈ lw_all := lw_g (lw_at lw_m3 198 rfl) rfl
theorem q777 : (Jvm.Cond.codeWith ({ cls := "IdealCourt", name := "zero", desc := "(I)I" } : Jvm.MethodName) prog_1_method_14_code (3 : Nat) (Option.some Jvm.ClassFile.FieldType.int) [((0 : Nat), (13 : Nat), (14 : Nat), (7 : Nat))]) ∈ lw_all := lw_g (lw_at lw_m3 199 rfl) rfl
theorem q778 : (Jvm.Cond.methodLink "IdealCourt" (218 : Nat) ({ cls := "IdealCourt", name := "fresh", desc := "(LIdealCourt$Stand;)LIdealCourt$Poly;" } : Jvm.MethodName)) ∈ lw_all := lw_g (lw_at lw_m3 200 rfl) rfl
theorem q779 : (Jvm.Cond.privateMethod ({ cls := "IdealCourt", name := "fresh", desc := "(LIdealCourt$Stand;)LIdealCourt$Poly;" } : Jvm.MethodName)) ∈ lw_tbl := lw_at lw_m3 201 rfl
theorem q780 : (Jvm.Cond.instanceMethod ({ cls := "IdealCourt", name := "fresh", desc := "(LIdealCourt$Stand;)LIdealCourt$Poly;" } : Jvm.MethodName)) ∈ lw_all := lw_g (lw_at lw_m3 202 rfl) rfl
theorem q781 : (Jvm.Cond.code ({ cls := "IdealCourt", name := "fresh", desc := "(LIdealCourt$Stand;)LIdealCourt$Poly;" } : Jvm.MethodName) prog_1_method_11_code (2 : Nat) (Option.some (Jvm.ClassFile.FieldType.object "IdealCourt$Poly"))) ∈ lw_all := lw_g (lw_at lw_m3 203 rfl) rfl
theorem q782 : (Jvm.Cond.methodLink "IdealCourt" (237 : Nat) ({ cls := "IdealCourt$Poly", name := "clear", desc := "()V" } : Jvm.MethodName)) ∈ lw_all := lw_g (lw_at lw_m3 204 rfl) rfl
theorem q795 : (Jvm.Cond.instanceMethod ({ cls := "IdealCourt", name := "term", desc := "(IIII)I" } : Jvm.MethodName)) ∈ lw_all := lw_g (lw_at lw_m3 217 rfl) rfl
theorem q796 : (Jvm.Cond.selects "IdealCourt" ({ cls := "IdealCourt", name := "term", desc := "(IIII)I" } : Jvm.MethodName) ({ cls := "IdealCourt", name := "term", desc := "(IIII)I" } : Jvm.MethodName)) ∈ lw_all := lw_g (lw_at lw_m3 218 rfl) rfl
theorem q797 : (Jvm.Cond.codeWith ({ cls := "IdealCourt", name := "term", desc := "(IIII)I" } : Jvm.MethodName) prog_1_method_16_code (10 : Nat) (Option.some Jvm.ClassFile.FieldType.int) [((0 : Nat), (203 : Nat), (204 : Nat), (7 : Nat))]) ∈ lw_all := lw_g (lw_at lw_m3 219 rfl) rfl
theorem q798 : (Jvm.Cond.methodLink "IdealCourt" (242 : Nat) ({ cls := "IdealCourt", name := "poly", desc := "(I)LIdealCourt$Poly;" } : Jvm.MethodName)) ∈ lw_all := lw_g (lw_at lw_m3 220 rfl) rfl
theorem q799 : (Jvm.Cond.privateMethod ({ cls := "IdealCourt", name := "poly", desc := "(I)LIdealCourt$Poly;" } : Jvm.MethodName)) ∈ lw_tbl := lw_at lw_m3 221 rfl
theorem q800 : (Jvm.Cond.instanceMethod ({ cls := "IdealCourt", name := "poly", desc := "(I)LIdealCourt$Poly;" } : Jvm.MethodName)) ∈ lw_all := lw_g (lw_at lw_m3 222 rfl) rfl
theorem q801 : (Jvm.Cond.codeWith ({ cls := "IdealCourt", name := "poly", desc := "(I)LIdealCourt$Poly;" } : Jvm.MethodName) prog_1_method_8_code (4 : Nat) (Option.some (Jvm.ClassFile.FieldType.object "IdealCourt$Poly")) [((6 : Nat), (10 : Nat), (11 : Nat), (213 : Nat))]) ∈ lw_all := lw_g (lw_at lw_m3 223 rfl) rfl
theorem q802 : (Jvm.Cond.classLink "IdealCourt" (213 : Nat) "java/lang/ClassCastException") ∈ lw_all := lw_g (lw_at lw_m3 224 rfl) rfl
theorem q816 : (Jvm.Cond.methodLink "IdealCourt" (210 : Nat) ({ cls := "IdealCourt", name := "thing", desc := "(I)LIdealCourt$Thing;" } : Jvm.MethodName)) ∈ lw_all := lw_g (lw_at lw_m3 238 rfl) rfl
theorem q817 : (Jvm.Cond.privateMethod ({ cls := "IdealCourt", name := "thing", desc := "(I)LIdealCourt$Thing;" } : Jvm.MethodName)) ∈ lw_tbl := lw_at lw_m3 239 rfl
theorem q818 : (Jvm.Cond.instanceMethod ({ cls := "IdealCourt", name := "thing", desc := "(I)LIdealCourt$Thing;" } : Jvm.MethodName)) ∈ lw_all := lw_g (lw_at lw_m4 0 rfl) rfl
theorem q819 : (Jvm.Cond.code ({ cls := "IdealCourt", name := "thing", desc := "(I)LIdealCourt$Thing;" } : Jvm.MethodName) prog_1_method_6_code (3 : Nat) (Option.some (Jvm.ClassFile.FieldType.object "IdealCourt$Thing"))) ∈ lw_all := lw_g (lw_at lw_m4 1 rfl) rfl
theorem q820 : (Jvm.Cond.classLink "IdealCourt" (198 : Nat) "IdealCourt$Thing") ∈ lw_all := lw_g (lw_at lw_m4 2 rfl) rfl
theorem q821 : (Jvm.Cond.methodLink "IdealCourt" (200 : Nat) ({ cls := "IdealCourt", name := "kindOf", desc := "(LIdealCourt$Thing;)I" } : Jvm.MethodName)) ∈ lw_all := lw_g (lw_at lw_m4 3 rfl) rfl
theorem q822 : (Jvm.Cond.privateMethod ({ cls := "IdealCourt", name := "kindOf", desc := "(LIdealCourt$Thing;)I" } : Jvm.MethodName)) ∈ lw_tbl := lw_at lw_m4 4 rfl
theorem q823 : (Jvm.Cond.instanceMethod ({ cls := "IdealCourt", name := "kindOf", desc := "(LIdealCourt$Thing;)I" } : Jvm.MethodName)) ∈ lw_all := lw_g (lw_at lw_m4 5 rfl) rfl
theorem q824 : (Jvm.Cond.codeWith ({ cls := "IdealCourt", name := "kindOf", desc := "(LIdealCourt$Thing;)I" } : Jvm.MethodName) prog_1_method_7_code (3 : Nat) (Option.some Jvm.ClassFile.FieldType.int) [((0 : Nat), (6 : Nat), (7 : Nat), (208 : Nat))]) ∈ lw_all := lw_g (lw_at lw_m4 6 rfl) rfl
theorem q825 : (Jvm.Cond.classLink "IdealCourt" (208 : Nat) "java/lang/NullPointerException") ∈ lw_all := lw_g (lw_at lw_m4 7 rfl) rfl
theorem q844 : (Jvm.Cond.interfaceEntry "IdealCourt" (204 : Nat)) ∈ lw_tbl := lw_at lw_m4 26 rfl
theorem q845 : (Jvm.Cond.methodLink "IdealCourt" (204 : Nat) ({ cls := "IdealCourt$Thing", name := "kind", desc := "()I" } : Jvm.MethodName)) ∈ lw_all := lw_g (lw_at lw_m4 27 rfl) rfl
theorem q881 : (Jvm.Cond.methodLink "IdealCourt" (245 : Nat) ({ cls := "IdealCourt", name := "divides", desc := "(I)V" } : Jvm.MethodName)) ∈ lw_all := lw_g (lw_at lw_m4 63 rfl) rfl
theorem q882 : (Jvm.Cond.privateMethod ({ cls := "IdealCourt", name := "divides", desc := "(I)V" } : Jvm.MethodName)) ∈ lw_tbl := lw_at lw_m4 64 rfl
theorem q883 : (Jvm.Cond.instanceMethod ({ cls := "IdealCourt", name := "divides", desc := "(I)V" } : Jvm.MethodName)) ∈ lw_all := lw_g (lw_at lw_m4 65 rfl) rfl
theorem q884 : (Jvm.Cond.codeWith ({ cls := "IdealCourt", name := "divides", desc := "(I)V" } : Jvm.MethodName) prog_1_method_15_code (3 : Nat) (Option.none : Option Jvm.ClassFile.FieldType) [((0 : Nat), (4 : Nat), (7 : Nat), (240 : Nat))]) ∈ lw_all := lw_g (lw_at lw_m4 66 rfl) rfl
theorem q885 : (Jvm.Cond.classLink "IdealCourt" (240 : Nat) "java/lang/ArithmeticException") ∈ lw_all := lw_g (lw_at lw_m4 67 rfl) rfl
theorem q899 : (Jvm.Cond.methodLink "IdealCourt" (248 : Nat) ({ cls := "IdealCourt$Terms", name := "number", desc := "(III)I" } : Jvm.MethodName)) ∈ lw_all := lw_g (lw_at lw_m4 81 rfl) rfl
theorem q903 : (Jvm.Cond.methodLink "IdealCourt" (252 : Nat) ({ cls := "IdealCourt$Poly", name := "get", desc := "(ILIdealCourt$Ratio;)V" } : Jvm.MethodName)) ∈ lw_all := lw_g (lw_at lw_m4 85 rfl) rfl
theorem q915 : (Jvm.Cond.methodLink "IdealCourt" (256 : Nat) ({ cls := "IdealCourt$Ratio", name := "set", desc := "(JJ)V" } : Jvm.MethodName)) ∈ lw_all := lw_g (lw_at lw_m4 97 rfl) rfl
theorem q962 : (Jvm.Cond.methodLink "IdealCourt" (260 : Nat) ({ cls := "IdealCourt$Ratio", name := "add", desc := "(LIdealCourt$Ratio;I)V" } : Jvm.MethodName)) ∈ lw_all := lw_g (lw_at lw_m4 144 rfl) rfl
theorem q978 : (Jvm.Cond.methodLink "IdealCourt" (264 : Nat) ({ cls := "IdealCourt$Ratio", name := "fits", desc := "()Z" } : Jvm.MethodName)) ∈ lw_all := lw_g (lw_at lw_m4 160 rfl) rfl
theorem q986 : (Jvm.Cond.methodLink "IdealCourt" (268 : Nat) ({ cls := "IdealCourt$Poly", name := "has", desc := "(I)Z" } : Jvm.MethodName)) ∈ lw_all := lw_g (lw_at lw_m4 168 rfl) rfl
theorem q987 : (Jvm.Cond.methodLink "IdealCourt" (278 : Nat) ({ cls := "IdealCourt$Poly", name := "put", desc := "(ILIdealCourt$Ratio;)Z" } : Jvm.MethodName)) ∈ lw_all := lw_g (lw_at lw_m4 169 rfl) rfl
theorem q997 : (Jvm.Cond.instanceMethod ({ cls := "IdealCourt", name := "add", desc := "(III)I" } : Jvm.MethodName)) ∈ lw_all := lw_g (lw_at lw_m4 179 rfl) rfl
theorem q998 : (Jvm.Cond.selects "IdealCourt" ({ cls := "IdealCourt", name := "add", desc := "(III)I" } : Jvm.MethodName) ({ cls := "IdealCourt", name := "add", desc := "(III)I" } : Jvm.MethodName)) ∈ lw_all := lw_g (lw_at lw_m4 180 rfl) rfl
theorem q999 : (Jvm.Cond.code ({ cls := "IdealCourt", name := "add", desc := "(III)I" } : Jvm.MethodName) prog_1_method_18_code (4 : Nat) (Option.some Jvm.ClassFile.FieldType.int)) ∈ lw_all := lw_g (lw_at lw_m4 181 rfl) rfl
theorem q1000 : (Jvm.Cond.methodLink "IdealCourt" (289 : Nat) ({ cls := "IdealCourt", name := "summed", desc := "(IIII)I" } : Jvm.MethodName)) ∈ lw_all := lw_g (lw_at lw_m4 182 rfl) rfl
theorem q1001 : (Jvm.Cond.privateMethod ({ cls := "IdealCourt", name := "summed", desc := "(IIII)I" } : Jvm.MethodName)) ∈ lw_tbl := lw_at lw_m4 183 rfl
theorem q1002 : (Jvm.Cond.instanceMethod ({ cls := "IdealCourt", name := "summed", desc := "(IIII)I" } : Jvm.MethodName)) ∈ lw_all := lw_g (lw_at lw_m4 184 rfl) rfl
theorem q1003 : (Jvm.Cond.codeWith ({ cls := "IdealCourt", name := "summed", desc := "(IIII)I" } : Jvm.MethodName) prog_1_method_17_code (9 : Nat) (Option.some Jvm.ClassFile.FieldType.int) [((0 : Nat), (137 : Nat), (138 : Nat), (7 : Nat))]) ∈ lw_all := lw_g (lw_at lw_m4 185 rfl) rfl
theorem q1004 : (Jvm.Cond.methodLink "IdealCourt" (222 : Nat) ({ cls := "IdealCourt$Poly", name := "be", desc := "(LIdealCourt$Poly;)V" } : Jvm.MethodName)) ∈ lw_all := lw_g (lw_at lw_m4 186 rfl) rfl
theorem q1011 : (Jvm.Cond.methodLink "IdealCourt" (282 : Nat) ({ cls := "IdealCourt$Poly", name := "isRight", desc := "()Z" } : Jvm.MethodName)) ∈ lw_all := lw_g (lw_at lw_m4 193 rfl) rfl
theorem q1015 : (Jvm.Cond.methodLink "IdealCourt" (285 : Nat) ({ cls := "IdealCourt", name := "goes", desc := "(LIdealCourt$Poly;LIdealCourt$Stand;)I" } : Jvm.MethodName)) ∈ lw_all := lw_g (lw_at lw_m4 197 rfl) rfl
theorem q1016 : (Jvm.Cond.privateMethod ({ cls := "IdealCourt", name := "goes", desc := "(LIdealCourt$Poly;LIdealCourt$Stand;)I" } : Jvm.MethodName)) ∈ lw_tbl := lw_at lw_m4 198 rfl
theorem q1017 : (Jvm.Cond.instanceMethod ({ cls := "IdealCourt", name := "goes", desc := "(LIdealCourt$Poly;LIdealCourt$Stand;)I" } : Jvm.MethodName)) ∈ lw_all := lw_g (lw_at lw_m4 199 rfl) rfl
theorem q1018 : (Jvm.Cond.code ({ cls := "IdealCourt", name := "goes", desc := "(LIdealCourt$Poly;LIdealCourt$Stand;)I" } : Jvm.MethodName) prog_1_method_12_code (3 : Nat) (Option.some Jvm.ClassFile.FieldType.int)) ∈ lw_all := lw_g (lw_at lw_m4 200 rfl) rfl
theorem q1020 : (Jvm.Cond.instanceMethod ({ cls := "IdealCourt", name := "less", desc := "(III)I" } : Jvm.MethodName)) ∈ lw_all := lw_g (lw_at lw_m4 202 rfl) rfl
theorem q1021 : (Jvm.Cond.selects "IdealCourt" ({ cls := "IdealCourt", name := "less", desc := "(III)I" } : Jvm.MethodName) ({ cls := "IdealCourt", name := "less", desc := "(III)I" } : Jvm.MethodName)) ∈ lw_all := lw_g (lw_at lw_m4 203 rfl) rfl
theorem q1022 : (Jvm.Cond.code ({ cls := "IdealCourt", name := "less", desc := "(III)I" } : Jvm.MethodName) prog_1_method_19_code (4 : Nat) (Option.some Jvm.ClassFile.FieldType.int)) ∈ lw_all := lw_g (lw_at lw_m4 204 rfl) rfl
theorem q1024 : (Jvm.Cond.instanceMethod ({ cls := "IdealCourt", name := "times", desc := "(III)I" } : Jvm.MethodName)) ∈ lw_all := lw_g (lw_at lw_m4 206 rfl) rfl
theorem q1025 : (Jvm.Cond.selects "IdealCourt" ({ cls := "IdealCourt", name := "times", desc := "(III)I" } : Jvm.MethodName) ({ cls := "IdealCourt", name := "times", desc := "(III)I" } : Jvm.MethodName)) ∈ lw_all := lw_g (lw_at lw_m4 207 rfl) rfl
theorem q1026 : (Jvm.Cond.codeWith ({ cls := "IdealCourt", name := "times", desc := "(III)I" } : Jvm.MethodName) prog_1_method_20_code (8 : Nat) (Option.some Jvm.ClassFile.FieldType.int) [((0 : Nat), (138 : Nat), (139 : Nat), (7 : Nat))]) ∈ lw_all := lw_g (lw_at lw_m4 208 rfl) rfl
theorem q1027 : (Jvm.Cond.methodLink "IdealCourt" (293 : Nat) ({ cls := "IdealCourt$Poly", name := "degree", desc := "(LIdealCourt$Terms;)I" } : Jvm.MethodName)) ∈ lw_all := lw_g (lw_at lw_m4 209 rfl) rfl
theorem q1036 : (Jvm.Cond.methodLink "IdealCourt" (297 : Nat) ({ cls := "IdealCourt", name := "timesTerm", desc := "(LIdealCourt$Poly;ILIdealCourt$Poly;)V" } : Jvm.MethodName)) ∈ lw_all := lw_g (lw_at lw_m4 218 rfl) rfl
theorem q1037 : (Jvm.Cond.privateMethod ({ cls := "IdealCourt", name := "timesTerm", desc := "(LIdealCourt$Poly;ILIdealCourt$Poly;)V" } : Jvm.MethodName)) ∈ lw_tbl := lw_at lw_m4 219 rfl
theorem q1038 : (Jvm.Cond.instanceMethod ({ cls := "IdealCourt", name := "timesTerm", desc := "(LIdealCourt$Poly;ILIdealCourt$Poly;)V" } : Jvm.MethodName)) ∈ lw_all := lw_g (lw_at lw_m4 220 rfl) rfl
theorem q1039 : (Jvm.Cond.code ({ cls := "IdealCourt", name := "timesTerm", desc := "(LIdealCourt$Poly;ILIdealCourt$Poly;)V" } : Jvm.MethodName) prog_1_method_21_code (6 : Nat) (Option.none : Option Jvm.ClassFile.FieldType)) ∈ lw_all := lw_g (lw_at lw_m4 221 rfl) rfl
theorem q1040 : (Jvm.Cond.methodLink "IdealCourt" (301 : Nat) ({ cls := "IdealCourt$Terms", name := "times", desc := "(II)I" } : Jvm.MethodName)) ∈ lw_all := lw_g (lw_at lw_m4 222 rfl) rfl
theorem q1045 : (Jvm.Cond.methodLink "IdealCourt" (305 : Nat) ({ cls := "IdealCourt$Ratio", name := "times", desc := "(LIdealCourt$Ratio;)V" } : Jvm.MethodName)) ∈ lw_all := lw_g (lw_at lw_m4 227 rfl) rfl
theorem q1050 : (Jvm.Cond.instanceMethod ({ cls := "IdealCourt", name := "part", desc := "(IIII)I" } : Jvm.MethodName)) ∈ lw_all := lw_g (lw_at lw_m4 232 rfl) rfl
theorem q1051 : (Jvm.Cond.selects "IdealCourt" ({ cls := "IdealCourt", name := "part", desc := "(IIII)I" } : Jvm.MethodName) ({ cls := "IdealCourt", name := "part", desc := "(IIII)I" } : Jvm.MethodName)) ∈ lw_all := lw_g (lw_at lw_m4 233 rfl) rfl
theorem q1052 : (Jvm.Cond.codeWith ({ cls := "IdealCourt", name := "part", desc := "(IIII)I" } : Jvm.MethodName) prog_1_method_24_code (11 : Nat) (Option.some Jvm.ClassFile.FieldType.int) [((0 : Nat), (158 : Nat), (159 : Nat), (7 : Nat))]) ∈ lw_all := lw_g (lw_at lw_m4 234 rfl) rfl
theorem q1053 : (Jvm.Cond.methodLink "IdealCourt" (318 : Nat) ({ cls := "IdealCourt", name := "row", desc := "(ILIdealCourt$Failure;)[S" } : Jvm.MethodName)) ∈ lw_all := lw_g (lw_at lw_m4 235 rfl) rfl
theorem q1054 : (Jvm.Cond.static ({ cls := "IdealCourt", name := "row", desc := "(ILIdealCourt$Failure;)[S" } : Jvm.MethodName)) ∈ lw_all := lw_g (lw_at lw_m4 236 rfl) rfl
theorem q1055 : (Jvm.Cond.codeWith ({ cls := "IdealCourt", name := "row", desc := "(ILIdealCourt$Failure;)[S" } : Jvm.MethodName) prog_1_method_22_code (3 : Nat) (Option.some (Jvm.ClassFile.FieldType.array Jvm.ClassFile.FieldType.short)) [((0 : Nat), (14 : Nat), (15 : Nat), (308 : Nat))]) ∈ lw_all := lw_g (lw_at lw_m4 237 rfl) rfl
theorem q1056 : (Jvm.Cond.classLink "IdealCourt" (308 : Nat) "java/lang/NegativeArraySizeException") ∈ lw_all := lw_g (lw_at lw_m4 238 rfl) rfl
theorem q1070 : (Jvm.Cond.methodLink "IdealCourt" (321 : Nat) ({ cls := "IdealCourt", name := "copy", desc := "([SI[SILIdealCourt$Failure;)V" } : Jvm.MethodName)) ∈ lw_all := lw_g (lw_at lw_m5 12 rfl) rfl
theorem q1071 : (Jvm.Cond.static ({ cls := "IdealCourt", name := "copy", desc := "([SI[SILIdealCourt$Failure;)V" } : Jvm.MethodName)) ∈ lw_all := lw_g (lw_at lw_m5 13 rfl) rfl
theorem q1072 : (Jvm.Cond.codeWith ({ cls := "IdealCourt", name := "copy", desc := "([SI[SILIdealCourt$Failure;)V" } : Jvm.MethodName) prog_1_method_23_code (6 : Nat) (Option.none : Option Jvm.ClassFile.FieldType) [((0 : Nat), (8 : Nat), (11 : Nat), (316 : Nat))]) ∈ lw_all := lw_g (lw_at lw_m5 14 rfl) rfl
theorem q1073 : (Jvm.Cond.classLink "IdealCourt" (316 : Nat) "java/lang/IndexOutOfBoundsException") ∈ lw_all := lw_g (lw_at lw_m5 15 rfl) rfl
theorem q1074 : (Jvm.Cond.methodLink "IdealCourt" (310 : Nat) ({ cls := "java/lang/System", name := "arraycopy", desc := "(Ljava/lang/Object;ILjava/lang/Object;II)V" } : Jvm.MethodName)) ∈ lw_all := lw_g (lw_at lw_m5 16 rfl) rfl
theorem q1076 : (Jvm.Cond.instanceMethod ({ cls := "IdealCourt", name := "size", desc := "(IZ)I" } : Jvm.MethodName)) ∈ lw_all := lw_g (lw_at lw_m5 18 rfl) rfl
theorem q1077 : (Jvm.Cond.selects "IdealCourt" ({ cls := "IdealCourt", name := "size", desc := "(IZ)I" } : Jvm.MethodName) ({ cls := "IdealCourt", name := "size", desc := "(IZ)I" } : Jvm.MethodName)) ∈ lw_all := lw_g (lw_at lw_m5 19 rfl) rfl
theorem q1078 : (Jvm.Cond.codeWith ({ cls := "IdealCourt", name := "size", desc := "(IZ)I" } : Jvm.MethodName) prog_1_method_25_code (4 : Nat) (Option.some Jvm.ClassFile.FieldType.int) [((0 : Nat), (47 : Nat), (48 : Nat), (7 : Nat))]) ∈ lw_all := lw_g (lw_at lw_m5 20 rfl) rfl
theorem q1080 : (Jvm.Cond.instanceMethod ({ cls := "IdealCourt", name := "lead", desc := "(II)I" } : Jvm.MethodName)) ∈ lw_all := lw_g (lw_at lw_m5 22 rfl) rfl
theorem q1081 : (Jvm.Cond.selects "IdealCourt" ({ cls := "IdealCourt", name := "lead", desc := "(II)I" } : Jvm.MethodName) ({ cls := "IdealCourt", name := "lead", desc := "(II)I" } : Jvm.MethodName)) ∈ lw_all := lw_g (lw_at lw_m5 23 rfl) rfl
theorem q1082 : (Jvm.Cond.codeWith ({ cls := "IdealCourt", name := "lead", desc := "(II)I" } : Jvm.MethodName) prog_1_method_26_code (5 : Nat) (Option.some Jvm.ClassFile.FieldType.int) [((0 : Nat), (44 : Nat), (45 : Nat), (7 : Nat))]) ∈ lw_all := lw_g (lw_at lw_m5 24 rfl) rfl
theorem q1083 : (Jvm.Cond.methodLink "IdealCourt" (325 : Nat) ({ cls := "IdealCourt", name := "orderAt", desc := "(I)LIdealCourt$Lex;" } : Jvm.MethodName)) ∈ lw_all := lw_g (lw_at lw_m5 25 rfl) rfl
theorem q1084 : (Jvm.Cond.privateMethod ({ cls := "IdealCourt", name := "orderAt", desc := "(I)LIdealCourt$Lex;" } : Jvm.MethodName)) ∈ lw_tbl := lw_at lw_m5 26 rfl
theorem q1085 : (Jvm.Cond.instanceMethod ({ cls := "IdealCourt", name := "orderAt", desc := "(I)LIdealCourt$Lex;" } : Jvm.MethodName)) ∈ lw_all := lw_g (lw_at lw_m5 27 rfl) rfl
theorem q1086 : (Jvm.Cond.codeWith ({ cls := "IdealCourt", name := "orderAt", desc := "(I)LIdealCourt$Lex;" } : Jvm.MethodName) prog_1_method_9_code (4 : Nat) (Option.some (Jvm.ClassFile.FieldType.object "IdealCourt$Lex")) [((6 : Nat), (10 : Nat), (11 : Nat), (213 : Nat))]) ∈ lw_all := lw_g (lw_at lw_m5 28 rfl) rfl
theorem q1087 : (Jvm.Cond.methodLink "IdealCourt" (329 : Nat) ({ cls := "IdealCourt$Poly", name := "lead", desc := "(LIdealCourt$Ranks;)I" } : Jvm.MethodName)) ∈ lw_all := lw_g (lw_at lw_m5 29 rfl) rfl
theorem q1146 : (Jvm.Cond.methodLink "IdealCourt" (333 : Nat) ({ cls := "IdealCourt$Terms", name := "code", desc := "(I)I" } : Jvm.MethodName)) ∈ lw_all := lw_g (lw_at lw_m5 88 rfl) rfl
theorem q1151 : (Jvm.Cond.instanceMethod ({ cls := "IdealCourt", name := "write", desc := "(II)I" } : Jvm.MethodName)) ∈ lw_all := lw_g (lw_at lw_m5 93 rfl) rfl
theorem q1152 : (Jvm.Cond.selects "IdealCourt" ({ cls := "IdealCourt", name := "write", desc := "(II)I" } : Jvm.MethodName) ({ cls := "IdealCourt", name := "write", desc := "(II)I" } : Jvm.MethodName)) ∈ lw_all := lw_g (lw_at lw_m5 94 rfl) rfl
theorem q1153 : (Jvm.Cond.codeWith ({ cls := "IdealCourt", name := "write", desc := "(II)I" } : Jvm.MethodName) prog_1_method_33_code (7 : Nat) (Option.some Jvm.ClassFile.FieldType.int) [((0 : Nat), (176 : Nat), (177 : Nat), (7 : Nat))]) ∈ lw_all := lw_g (lw_at lw_m5 95 rfl) rfl
theorem q1154 : (Jvm.Cond.methodLink "IdealCourt" (397 : Nat) ({ cls := "IdealCourt", name := "sayPoly", desc := "(LIdealCourt$Poly;LIdealCourt$Ranks;)V" } : Jvm.MethodName)) ∈ lw_all := lw_g (lw_at lw_m5 96 rfl) rfl
theorem q1155 : (Jvm.Cond.privateMethod ({ cls := "IdealCourt", name := "sayPoly", desc := "(LIdealCourt$Poly;LIdealCourt$Ranks;)V" } : Jvm.MethodName)) ∈ lw_tbl := lw_at lw_m5 97 rfl
theorem q1156 : (Jvm.Cond.instanceMethod ({ cls := "IdealCourt", name := "sayPoly", desc := "(LIdealCourt$Poly;LIdealCourt$Ranks;)V" } : Jvm.MethodName)) ∈ lw_all := lw_g (lw_at lw_m5 98 rfl) rfl
theorem q1157 : (Jvm.Cond.code ({ cls := "IdealCourt", name := "sayPoly", desc := "(LIdealCourt$Poly;LIdealCourt$Ranks;)V" } : Jvm.MethodName) prog_1_method_31_code (7 : Nat) (Option.none : Option Jvm.ClassFile.FieldType)) ∈ lw_all := lw_g (lw_at lw_m5 99 rfl) rfl
theorem q1158 : (Jvm.Cond.methodLink "IdealCourt" (343 : Nat) ({ cls := "IdealCourt", name := "say", desc := "(I)V" } : Jvm.MethodName)) ∈ lw_all := lw_g (lw_at lw_m5 100 rfl) rfl
theorem q1159 : (Jvm.Cond.privateMethod ({ cls := "IdealCourt", name := "say", desc := "(I)V" } : Jvm.MethodName)) ∈ lw_tbl := lw_at lw_m5 101 rfl
theorem q1160 : (Jvm.Cond.instanceMethod ({ cls := "IdealCourt", name := "say", desc := "(I)V" } : Jvm.MethodName)) ∈ lw_all := lw_g (lw_at lw_m5 102 rfl) rfl
theorem q1161 : (Jvm.Cond.code ({ cls := "IdealCourt", name := "say", desc := "(I)V" } : Jvm.MethodName) prog_1_method_27_code (2 : Nat) (Option.none : Option Jvm.ClassFile.FieldType)) ∈ lw_all := lw_g (lw_at lw_m5 103 rfl) rfl
theorem q1162 : (Jvm.Cond.interfaceEntry "IdealCourt" (369 : Nat)) ∈ lw_tbl := lw_at lw_m5 104 rfl
theorem q1163 : (Jvm.Cond.methodLink "IdealCourt" (369 : Nat) ({ cls := "IdealCourt$Ranks", name := "rank", desc := "(II)I" } : Jvm.MethodName)) ∈ lw_all := lw_g (lw_at lw_m5 105 rfl) rfl
theorem q1164 : (Jvm.Cond.methodLink "IdealCourt" (374 : Nat) ({ cls := "IdealCourt", name := "sayTerm", desc := "(LIdealCourt$Poly;IZ)V" } : Jvm.MethodName)) ∈ lw_all := lw_g (lw_at lw_m5 106 rfl) rfl
theorem q1165 : (Jvm.Cond.privateMethod ({ cls := "IdealCourt", name := "sayTerm", desc := "(LIdealCourt$Poly;IZ)V" } : Jvm.MethodName)) ∈ lw_tbl := lw_at lw_m5 107 rfl
theorem q1166 : (Jvm.Cond.instanceMethod ({ cls := "IdealCourt", name := "sayTerm", desc := "(LIdealCourt$Poly;IZ)V" } : Jvm.MethodName)) ∈ lw_all := lw_g (lw_at lw_m5 108 rfl) rfl
theorem q1167 : (Jvm.Cond.code ({ cls := "IdealCourt", name := "sayTerm", desc := "(LIdealCourt$Poly;IZ)V" } : Jvm.MethodName) prog_1_method_30_code (8 : Nat) (Option.none : Option Jvm.ClassFile.FieldType)) ∈ lw_all := lw_g (lw_at lw_m5 109 rfl) rfl
theorem q1168 : (Jvm.Cond.methodLink "IdealCourt" (356 : Nat) ({ cls := "IdealCourt$Terms", name := "degree", desc := "(I)I" } : Jvm.MethodName)) ∈ lw_all := lw_g (lw_at lw_m5 110 rfl) rfl
theorem q1169 : (Jvm.Cond.methodLink "IdealCourt" (353 : Nat) ({ cls := "IdealCourt$Whole", name := "isOne", desc := "()Z" } : Jvm.MethodName)) ∈ lw_all := lw_g (lw_at lw_m5 111 rfl) rfl
theorem q1170 : (Jvm.Cond.methodLink "IdealCourt" (361 : Nat) ({ cls := "IdealCourt", name := "sayRatio", desc := "(LIdealCourt$Whole;LIdealCourt$Whole;)V" } : Jvm.MethodName)) ∈ lw_all := lw_g (lw_at lw_m5 112 rfl) rfl
theorem q1171 : (Jvm.Cond.privateMethod ({ cls := "IdealCourt", name := "sayRatio", desc := "(LIdealCourt$Whole;LIdealCourt$Whole;)V" } : Jvm.MethodName)) ∈ lw_tbl := lw_at lw_m5 113 rfl
theorem q1172 : (Jvm.Cond.instanceMethod ({ cls := "IdealCourt", name := "sayRatio", desc := "(LIdealCourt$Whole;LIdealCourt$Whole;)V" } : Jvm.MethodName)) ∈ lw_all := lw_g (lw_at lw_m5 114 rfl) rfl
theorem q1173 : (Jvm.Cond.code ({ cls := "IdealCourt", name := "sayRatio", desc := "(LIdealCourt$Whole;LIdealCourt$Whole;)V" } : Jvm.MethodName) prog_1_method_29_code (3 : Nat) (Option.none : Option Jvm.ClassFile.FieldType)) ∈ lw_all := lw_g (lw_at lw_m5 115 rfl) rfl
theorem q1174 : (Jvm.Cond.methodLink "IdealCourt" (350 : Nat) ({ cls := "IdealCourt", name := "say", desc := "(LIdealCourt$Whole;)V" } : Jvm.MethodName)) ∈ lw_all := lw_g (lw_at lw_m5 116 rfl) rfl
theorem q1175 : (Jvm.Cond.privateMethod ({ cls := "IdealCourt", name := "say", desc := "(LIdealCourt$Whole;)V" } : Jvm.MethodName)) ∈ lw_tbl := lw_at lw_m5 117 rfl
theorem q1176 : (Jvm.Cond.instanceMethod ({ cls := "IdealCourt", name := "say", desc := "(LIdealCourt$Whole;)V" } : Jvm.MethodName)) ∈ lw_all := lw_g (lw_at lw_m5 118 rfl) rfl
theorem q1177 : (Jvm.Cond.code ({ cls := "IdealCourt", name := "say", desc := "(LIdealCourt$Whole;)V" } : Jvm.MethodName) prog_1_method_28_code (4 : Nat) (Option.none : Option Jvm.ClassFile.FieldType)) ∈ lw_all := lw_g (lw_at lw_m5 119 rfl) rfl
theorem q1178 : (Jvm.Cond.constant "IdealCourt" (346 : Nat) (100000000 : Int32)) ∈ lw_all := lw_g (lw_at lw_m5 120 rfl) rfl
theorem q1179 : (Jvm.Cond.classLink "IdealCourt" (401 : Nat) "IdealCourt$Told") ∈ lw_all := lw_g (lw_at lw_m5 121 rfl) rfl
theorem q1180 : (Jvm.Cond.interfaceEntry "IdealCourt" (403 : Nat)) ∈ lw_tbl := lw_at lw_m5 122 rfl
theorem q1181 : (Jvm.Cond.methodLink "IdealCourt" (403 : Nat) ({ cls := "IdealCourt$Told", name := "name", desc := "()Ljava/lang/String;" } : Jvm.MethodName)) ∈ lw_all := lw_g (lw_at lw_m5 123 rfl) rfl
theorem q1213 : (Jvm.Cond.methodLink "IdealCourt" (407 : Nat) ({ cls := "java/lang/String", name := "length", desc := "()I" } : Jvm.MethodName)) ∈ lw_all := lw_g (lw_at lw_m5 155 rfl) rfl
theorem q1223 : (Jvm.Cond.methodLink "IdealCourt" (412 : Nat) ({ cls := "java/lang/String", name := "charAt", desc := "(I)C" } : Jvm.MethodName)) ∈ lw_all := lw_g (lw_at lw_m5 165 rfl) rfl
theorem q1261 : (Jvm.Cond.methodLink "IdealCourt" (416 : Nat) ({ cls := "IdealCourt", name := "sayEnd", desc := "(LIdealCourt$Real;Z)V" } : Jvm.MethodName)) ∈ lw_all := lw_g (lw_at lw_m5 203 rfl) rfl
theorem q1262 : (Jvm.Cond.privateMethod ({ cls := "IdealCourt", name := "sayEnd", desc := "(LIdealCourt$Real;Z)V" } : Jvm.MethodName)) ∈ lw_tbl := lw_at lw_m5 204 rfl
theorem q1263 : (Jvm.Cond.instanceMethod ({ cls := "IdealCourt", name := "sayEnd", desc := "(LIdealCourt$Real;Z)V" } : Jvm.MethodName)) ∈ lw_all := lw_g (lw_at lw_m5 205 rfl) rfl
theorem q1264 : (Jvm.Cond.code ({ cls := "IdealCourt", name := "sayEnd", desc := "(LIdealCourt$Real;Z)V" } : Jvm.MethodName) prog_1_method_32_code (5 : Nat) (Option.none : Option Jvm.ClassFile.FieldType)) ∈ lw_all := lw_g (lw_at lw_m5 206 rfl) rfl
theorem q1265 : (Jvm.Cond.methodLink "IdealCourt" (378 : Nat) ({ cls := "IdealCourt$Real", name := "end", desc := "(ZLIdealCourt$Whole;LIdealCourt$Whole;LIdealCourt$Reckoner;)V" } : Jvm.MethodName)) ∈ lw_all := lw_g (lw_at lw_m5 207 rfl) rfl
theorem q1283 : (Jvm.Cond.methodLink "IdealCourt" (382 : Nat) ({ cls := "IdealCourt$Real", name := "bits", desc := "()I" } : Jvm.MethodName)) ∈ lw_all := lw_g (lw_at lw_m5 225 rfl) rfl
theorem q1284 : (Jvm.Cond.methodLink "IdealCourt" (385 : Nat) ({ cls := "IdealCourt$Whole", name := "isOdd", desc := "()Z" } : Jvm.MethodName)) ∈ lw_all := lw_g (lw_at lw_m5 226 rfl) rfl
theorem q1288 : (Jvm.Cond.methodLink "IdealCourt" (388 : Nat) ({ cls := "IdealCourt$Whole", name := "halve", desc := "()V" } : Jvm.MethodName)) ∈ lw_all := lw_g (lw_at lw_m5 230 rfl) rfl
theorem q1293 : (Jvm.Cond.methodLink "IdealCourt" (391 : Nat) ({ cls := "IdealCourt$Whole", name := "set", desc := "(J)V" } : Jvm.MethodName)) ∈ lw_all := lw_g (lw_at lw_m5 235 rfl) rfl
theorem q1294 : (Jvm.Cond.methodLink "IdealCourt" (394 : Nat) ({ cls := "IdealCourt$Whole", name := "twice", desc := "(I)V" } : Jvm.MethodName)) ∈ lw_all := lw_g (lw_at lw_m5 236 rfl) rfl
theorem q1296 : (Jvm.Cond.instanceMethod ({ cls := "IdealCourt", name := "letter", desc := "(I)I" } : Jvm.MethodName)) ∈ lw_all := lw_g (lw_at lw_m5 238 rfl) rfl
theorem q1297 : (Jvm.Cond.selects "IdealCourt" ({ cls := "IdealCourt", name := "letter", desc := "(I)I" } : Jvm.MethodName) ({ cls := "IdealCourt", name := "letter", desc := "(I)I" } : Jvm.MethodName)) ∈ lw_all := lw_g (lw_at lw_m5 239 rfl) rfl
theorem q1298 : (Jvm.Cond.codeWith ({ cls := "IdealCourt", name := "letter", desc := "(I)I" } : Jvm.MethodName) prog_1_method_34_code (3 : Nat) (Option.some Jvm.ClassFile.FieldType.int) [((0 : Nat), (29 : Nat), (30 : Nat), (7 : Nat))]) ∈ lw_all := lw_g (lw_at lw_m6 0 rfl) rfl
theorem q1300 : (Jvm.Cond.instanceMethod ({ cls := "IdealCourt", name := "row", desc := "(I)I" } : Jvm.MethodName)) ∈ lw_all := lw_g (lw_at lw_m6 2 rfl) rfl
theorem q1301 : (Jvm.Cond.selects "IdealCourt" ({ cls := "IdealCourt", name := "row", desc := "(I)I" } : Jvm.MethodName) ({ cls := "IdealCourt", name := "row", desc := "(I)I" } : Jvm.MethodName)) ∈ lw_all := lw_g (lw_at lw_m6 3 rfl) rfl
theorem q1302 : (Jvm.Cond.codeWith ({ cls := "IdealCourt", name := "row", desc := "(I)I" } : Jvm.MethodName) prog_1_method_35_code (3 : Nat) (Option.some Jvm.ClassFile.FieldType.int) [((0 : Nat), (53 : Nat), (54 : Nat), (7 : Nat))]) ∈ lw_all := lw_g (lw_at lw_m6 4 rfl) rfl
theorem q1304 : (Jvm.Cond.instanceMethod ({ cls := "IdealCourt", name := "unrow", desc := "()I" } : Jvm.MethodName)) ∈ lw_all := lw_g (lw_at lw_m6 6 rfl) rfl
theorem q1305 : (Jvm.Cond.selects "IdealCourt" ({ cls := "IdealCourt", name := "unrow", desc := "()I" } : Jvm.MethodName) ({ cls := "IdealCourt", name := "unrow", desc := "()I" } : Jvm.MethodName)) ∈ lw_all := lw_g (lw_at lw_m6 7 rfl) rfl
theorem q1306 : (Jvm.Cond.code ({ cls := "IdealCourt", name := "unrow", desc := "()I" } : Jvm.MethodName) prog_1_method_36_code (2 : Nat) (Option.some Jvm.ClassFile.FieldType.int)) ∈ lw_all := lw_g (lw_at lw_m6 8 rfl) rfl
theorem q1308 : (Jvm.Cond.instanceMethod ({ cls := "IdealCourt", name := "divide", desc := "(II)I" } : Jvm.MethodName)) ∈ lw_all := lw_g (lw_at lw_m6 10 rfl) rfl
theorem q1309 : (Jvm.Cond.selects "IdealCourt" ({ cls := "IdealCourt", name := "divide", desc := "(II)I" } : Jvm.MethodName) ({ cls := "IdealCourt", name := "divide", desc := "(II)I" } : Jvm.MethodName)) ∈ lw_all := lw_g (lw_at lw_m6 11 rfl) rfl
theorem q1310 : (Jvm.Cond.codeWith ({ cls := "IdealCourt", name := "divide", desc := "(II)I" } : Jvm.MethodName) prog_1_method_38_code (5 : Nat) (Option.some Jvm.ClassFile.FieldType.int) [((0 : Nat), (70 : Nat), (71 : Nat), (7 : Nat))]) ∈ lw_all := lw_g (lw_at lw_m6 12 rfl) rfl
theorem q1311 : (Jvm.Cond.methodLink "IdealCourt" (433 : Nat) ({ cls := "IdealCourt$Divider", name := "run", desc := "([LIdealCourt$Poly;ILIdealCourt$Ranks;[LIdealCourt$Poly;LIdealCourt$Poly;)Z" } : Jvm.MethodName)) ∈ lw_all := lw_g (lw_at lw_m6 13 rfl) rfl
theorem q1347 : (Jvm.Cond.methodLink "IdealCourt" (437 : Nat) ({ cls := "IdealCourt", name := "settle", desc := "(I)V" } : Jvm.MethodName)) ∈ lw_all := lw_g (lw_at lw_m6 49 rfl) rfl
theorem q1348 : (Jvm.Cond.privateMethod ({ cls := "IdealCourt", name := "settle", desc := "(I)V" } : Jvm.MethodName)) ∈ lw_tbl := lw_at lw_m6 50 rfl
theorem q1349 : (Jvm.Cond.instanceMethod ({ cls := "IdealCourt", name := "settle", desc := "(I)V" } : Jvm.MethodName)) ∈ lw_all := lw_g (lw_at lw_m6 51 rfl) rfl
theorem q1350 : (Jvm.Cond.code ({ cls := "IdealCourt", name := "settle", desc := "(I)V" } : Jvm.MethodName) prog_1_method_37_code (4 : Nat) (Option.none : Option Jvm.ClassFile.FieldType)) ∈ lw_all := lw_g (lw_at lw_m6 52 rfl) rfl
theorem q1352 : (Jvm.Cond.instanceMethod ({ cls := "IdealCourt", name := "ideal", desc := "(I)I" } : Jvm.MethodName)) ∈ lw_all := lw_g (lw_at lw_m6 54 rfl) rfl
theorem q1353 : (Jvm.Cond.selects "IdealCourt" ({ cls := "IdealCourt", name := "ideal", desc := "(I)I" } : Jvm.MethodName) ({ cls := "IdealCourt", name := "ideal", desc := "(I)I" } : Jvm.MethodName)) ∈ lw_all := lw_g (lw_at lw_m6 55 rfl) rfl
theorem q1354 : (Jvm.Cond.codeWith ({ cls := "IdealCourt", name := "ideal", desc := "(I)I" } : Jvm.MethodName) prog_1_method_40_code (4 : Nat) (Option.some Jvm.ClassFile.FieldType.int) [((0 : Nat), (123 : Nat), (124 : Nat), (7 : Nat))]) ∈ lw_all := lw_g (lw_at lw_m6 56 rfl) rfl
theorem q1355 : (Jvm.Cond.methodLink "IdealCourt" (443 : Nat) ({ cls := "IdealCourt", name := "isSmall", desc := "(LIdealCourt$Poly;II)Z" } : Jvm.MethodName)) ∈ lw_all := lw_g (lw_at lw_m6 57 rfl) rfl
theorem q1356 : (Jvm.Cond.privateMethod ({ cls := "IdealCourt", name := "isSmall", desc := "(LIdealCourt$Poly;II)Z" } : Jvm.MethodName)) ∈ lw_tbl := lw_at lw_m6 58 rfl
theorem q1357 : (Jvm.Cond.instanceMethod ({ cls := "IdealCourt", name := "isSmall", desc := "(LIdealCourt$Poly;II)Z" } : Jvm.MethodName)) ∈ lw_all := lw_g (lw_at lw_m6 59 rfl) rfl
theorem q1358 : (Jvm.Cond.code ({ cls := "IdealCourt", name := "isSmall", desc := "(LIdealCourt$Poly;II)Z" } : Jvm.MethodName) prog_1_method_39_code (6 : Nat) (Option.some Jvm.ClassFile.FieldType.boolean)) ∈ lw_all := lw_g (lw_at lw_m6 60 rfl) rfl
theorem q1359 : (Jvm.Cond.methodLink "IdealCourt" (440 : Nat) ({ cls := "IdealCourt$Ratio", name := "isWhole", desc := "(I)Z" } : Jvm.MethodName)) ∈ lw_all := lw_g (lw_at lw_m6 61 rfl) rfl
theorem q1363 : (Jvm.Cond.methodLink "IdealCourt" (450 : Nat) ({ cls := "IdealCourt$Ratio", name := "whole", desc := "()I" } : Jvm.MethodName)) ∈ lw_all := lw_g (lw_at lw_m6 65 rfl) rfl
theorem q1368 : (Jvm.Cond.instanceMethod ({ cls := "IdealCourt", name := "unideal", desc := "()I" } : Jvm.MethodName)) ∈ lw_all := lw_g (lw_at lw_m6 70 rfl) rfl
theorem q1369 : (Jvm.Cond.selects "IdealCourt" ({ cls := "IdealCourt", name := "unideal", desc := "()I" } : Jvm.MethodName) ({ cls := "IdealCourt", name := "unideal", desc := "()I" } : Jvm.MethodName)) ∈ lw_all := lw_g (lw_at lw_m6 71 rfl) rfl
theorem q1370 : (Jvm.Cond.code ({ cls := "IdealCourt", name := "unideal", desc := "()I" } : Jvm.MethodName) prog_1_method_41_code (2 : Nat) (Option.some Jvm.ClassFile.FieldType.int)) ∈ lw_all := lw_g (lw_at lw_m6 72 rfl) rfl
theorem q1372 : (Jvm.Cond.instanceMethod ({ cls := "IdealCourt", name := "span", desc := "(II)I" } : Jvm.MethodName)) ∈ lw_all := lw_g (lw_at lw_m6 74 rfl) rfl
theorem q1373 : (Jvm.Cond.selects "IdealCourt" ({ cls := "IdealCourt", name := "span", desc := "(II)I" } : Jvm.MethodName) ({ cls := "IdealCourt", name := "span", desc := "(II)I" } : Jvm.MethodName)) ∈ lw_all := lw_g (lw_at lw_m6 75 rfl) rfl
theorem q1374 : (Jvm.Cond.codeWith ({ cls := "IdealCourt", name := "span", desc := "(II)I" } : Jvm.MethodName) prog_1_method_42_code (4 : Nat) (Option.some Jvm.ClassFile.FieldType.int) [((0 : Nat), (50 : Nat), (51 : Nat), (7 : Nat))]) ∈ lw_all := lw_g (lw_at lw_m6 76 rfl) rfl
theorem q1375 : (Jvm.Cond.methodLink "IdealCourt" (453 : Nat) ({ cls := "IdealCourt$Square", name := "tell", desc := "([IILIdealCourt$Ranks;I)V" } : Jvm.MethodName)) ∈ lw_all := lw_g (lw_at lw_m6 77 rfl) rfl
theorem q1423 : (Jvm.Cond.instanceMethod ({ cls := "IdealCourt", name := "element", desc := "(II)I" } : Jvm.MethodName)) ∈ lw_all := lw_g (lw_at lw_m6 125 rfl) rfl
theorem q1424 : (Jvm.Cond.selects "IdealCourt" ({ cls := "IdealCourt", name := "element", desc := "(II)I" } : Jvm.MethodName) ({ cls := "IdealCourt", name := "element", desc := "(II)I" } : Jvm.MethodName)) ∈ lw_all := lw_g (lw_at lw_m6 126 rfl) rfl
theorem q1425 : (Jvm.Cond.codeWith ({ cls := "IdealCourt", name := "element", desc := "(II)I" } : Jvm.MethodName) prog_1_method_44_code (4 : Nat) (Option.some Jvm.ClassFile.FieldType.int) [((0 : Nat), (68 : Nat), (69 : Nat), (7 : Nat))]) ∈ lw_all := lw_g (lw_at lw_m6 127 rfl) rfl
theorem q1426 : (Jvm.Cond.methodLink "IdealCourt" (463 : Nat) ({ cls := "IdealCourt", name := "spanned", desc := "()V" } : Jvm.MethodName)) ∈ lw_all := lw_g (lw_at lw_m6 128 rfl) rfl
theorem q1427 : (Jvm.Cond.privateMethod ({ cls := "IdealCourt", name := "spanned", desc := "()V" } : Jvm.MethodName)) ∈ lw_tbl := lw_at lw_m6 129 rfl
theorem q1428 : (Jvm.Cond.instanceMethod ({ cls := "IdealCourt", name := "spanned", desc := "()V" } : Jvm.MethodName)) ∈ lw_all := lw_g (lw_at lw_m6 130 rfl) rfl
theorem q1429 : (Jvm.Cond.code ({ cls := "IdealCourt", name := "spanned", desc := "()V" } : Jvm.MethodName) prog_1_method_43_code (1 : Nat) (Option.none : Option Jvm.ClassFile.FieldType)) ∈ lw_all := lw_g (lw_at lw_m6 131 rfl) rfl
theorem q1430 : (Jvm.Cond.methodLink "IdealCourt" (466 : Nat) ({ cls := "IdealCourt$Square", name := "element", desc := "(ILIdealCourt$Poly;LIdealCourt$Ratio;)V" } : Jvm.MethodName)) ∈ lw_all := lw_g (lw_at lw_m6 132 rfl) rfl
theorem q1437 : (Jvm.Cond.methodLink "IdealCourt" (470 : Nat) ({ cls := "IdealCourt$Square", name := "leadOf", desc := "(I)I" } : Jvm.MethodName)) ∈ lw_all := lw_g (lw_at lw_m6 139 rfl) rfl
theorem q1442 : (Jvm.Cond.instanceMethod ({ cls := "IdealCourt", name := "closed", desc := "()I" } : Jvm.MethodName)) ∈ lw_all := lw_g (lw_at lw_m6 144 rfl) rfl
theorem q1443 : (Jvm.Cond.selects "IdealCourt" ({ cls := "IdealCourt", name := "closed", desc := "()I" } : Jvm.MethodName) ({ cls := "IdealCourt", name := "closed", desc := "()I" } : Jvm.MethodName)) ∈ lw_all := lw_g (lw_at lw_m6 145 rfl) rfl
theorem q1444 : (Jvm.Cond.codeWith ({ cls := "IdealCourt", name := "closed", desc := "()I" } : Jvm.MethodName) prog_1_method_46_code (4 : Nat) (Option.some Jvm.ClassFile.FieldType.int) [((0 : Nat), (155 : Nat), (170 : Nat), (7 : Nat)), ((156 : Nat), (169 : Nat), (170 : Nat), (7 : Nat))]) ∈ lw_all := lw_g (lw_at lw_m6 146 rfl) rfl
theorem q1445 : (Jvm.Cond.methodLink "IdealCourt" (483 : Nat) ({ cls := "IdealCourt$Square", name := "isMinimal", desc := "(I)Z" } : Jvm.MethodName)) ∈ lw_all := lw_g (lw_at lw_m6 147 rfl) rfl
theorem q1451 : (Jvm.Cond.methodLink "IdealCourt" (486 : Nat) ({ cls := "IdealCourt", name := "differ", desc := "(LIdealCourt$Poly;LIdealCourt$Poly;)V" } : Jvm.MethodName)) ∈ lw_all := lw_g (lw_at lw_m6 153 rfl) rfl
theorem q1452 : (Jvm.Cond.privateMethod ({ cls := "IdealCourt", name := "differ", desc := "(LIdealCourt$Poly;LIdealCourt$Poly;)V" } : Jvm.MethodName)) ∈ lw_tbl := lw_at lw_m6 154 rfl
theorem q1453 : (Jvm.Cond.instanceMethod ({ cls := "IdealCourt", name := "differ", desc := "(LIdealCourt$Poly;LIdealCourt$Poly;)V" } : Jvm.MethodName)) ∈ lw_all := lw_g (lw_at lw_m6 155 rfl) rfl
theorem q1454 : (Jvm.Cond.code ({ cls := "IdealCourt", name := "differ", desc := "(LIdealCourt$Poly;LIdealCourt$Poly;)V" } : Jvm.MethodName) prog_1_method_45_code (9 : Nat) (Option.none : Option Jvm.ClassFile.FieldType)) ∈ lw_all := lw_g (lw_at lw_m6 156 rfl) rfl
theorem q1455 : (Jvm.Cond.methodLink "IdealCourt" (477 : Nat) ({ cls := "IdealCourt$Terms", name := "join", desc := "(II)I" } : Jvm.MethodName)) ∈ lw_all := lw_g (lw_at lw_m6 157 rfl) rfl
theorem q1460 : (Jvm.Cond.methodLink "IdealCourt" (480 : Nat) ({ cls := "IdealCourt$Terms", name := "over", desc := "(II)I" } : Jvm.MethodName)) ∈ lw_all := lw_g (lw_at lw_m6 162 rfl) rfl
theorem q1462 : (Jvm.Cond.instanceMethod ({ cls := "IdealCourt", name := "without", desc := "(I)I" } : Jvm.MethodName)) ∈ lw_all := lw_g (lw_at lw_m6 164 rfl) rfl
theorem q1463 : (Jvm.Cond.selects "IdealCourt" ({ cls := "IdealCourt", name := "without", desc := "(I)I" } : Jvm.MethodName) ({ cls := "IdealCourt", name := "without", desc := "(I)I" } : Jvm.MethodName)) ∈ lw_all := lw_g (lw_at lw_m6 165 rfl) rfl
theorem q1464 : (Jvm.Cond.codeWith ({ cls := "IdealCourt", name := "without", desc := "(I)I" } : Jvm.MethodName) prog_1_method_47_code (6 : Nat) (Option.some Jvm.ClassFile.FieldType.int) [((0 : Nat), (155 : Nat), (156 : Nat), (7 : Nat))]) ∈ lw_all := lw_g (lw_at lw_m6 166 rfl) rfl
theorem q1466 : (Jvm.Cond.instanceMethod ({ cls := "IdealCourt", name := "many", desc := "()I" } : Jvm.MethodName)) ∈ lw_all := lw_g (lw_at lw_m6 168 rfl) rfl
theorem q1467 : (Jvm.Cond.selects "IdealCourt" ({ cls := "IdealCourt", name := "many", desc := "()I" } : Jvm.MethodName) ({ cls := "IdealCourt", name := "many", desc := "()I" } : Jvm.MethodName)) ∈ lw_all := lw_g (lw_at lw_m6 169 rfl) rfl
theorem q1468 : (Jvm.Cond.codeWith ({ cls := "IdealCourt", name := "many", desc := "()I" } : Jvm.MethodName) prog_1_method_48_code (2 : Nat) (Option.some Jvm.ClassFile.FieldType.int) [((0 : Nat), (30 : Nat), (31 : Nat), (7 : Nat))]) ∈ lw_all := lw_g (lw_at lw_m6 170 rfl) rfl
theorem q1469 : (Jvm.Cond.methodLink "IdealCourt" (490 : Nat) ({ cls := "IdealCourt$Square", name := "free", desc := "()I" } : Jvm.MethodName)) ∈ lw_all := lw_g (lw_at lw_m6 171 rfl) rfl
theorem q1479 : (Jvm.Cond.instanceMethod ({ cls := "IdealCourt", name := "member", desc := "(I)I" } : Jvm.MethodName)) ∈ lw_all := lw_g (lw_at lw_m6 181 rfl) rfl
theorem q1480 : (Jvm.Cond.selects "IdealCourt" ({ cls := "IdealCourt", name := "member", desc := "(I)I" } : Jvm.MethodName) ({ cls := "IdealCourt", name := "member", desc := "(I)I" } : Jvm.MethodName)) ∈ lw_all := lw_g (lw_at lw_m6 182 rfl) rfl
theorem q1481 : (Jvm.Cond.codeWith ({ cls := "IdealCourt", name := "member", desc := "(I)I" } : Jvm.MethodName) prog_1_method_49_code (4 : Nat) (Option.some Jvm.ClassFile.FieldType.int) [((0 : Nat), (80 : Nat), (81 : Nat), (7 : Nat))]) ∈ lw_all := lw_g (lw_at lw_m6 183 rfl) rfl
theorem q1482 : (Jvm.Cond.methodLink "IdealCourt" (493 : Nat) ({ cls := "IdealCourt$Square", name := "member", desc := "(LIdealCourt$Poly;LIdealCourt$Poly;[LIdealCourt$Poly;LIdealCourt$Ratio;)Z" } : Jvm.MethodName)) ∈ lw_all := lw_g (lw_at lw_m6 184 rfl) rfl
theorem q1489 : (Jvm.Cond.instanceMethod ({ cls := "IdealCourt", name := "quotient", desc := "(II)I" } : Jvm.MethodName)) ∈ lw_all := lw_g (lw_at lw_m6 191 rfl) rfl
theorem q1490 : (Jvm.Cond.selects "IdealCourt" ({ cls := "IdealCourt", name := "quotient", desc := "(II)I" } : Jvm.MethodName) ({ cls := "IdealCourt", name := "quotient", desc := "(II)I" } : Jvm.MethodName)) ∈ lw_all := lw_g (lw_at lw_m6 192 rfl) rfl
theorem q1491 : (Jvm.Cond.codeWith ({ cls := "IdealCourt", name := "quotient", desc := "(II)I" } : Jvm.MethodName) prog_1_method_50_code (4 : Nat) (Option.some Jvm.ClassFile.FieldType.int) [((0 : Nat), (40 : Nat), (41 : Nat), (7 : Nat))]) ∈ lw_all := lw_g (lw_at lw_m6 193 rfl) rfl
theorem q1493 : (Jvm.Cond.instanceMethod ({ cls := "IdealCourt", name := "rest", desc := "(I)I" } : Jvm.MethodName)) ∈ lw_all := lw_g (lw_at lw_m6 195 rfl) rfl
theorem q1494 : (Jvm.Cond.selects "IdealCourt" ({ cls := "IdealCourt", name := "rest", desc := "(I)I" } : Jvm.MethodName) ({ cls := "IdealCourt", name := "rest", desc := "(I)I" } : Jvm.MethodName)) ∈ lw_all := lw_g (lw_at lw_m6 196 rfl) rfl
theorem q1495 : (Jvm.Cond.codeWith ({ cls := "IdealCourt", name := "rest", desc := "(I)I" } : Jvm.MethodName) prog_1_method_51_code (3 : Nat) (Option.some Jvm.ClassFile.FieldType.int) [((0 : Nat), (25 : Nat), (26 : Nat), (7 : Nat))]) ∈ lw_all := lw_g (lw_at lw_m6 197 rfl) rfl
theorem q1497 : (Jvm.Cond.instanceMethod ({ cls := "IdealCourt", name := "roots", desc := "(I)I" } : Jvm.MethodName)) ∈ lw_all := lw_g (lw_at lw_m6 199 rfl) rfl
theorem q1498 : (Jvm.Cond.selects "IdealCourt" ({ cls := "IdealCourt", name := "roots", desc := "(I)I" } : Jvm.MethodName) ({ cls := "IdealCourt", name := "roots", desc := "(I)I" } : Jvm.MethodName)) ∈ lw_all := lw_g (lw_at lw_m6 200 rfl) rfl
theorem q1499 : (Jvm.Cond.codeWith ({ cls := "IdealCourt", name := "roots", desc := "(I)I" } : Jvm.MethodName) prog_1_method_54_code (5 : Nat) (Option.some Jvm.ClassFile.FieldType.int) [((0 : Nat), (44 : Nat), (147 : Nat), (7 : Nat)), ((45 : Nat), (146 : Nat), (147 : Nat), (7 : Nat))]) ∈ lw_all := lw_g (lw_at lw_m6 201 rfl) rfl
theorem q1500 : (Jvm.Cond.methodLink "IdealCourt" (507 : Nat) ({ cls := "IdealCourt", name := "single", desc := "(LIdealCourt$Poly;[I)I" } : Jvm.MethodName)) ∈ lw_all := lw_g (lw_at lw_m6 202 rfl) rfl
theorem q1501 : (Jvm.Cond.privateMethod ({ cls := "IdealCourt", name := "single", desc := "(LIdealCourt$Poly;[I)I" } : Jvm.MethodName)) ∈ lw_tbl := lw_at lw_m6 203 rfl
theorem q1502 : (Jvm.Cond.instanceMethod ({ cls := "IdealCourt", name := "single", desc := "(LIdealCourt$Poly;[I)I" } : Jvm.MethodName)) ∈ lw_all := lw_g (lw_at lw_m6 204 rfl) rfl
theorem q1503 : (Jvm.Cond.code ({ cls := "IdealCourt", name := "single", desc := "(LIdealCourt$Poly;[I)I" } : Jvm.MethodName) prog_1_method_52_code (7 : Nat) (Option.some Jvm.ClassFile.FieldType.int)) ∈ lw_all := lw_g (lw_at lw_m6 205 rfl) rfl
theorem q1504 : (Jvm.Cond.methodLink "IdealCourt" (498 : Nat) ({ cls := "java/lang/Math", name := "max", desc := "(II)I" } : Jvm.MethodName)) ∈ lw_all := lw_g (lw_at lw_m6 206 rfl) rfl
theorem q1505 : (Jvm.Cond.methodLink "IdealCourt" (511 : Nat) ({ cls := "IdealCourt$Chain", name := "begin", desc := "([II)V" } : Jvm.MethodName)) ∈ lw_all := lw_g (lw_at lw_m6 207 rfl) rfl
theorem q1539 : (Jvm.Cond.methodLink "IdealCourt" (527 : Nat) ({ cls := "IdealCourt", name := "goOn", desc := "()Z" } : Jvm.MethodName)) ∈ lw_all := lw_g (lw_at lw_m7 1 rfl) rfl
theorem q1540 : (Jvm.Cond.privateMethod ({ cls := "IdealCourt", name := "goOn", desc := "()Z" } : Jvm.MethodName)) ∈ lw_tbl := lw_at lw_m7 2 rfl
theorem q1541 : (Jvm.Cond.instanceMethod ({ cls := "IdealCourt", name := "goOn", desc := "()Z" } : Jvm.MethodName)) ∈ lw_all := lw_g (lw_at lw_m7 3 rfl) rfl
theorem q1542 : (Jvm.Cond.code ({ cls := "IdealCourt", name := "goOn", desc := "()Z" } : Jvm.MethodName) prog_1_method_55_code (2 : Nat) (Option.some Jvm.ClassFile.FieldType.boolean)) ∈ lw_all := lw_g (lw_at lw_m7 4 rfl) rfl
theorem q1543 : (Jvm.Cond.methodLink "IdealCourt" (530 : Nat) ({ cls := "IdealCourt", name := "within", desc := "(LIdealCourt$Chain;LIdealCourt$Real;)I" } : Jvm.MethodName)) ∈ lw_all := lw_g (lw_at lw_m7 5 rfl) rfl
theorem q1544 : (Jvm.Cond.privateMethod ({ cls := "IdealCourt", name := "within", desc := "(LIdealCourt$Chain;LIdealCourt$Real;)I" } : Jvm.MethodName)) ∈ lw_tbl := lw_at lw_m7 6 rfl
theorem q1545 : (Jvm.Cond.instanceMethod ({ cls := "IdealCourt", name := "within", desc := "(LIdealCourt$Chain;LIdealCourt$Real;)I" } : Jvm.MethodName)) ∈ lw_all := lw_g (lw_at lw_m7 7 rfl) rfl
theorem q1546 : (Jvm.Cond.code ({ cls := "IdealCourt", name := "within", desc := "(LIdealCourt$Chain;LIdealCourt$Real;)I" } : Jvm.MethodName) prog_1_method_53_code (3 : Nat) (Option.some Jvm.ClassFile.FieldType.int)) ∈ lw_all := lw_g (lw_at lw_m7 8 rfl) rfl
theorem q1547 : (Jvm.Cond.methodLink "IdealCourt" (503 : Nat) ({ cls := "IdealCourt$Chain", name := "changes", desc := "(LIdealCourt$Whole;I)I" } : Jvm.MethodName)) ∈ lw_all := lw_g (lw_at lw_m7 9 rfl) rfl
theorem q1556 : (Jvm.Cond.methodLink "IdealCourt" (534 : Nat) ({ cls := "IdealCourt$Real", name := "half", desc := "(I)V" } : Jvm.MethodName)) ∈ lw_all := lw_g (lw_at lw_m7 18 rfl) rfl
theorem q1560 : (Jvm.Cond.methodLink "IdealCourt" (537 : Nat) ({ cls := "IdealCourt$Real", name := "be", desc := "(LIdealCourt$Real;)V" } : Jvm.MethodName)) ∈ lw_all := lw_g (lw_at lw_m7 22 rfl) rfl
theorem q1564 : (Jvm.Cond.methodLink "IdealCourt" (540 : Nat) ({ cls := "IdealCourt$Reckoner", name := "add", desc := "(LIdealCourt$Whole;LIdealCourt$Whole;LIdealCourt$Whole;I)V" } : Jvm.MethodName)) ∈ lw_all := lw_g (lw_at lw_m7 26 rfl) rfl
theorem q1566 : (Jvm.Cond.instanceMethod ({ cls := "IdealCourt", name := "root", desc := "(II)I" } : Jvm.MethodName)) ∈ lw_all := lw_g (lw_at lw_m7 28 rfl) rfl
theorem q1567 : (Jvm.Cond.selects "IdealCourt" ({ cls := "IdealCourt", name := "root", desc := "(II)I" } : Jvm.MethodName) ({ cls := "IdealCourt", name := "root", desc := "(II)I" } : Jvm.MethodName)) ∈ lw_all := lw_g (lw_at lw_m7 29 rfl) rfl
theorem q1568 : (Jvm.Cond.codeWith ({ cls := "IdealCourt", name := "root", desc := "(II)I" } : Jvm.MethodName) prog_1_method_56_code (4 : Nat) (Option.some Jvm.ClassFile.FieldType.int) [((0 : Nat), (54 : Nat), (55 : Nat), (7 : Nat))]) ∈ lw_all := lw_g (lw_at lw_m7 30 rfl) rfl
theorem q1569 : (Jvm.Cond.methodLink "IdealCourt" (543 : Nat) ({ cls := "IdealCourt", name := "stands", desc := "(LIdealCourt$Stand;LIdealCourt$Real;)LIdealCourt$Real;" } : Jvm.MethodName)) ∈ lw_all := lw_g (lw_at lw_m7 31 rfl) rfl
theorem q1570 : (Jvm.Cond.privateMethod ({ cls := "IdealCourt", name := "stands", desc := "(LIdealCourt$Stand;LIdealCourt$Real;)LIdealCourt$Real;" } : Jvm.MethodName)) ∈ lw_tbl := lw_at lw_m7 32 rfl
theorem q1571 : (Jvm.Cond.instanceMethod ({ cls := "IdealCourt", name := "stands", desc := "(LIdealCourt$Stand;LIdealCourt$Real;)LIdealCourt$Real;" } : Jvm.MethodName)) ∈ lw_all := lw_g (lw_at lw_m7 33 rfl) rfl
theorem q1572 : (Jvm.Cond.code ({ cls := "IdealCourt", name := "stands", desc := "(LIdealCourt$Stand;LIdealCourt$Real;)LIdealCourt$Real;" } : Jvm.MethodName) prog_1_method_57_code (3 : Nat) (Option.some (Jvm.ClassFile.FieldType.object "IdealCourt$Real"))) ∈ lw_all := lw_g (lw_at lw_m7 34 rfl) rfl
theorem q1574 : (Jvm.Cond.instanceMethod ({ cls := "IdealCourt", name := "narrow", desc := "(I)I" } : Jvm.MethodName)) ∈ lw_all := lw_g (lw_at lw_m7 36 rfl) rfl
theorem q1575 : (Jvm.Cond.selects "IdealCourt" ({ cls := "IdealCourt", name := "narrow", desc := "(I)I" } : Jvm.MethodName) ({ cls := "IdealCourt", name := "narrow", desc := "(I)I" } : Jvm.MethodName)) ∈ lw_all := lw_g (lw_at lw_m7 37 rfl) rfl
theorem q1576 : (Jvm.Cond.codeWith ({ cls := "IdealCourt", name := "narrow", desc := "(I)I" } : Jvm.MethodName) prog_1_method_59_code (4 : Nat) (Option.some Jvm.ClassFile.FieldType.int) [((0 : Nat), (63 : Nat), (64 : Nat), (7 : Nat))]) ∈ lw_all := lw_g (lw_at lw_m7 38 rfl) rfl
theorem q1577 : (Jvm.Cond.methodLink "IdealCourt" (549 : Nat) ({ cls := "IdealCourt", name := "real", desc := "(I)LIdealCourt$Real;" } : Jvm.MethodName)) ∈ lw_all := lw_g (lw_at lw_m7 39 rfl) rfl
theorem q1578 : (Jvm.Cond.privateMethod ({ cls := "IdealCourt", name := "real", desc := "(I)LIdealCourt$Real;" } : Jvm.MethodName)) ∈ lw_tbl := lw_at lw_m7 40 rfl
theorem q1579 : (Jvm.Cond.instanceMethod ({ cls := "IdealCourt", name := "real", desc := "(I)LIdealCourt$Real;" } : Jvm.MethodName)) ∈ lw_all := lw_g (lw_at lw_m7 41 rfl) rfl
theorem q1580 : (Jvm.Cond.codeWith ({ cls := "IdealCourt", name := "real", desc := "(I)LIdealCourt$Real;" } : Jvm.MethodName) prog_1_method_10_code (4 : Nat) (Option.some (Jvm.ClassFile.FieldType.object "IdealCourt$Real")) [((6 : Nat), (10 : Nat), (11 : Nat), (213 : Nat))]) ∈ lw_all := lw_g (lw_at lw_m7 42 rfl) rfl
theorem q1581 : (Jvm.Cond.methodLink "IdealCourt" (552 : Nat) ({ cls := "IdealCourt", name := "halfOf", desc := "(LIdealCourt$Real;)I" } : Jvm.MethodName)) ∈ lw_all := lw_g (lw_at lw_m7 43 rfl) rfl
theorem q1582 : (Jvm.Cond.privateMethod ({ cls := "IdealCourt", name := "halfOf", desc := "(LIdealCourt$Real;)I" } : Jvm.MethodName)) ∈ lw_tbl := lw_at lw_m7 44 rfl
theorem q1583 : (Jvm.Cond.instanceMethod ({ cls := "IdealCourt", name := "halfOf", desc := "(LIdealCourt$Real;)I" } : Jvm.MethodName)) ∈ lw_all := lw_g (lw_at lw_m7 45 rfl) rfl
theorem q1584 : (Jvm.Cond.code ({ cls := "IdealCourt", name := "halfOf", desc := "(LIdealCourt$Real;)I" } : Jvm.MethodName) prog_1_method_58_code (2 : Nat) (Option.some Jvm.ClassFile.FieldType.int)) ∈ lw_all := lw_g (lw_at lw_m7 46 rfl) rfl
theorem q1586 : (Jvm.Cond.instanceMethod ({ cls := "IdealCourt", name := "sign", desc := "(II)I" } : Jvm.MethodName)) ∈ lw_all := lw_g (lw_at lw_m7 48 rfl) rfl
theorem q1587 : (Jvm.Cond.selects "IdealCourt" ({ cls := "IdealCourt", name := "sign", desc := "(II)I" } : Jvm.MethodName) ({ cls := "IdealCourt", name := "sign", desc := "(II)I" } : Jvm.MethodName)) ∈ lw_all := lw_g (lw_at lw_m7 49 rfl) rfl
theorem q1588 : (Jvm.Cond.codeWith ({ cls := "IdealCourt", name := "sign", desc := "(II)I" } : Jvm.MethodName) prog_1_method_60_code (6 : Nat) (Option.some Jvm.ClassFile.FieldType.int) [((0 : Nat), (21 : Nat), (217 : Nat), (7 : Nat)), ((22 : Nat), (52 : Nat), (217 : Nat), (7 : Nat)), ((53 : Nat), (90 : Nat), (217 : Nat), (7 : Nat)), ((91 : Nat), (216 : Nat), (217 : Nat), (7 : Nat))]) ∈ lw_all := lw_g (lw_at lw_m7 50 rfl) rfl
theorem q1589 : (Jvm.Cond.methodLink "IdealCourt" (556 : Nat) ({ cls := "IdealCourt$Chain", name := "common", desc := "([II[II)V" } : Jvm.MethodName)) ∈ lw_all := lw_g (lw_at lw_m7 51 rfl) rfl
theorem q1593 : (Jvm.Cond.methodLink "IdealCourt" (560 : Nat) ({ cls := "IdealCourt$Chain", name := "only", desc := "([II)V" } : Jvm.MethodName)) ∈ lw_all := lw_g (lw_at lw_m7 55 rfl) rfl
theorem q1597 : (Jvm.Cond.methodLink "IdealCourt" (563 : Nat) ({ cls := "IdealCourt$Chain", name := "sign", desc := "(LIdealCourt$Whole;I)I" } : Jvm.MethodName)) ∈ lw_all := lw_g (lw_at lw_m7 59 rfl) rfl
theorem q1602 : (Jvm.Cond.instanceMethod ({ cls := "IdealCourt", name := "same", desc := "(II)I" } : Jvm.MethodName)) ∈ lw_all := lw_g (lw_at lw_m7 64 rfl) rfl
theorem q1603 : (Jvm.Cond.selects "IdealCourt" ({ cls := "IdealCourt", name := "same", desc := "(II)I" } : Jvm.MethodName) ({ cls := "IdealCourt", name := "same", desc := "(II)I" } : Jvm.MethodName)) ∈ lw_all := lw_g (lw_at lw_m7 65 rfl) rfl
theorem q1604 : (Jvm.Cond.codeWith ({ cls := "IdealCourt", name := "same", desc := "(II)I" } : Jvm.MethodName) prog_1_method_61_code (8 : Nat) (Option.some Jvm.ClassFile.FieldType.int) [((0 : Nat), (30 : Nat), (142 : Nat), (7 : Nat)), ((31 : Nat), (141 : Nat), (142 : Nat), (7 : Nat))]) ∈ lw_all := lw_g (lw_at lw_m7 66 rfl) rfl
theorem q1605 : (Jvm.Cond.methodLink "IdealCourt" (565 : Nat) ({ cls := "IdealCourt$Poly", name := "isLike", desc := "(LIdealCourt$Poly;)Z" } : Jvm.MethodName)) ∈ lw_all := lw_g (lw_at lw_m7 67 rfl) rfl
theorem q1613 : (Jvm.Cond.methodLink "IdealCourt" (569 : Nat) ({ cls := "IdealCourt$Reckoner", name := "against", desc := "(LIdealCourt$Whole;LIdealCourt$Whole;)I" } : Jvm.MethodName)) ∈ lw_all := lw_g (lw_at lw_m7 75 rfl) rfl
theorem q1615 : (Jvm.Cond.instanceMethod ({ cls := "IdealCourt", name := "kind", desc := "(I)I" } : Jvm.MethodName)) ∈ lw_all := lw_g (lw_at lw_m7 77 rfl) rfl
theorem q1616 : (Jvm.Cond.selects "IdealCourt" ({ cls := "IdealCourt", name := "kind", desc := "(I)I" } : Jvm.MethodName) ({ cls := "IdealCourt", name := "kind", desc := "(I)I" } : Jvm.MethodName)) ∈ lw_all := lw_g (lw_at lw_m7 78 rfl) rfl
theorem q1617 : (Jvm.Cond.codeWith ({ cls := "IdealCourt", name := "kind", desc := "(I)I" } : Jvm.MethodName) prog_1_method_62_code (3 : Nat) (Option.some Jvm.ClassFile.FieldType.int) [((0 : Nat), (9 : Nat), (10 : Nat), (7 : Nat))]) ∈ lw_all := lw_g (lw_at lw_m7 79 rfl) rfl
theorem q1619 : (Jvm.Cond.instanceMethod ({ cls := "IdealCourt", name := "put", desc := "(II)I" } : Jvm.MethodName)) ∈ lw_all := lw_g (lw_at lw_m7 81 rfl) rfl
theorem q1620 : (Jvm.Cond.selects "IdealCourt" ({ cls := "IdealCourt", name := "put", desc := "(II)I" } : Jvm.MethodName) ({ cls := "IdealCourt", name := "put", desc := "(II)I" } : Jvm.MethodName)) ∈ lw_all := lw_g (lw_at lw_m7 82 rfl) rfl
theorem q1621 : (Jvm.Cond.codeWith ({ cls := "IdealCourt", name := "put", desc := "(II)I" } : Jvm.MethodName) prog_1_method_63_code (7 : Nat) (Option.some Jvm.ClassFile.FieldType.int) [((0 : Nat), (97 : Nat), (98 : Nat), (7 : Nat))]) ∈ lw_all := lw_g (lw_at lw_m7 83 rfl) rfl
theorem q1623 : (Jvm.Cond.instanceMethod ({ cls := "IdealCourt", name := "gone", desc := "(I)I" } : Jvm.MethodName)) ∈ lw_all := lw_g (lw_at lw_m7 85 rfl) rfl
theorem q1624 : (Jvm.Cond.selects "IdealCourt" ({ cls := "IdealCourt", name := "gone", desc := "(I)I" } : Jvm.MethodName) ({ cls := "IdealCourt", name := "gone", desc := "(I)I" } : Jvm.MethodName)) ∈ lw_all := lw_g (lw_at lw_m7 86 rfl) rfl
theorem q1625 : (Jvm.Cond.codeWith ({ cls := "IdealCourt", name := "gone", desc := "(I)I" } : Jvm.MethodName) prog_1_method_64_code (3 : Nat) (Option.some Jvm.ClassFile.FieldType.int) [((0 : Nat), (10 : Nat), (11 : Nat), (7 : Nat))]) ∈ lw_all := lw_g (lw_at lw_m7 87 rfl) rfl
theorem q1627 : (Jvm.Cond.instanceMethod ({ cls := "IdealCourt", name := "keep", desc := "(I)I" } : Jvm.MethodName)) ∈ lw_all := lw_g (lw_at lw_m7 89 rfl) rfl
theorem q1628 : (Jvm.Cond.selects "IdealCourt" ({ cls := "IdealCourt", name := "keep", desc := "(I)I" } : Jvm.MethodName) ({ cls := "IdealCourt", name := "keep", desc := "(I)I" } : Jvm.MethodName)) ∈ lw_all := lw_g (lw_at lw_m7 90 rfl) rfl
theorem q1629 : (Jvm.Cond.codeWith ({ cls := "IdealCourt", name := "keep", desc := "(I)I" } : Jvm.MethodName) prog_1_method_65_code (3 : Nat) (Option.some Jvm.ClassFile.FieldType.int) [((0 : Nat), (41 : Nat), (42 : Nat), (7 : Nat))]) ∈ lw_all := lw_g (lw_at lw_m7 91 rfl) rfl
theorem q1631 : (Jvm.Cond.instanceMethod ({ cls := "IdealCourt", name := "raise", desc := "(I)I" } : Jvm.MethodName)) ∈ lw_all := lw_g (lw_at lw_m7 93 rfl) rfl
theorem q1632 : (Jvm.Cond.selects "IdealCourt" ({ cls := "IdealCourt", name := "raise", desc := "(I)I" } : Jvm.MethodName) ({ cls := "IdealCourt", name := "raise", desc := "(I)I" } : Jvm.MethodName)) ∈ lw_all := lw_g (lw_at lw_m7 94 rfl) rfl
theorem q1633 : (Jvm.Cond.codeWith ({ cls := "IdealCourt", name := "raise", desc := "(I)I" } : Jvm.MethodName) prog_1_method_67_code (3 : Nat) (Option.some Jvm.ClassFile.FieldType.int) [((0 : Nat), (14 : Nat), (15 : Nat), (7 : Nat))]) ∈ lw_all := lw_g (lw_at lw_m7 95 rfl) rfl
theorem q1634 : (Jvm.Cond.methodLink "IdealCourt" (573 : Nat) ({ cls := "IdealCourt", name := "raised", desc := "(Ljava/lang/Object;)I" } : Jvm.MethodName)) ∈ lw_all := lw_g (lw_at lw_m7 96 rfl) rfl
theorem q1635 : (Jvm.Cond.privateMethod ({ cls := "IdealCourt", name := "raised", desc := "(Ljava/lang/Object;)I" } : Jvm.MethodName)) ∈ lw_tbl := lw_at lw_m7 97 rfl
theorem q1636 : (Jvm.Cond.instanceMethod ({ cls := "IdealCourt", name := "raised", desc := "(Ljava/lang/Object;)I" } : Jvm.MethodName)) ∈ lw_all := lw_g (lw_at lw_m7 98 rfl) rfl
theorem q1637 : (Jvm.Cond.codeWith ({ cls := "IdealCourt", name := "raised", desc := "(Ljava/lang/Object;)I" } : Jvm.MethodName) prog_1_method_68_code (5 : Nat) (Option.some Jvm.ClassFile.FieldType.int) [((0 : Nat), (5 : Nat), (8 : Nat), (213 : Nat)), ((26 : Nat), (31 : Nat), (32 : Nat), (7 : Nat))]) ∈ lw_all := lw_g (lw_at lw_m7 99 rfl) rfl
theorem q1638 : (Jvm.Cond.methodLink "IdealCourt" (577 : Nat) ({ cls := "IdealCourt", name := "thrown", desc := "(LIdealCourt$Failure;)I" } : Jvm.MethodName)) ∈ lw_all := lw_g (lw_at lw_m7 100 rfl) rfl
theorem q1639 : (Jvm.Cond.privateMethod ({ cls := "IdealCourt", name := "thrown", desc := "(LIdealCourt$Failure;)I" } : Jvm.MethodName)) ∈ lw_tbl := lw_at lw_m7 101 rfl
theorem q1640 : (Jvm.Cond.instanceMethod ({ cls := "IdealCourt", name := "thrown", desc := "(LIdealCourt$Failure;)I" } : Jvm.MethodName)) ∈ lw_all := lw_g (lw_at lw_m7 102 rfl) rfl
theorem q1641 : (Jvm.Cond.codeWith ({ cls := "IdealCourt", name := "thrown", desc := "(LIdealCourt$Failure;)I" } : Jvm.MethodName) prog_1_method_66_code (3 : Nat) (Option.some Jvm.ClassFile.FieldType.int) [((0 : Nat), (2 : Nat), (2 : Nat), (208 : Nat))]) ∈ lw_all := lw_g (lw_at lw_m7 103 rfl) rfl
theorem q1643 : (Jvm.Cond.instanceMethod ({ cls := "IdealCourt", name := "found", desc := "(I)I" } : Jvm.MethodName)) ∈ lw_all := lw_g (lw_at lw_m7 105 rfl) rfl
theorem q1644 : (Jvm.Cond.selects "IdealCourt" ({ cls := "IdealCourt", name := "found", desc := "(I)I" } : Jvm.MethodName) ({ cls := "IdealCourt", name := "found", desc := "(I)I" } : Jvm.MethodName)) ∈ lw_all := lw_g (lw_at lw_m7 106 rfl) rfl
theorem q1645 : (Jvm.Cond.codeWith ({ cls := "IdealCourt", name := "found", desc := "(I)I" } : Jvm.MethodName) prog_1_method_69_code (3 : Nat) (Option.some Jvm.ClassFile.FieldType.int) [((0 : Nat), (29 : Nat), (30 : Nat), (7 : Nat))]) ∈ lw_all := lw_g (lw_at lw_m7 107 rfl) rfl
theorem in_X0 : ∀ w ∈ wsX00, w ∈ lw_all := lw_in wsX00 [645, 647, 649, 651, 653, 655, 657, 659, 661, 663, 665, 667, 669, 671, 673, 675, 677, 679, 681, 683, 685, 687, 689, 691, 693, 695, 697, 699, 701, 703, 705, 707, 709, 711, 713, 715, 717, 719] (by decide +kernel) (by decide +kernel)

