set_option maxRecDepth 100000
abbrev cX16_gatherColumns : ByteArray := prog_21_method_58_code
def yX16_gatherColumns : MethodName := ⟨RX16, "gatherColumns", "()V"⟩
def dkwX16_gatherColumns_5 : List UInt8 := [180, 1, 23, 27, 46, 27, 79, 132, 1, 1, 167, 255, 233, 177]
abbrev dktX16_gatherColumns_5 : List UInt8 := dkwX16_gatherColumns_5 ++ []
def dkwX16_gatherColumns_4 : List UInt8 := [181, 2, 17, 132, 1, 1, 167, 255, 163, 3, 60, 27, 42, 180, 2, 17, 162, 0, 21, 42, 180, 1, 26, 42]
abbrev dktX16_gatherColumns_4 : List UInt8 := dkwX16_gatherColumns_4 ++ dktX16_gatherColumns_5
def dkwX16_gatherColumns_3 : List UInt8 := [4, 100, 46, 79, 132, 2, 255, 167, 255, 212, 42, 180, 1, 23, 28, 27, 79, 42, 89, 180, 2, 17, 4, 96]
abbrev dktX16_gatherColumns_3 : List UInt8 := dkwX16_gatherColumns_3 ++ dktX16_gatherColumns_4
def dkwX16_gatherColumns_2 : List UInt8 := [42, 180, 2, 23, 42, 180, 2, 26, 184, 1, 203, 156, 0, 23, 42, 180, 1, 23, 28, 42, 180, 1, 23, 28]
abbrev dktX16_gatherColumns_2 : List UInt8 := dkwX16_gatherColumns_2 ++ dktX16_gatherColumns_3
def dkwX16_gatherColumns_1 : List UInt8 := [164, 0, 6, 167, 0, 72, 42, 180, 2, 17, 61, 28, 158, 0, 46, 42, 180, 1, 23, 28, 4, 100, 46, 27]
abbrev dktX16_gatherColumns_1 : List UInt8 := dkwX16_gatherColumns_1 ++ dktX16_gatherColumns_2
def dkwX16_gatherColumns_0 : List UInt8 := [42, 3, 181, 2, 17, 3, 60, 27, 17, 16, 0, 162, 0, 92, 27, 184, 0, 125, 42, 180, 2, 20]
abbrev dktX16_gatherColumns_0 : List UInt8 := dkwX16_gatherColumns_0 ++ dktX16_gatherColumns_1
theorem dksX16_gatherColumns_0 : cX16_gatherColumns.data.toList.drop 0 = dktX16_gatherColumns_0 := by decide +kernel
theorem dksX16_gatherColumns_1 : cX16_gatherColumns.data.toList.drop 22 = dktX16_gatherColumns_1 := dk_seg dksX16_gatherColumns_0 22 rfl rfl
theorem dksX16_gatherColumns_2 : cX16_gatherColumns.data.toList.drop 46 = dktX16_gatherColumns_2 := dk_seg dksX16_gatherColumns_1 24 rfl rfl
theorem dksX16_gatherColumns_3 : cX16_gatherColumns.data.toList.drop 70 = dktX16_gatherColumns_3 := dk_seg dksX16_gatherColumns_2 24 rfl rfl
theorem dksX16_gatherColumns_4 : cX16_gatherColumns.data.toList.drop 94 = dktX16_gatherColumns_4 := dk_seg dksX16_gatherColumns_3 24 rfl rfl
theorem dksX16_gatherColumns_5 : cX16_gatherColumns.data.toList.drop 118 = dktX16_gatherColumns_5 := dk_seg dksX16_gatherColumns_4 24 rfl rfl
theorem dX16_gatherColumns_0 : decode cX16_gatherColumns 0 = .ok (.aload_n 0, 1) := dk_42 (dk_at dksX16_gatherColumns_0 0 rfl rfl)
theorem dX16_gatherColumns_1 : decode cX16_gatherColumns 1 = .ok (.iconst 0, 1) := dk_3 (dk_at dksX16_gatherColumns_0 1 rfl rfl)
theorem dX16_gatherColumns_2 : decode cX16_gatherColumns 2 = .ok (.putfield 529, 3) := dk_181 2 17 (dk_at dksX16_gatherColumns_0 2 rfl rfl)
theorem dX16_gatherColumns_5 : decode cX16_gatherColumns 5 = .ok (.iconst 0, 1) := dk_3 (dk_at dksX16_gatherColumns_0 5 rfl rfl)
theorem dX16_gatherColumns_6 : decode cX16_gatherColumns 6 = .ok (.istore_n 1, 1) := dk_60 (dk_at dksX16_gatherColumns_0 6 rfl rfl)
theorem dX16_gatherColumns_7 : decode cX16_gatherColumns 7 = .ok (.iload_n 1, 1) := dk_27 (dk_at dksX16_gatherColumns_0 7 rfl rfl)
theorem dX16_gatherColumns_8 : decode cX16_gatherColumns 8 = .ok (.sipush 4096, 3) := dk_17 16 0 (dk_at dksX16_gatherColumns_0 8 rfl rfl)
theorem dX16_gatherColumns_11 : decode cX16_gatherColumns 11 = .ok (.if_icmp .ge 92, 3) := dk_162 0 92 (dk_at dksX16_gatherColumns_0 11 rfl rfl)
theorem dX16_gatherColumns_14 : decode cX16_gatherColumns 14 = .ok (.iload_n 1, 1) := dk_27 (dk_at dksX16_gatherColumns_0 14 rfl rfl)
theorem dX16_gatherColumns_15 : decode cX16_gatherColumns 15 = .ok (.invokestatic 125, 3) := dk_184 0 125 (dk_at dksX16_gatherColumns_0 15 rfl rfl)
theorem dX16_gatherColumns_18 : decode cX16_gatherColumns 18 = .ok (.aload_n 0, 1) := dk_42 (dk_at dksX16_gatherColumns_0 18 rfl rfl)
theorem dX16_gatherColumns_19 : decode cX16_gatherColumns 19 = .ok (.getfield 532, 3) := dk_180 2 20 (dk_at dksX16_gatherColumns_0 19 rfl rfl)
theorem dX16_gatherColumns_22 : decode cX16_gatherColumns 22 = .ok (.if_icmp .le 6, 3) := dk_164 0 6 (dk_at dksX16_gatherColumns_1 0 rfl rfl)
theorem dX16_gatherColumns_25 : decode cX16_gatherColumns 25 = .ok (.goto 72, 3) := dk_167 0 72 (dk_at dksX16_gatherColumns_1 3 rfl rfl)
theorem dX16_gatherColumns_28 : decode cX16_gatherColumns 28 = .ok (.aload_n 0, 1) := dk_42 (dk_at dksX16_gatherColumns_1 6 rfl rfl)
theorem dX16_gatherColumns_29 : decode cX16_gatherColumns 29 = .ok (.getfield 529, 3) := dk_180 2 17 (dk_at dksX16_gatherColumns_1 7 rfl rfl)
theorem dX16_gatherColumns_32 : decode cX16_gatherColumns 32 = .ok (.istore_n 2, 1) := dk_61 (dk_at dksX16_gatherColumns_1 10 rfl rfl)
theorem dX16_gatherColumns_33 : decode cX16_gatherColumns 33 = .ok (.iload_n 2, 1) := dk_28 (dk_at dksX16_gatherColumns_1 11 rfl rfl)
theorem dX16_gatherColumns_34 : decode cX16_gatherColumns 34 = .ok (.ifCond .le 46, 3) := dk_158 0 46 (dk_at dksX16_gatherColumns_1 12 rfl rfl)
theorem dX16_gatherColumns_37 : decode cX16_gatherColumns 37 = .ok (.aload_n 0, 1) := dk_42 (dk_at dksX16_gatherColumns_1 15 rfl rfl)
theorem dX16_gatherColumns_38 : decode cX16_gatherColumns 38 = .ok (.getfield 279, 3) := dk_180 1 23 (dk_at dksX16_gatherColumns_1 16 rfl rfl)
theorem dX16_gatherColumns_41 : decode cX16_gatherColumns 41 = .ok (.iload_n 2, 1) := dk_28 (dk_at dksX16_gatherColumns_1 19 rfl rfl)
theorem dX16_gatherColumns_42 : decode cX16_gatherColumns 42 = .ok (.iconst 1, 1) := dk_4 (dk_at dksX16_gatherColumns_1 20 rfl rfl)
theorem dX16_gatherColumns_43 : decode cX16_gatherColumns 43 = .ok (.isub, 1) := dk_100 (dk_at dksX16_gatherColumns_1 21 rfl rfl)
theorem dX16_gatherColumns_44 : decode cX16_gatherColumns 44 = .ok (.iaload, 1) := dk_46 (dk_at dksX16_gatherColumns_1 22 rfl rfl)
theorem dX16_gatherColumns_45 : decode cX16_gatherColumns 45 = .ok (.iload_n 1, 1) := dk_27 (dk_at dksX16_gatherColumns_1 23 rfl rfl)
theorem dX16_gatherColumns_46 : decode cX16_gatherColumns 46 = .ok (.aload_n 0, 1) := dk_42 (dk_at dksX16_gatherColumns_2 0 rfl rfl)
theorem dX16_gatherColumns_47 : decode cX16_gatherColumns 47 = .ok (.getfield 535, 3) := dk_180 2 23 (dk_at dksX16_gatherColumns_2 1 rfl rfl)
theorem dX16_gatherColumns_50 : decode cX16_gatherColumns 50 = .ok (.aload_n 0, 1) := dk_42 (dk_at dksX16_gatherColumns_2 4 rfl rfl)
theorem dX16_gatherColumns_51 : decode cX16_gatherColumns 51 = .ok (.getfield 538, 3) := dk_180 2 26 (dk_at dksX16_gatherColumns_2 5 rfl rfl)
theorem dX16_gatherColumns_54 : decode cX16_gatherColumns 54 = .ok (.invokestatic 459, 3) := dk_184 1 203 (dk_at dksX16_gatherColumns_2 8 rfl rfl)
theorem dX16_gatherColumns_57 : decode cX16_gatherColumns 57 = .ok (.ifCond .ge 23, 3) := dk_156 0 23 (dk_at dksX16_gatherColumns_2 11 rfl rfl)
theorem dX16_gatherColumns_60 : decode cX16_gatherColumns 60 = .ok (.aload_n 0, 1) := dk_42 (dk_at dksX16_gatherColumns_2 14 rfl rfl)
theorem dX16_gatherColumns_61 : decode cX16_gatherColumns 61 = .ok (.getfield 279, 3) := dk_180 1 23 (dk_at dksX16_gatherColumns_2 15 rfl rfl)
theorem dX16_gatherColumns_64 : decode cX16_gatherColumns 64 = .ok (.iload_n 2, 1) := dk_28 (dk_at dksX16_gatherColumns_2 18 rfl rfl)
theorem dX16_gatherColumns_65 : decode cX16_gatherColumns 65 = .ok (.aload_n 0, 1) := dk_42 (dk_at dksX16_gatherColumns_2 19 rfl rfl)
theorem dX16_gatherColumns_66 : decode cX16_gatherColumns 66 = .ok (.getfield 279, 3) := dk_180 1 23 (dk_at dksX16_gatherColumns_2 20 rfl rfl)
theorem dX16_gatherColumns_69 : decode cX16_gatherColumns 69 = .ok (.iload_n 2, 1) := dk_28 (dk_at dksX16_gatherColumns_2 23 rfl rfl)
theorem dX16_gatherColumns_70 : decode cX16_gatherColumns 70 = .ok (.iconst 1, 1) := dk_4 (dk_at dksX16_gatherColumns_3 0 rfl rfl)
theorem dX16_gatherColumns_71 : decode cX16_gatherColumns 71 = .ok (.isub, 1) := dk_100 (dk_at dksX16_gatherColumns_3 1 rfl rfl)
theorem dX16_gatherColumns_72 : decode cX16_gatherColumns 72 = .ok (.iaload, 1) := dk_46 (dk_at dksX16_gatherColumns_3 2 rfl rfl)
theorem dX16_gatherColumns_73 : decode cX16_gatherColumns 73 = .ok (.iastore, 1) := dk_79 (dk_at dksX16_gatherColumns_3 3 rfl rfl)
theorem dX16_gatherColumns_74 : decode cX16_gatherColumns 74 = .ok (.iinc 2 (-1), 3) := dk_132 2 255 (dk_at dksX16_gatherColumns_3 4 rfl rfl)
theorem dX16_gatherColumns_77 : decode cX16_gatherColumns 77 = .ok (.goto (-44), 3) := dk_167 255 212 (dk_at dksX16_gatherColumns_3 7 rfl rfl)
theorem dX16_gatherColumns_80 : decode cX16_gatherColumns 80 = .ok (.aload_n 0, 1) := dk_42 (dk_at dksX16_gatherColumns_3 10 rfl rfl)
theorem dX16_gatherColumns_81 : decode cX16_gatherColumns 81 = .ok (.getfield 279, 3) := dk_180 1 23 (dk_at dksX16_gatherColumns_3 11 rfl rfl)
theorem dX16_gatherColumns_84 : decode cX16_gatherColumns 84 = .ok (.iload_n 2, 1) := dk_28 (dk_at dksX16_gatherColumns_3 14 rfl rfl)
theorem dX16_gatherColumns_85 : decode cX16_gatherColumns 85 = .ok (.iload_n 1, 1) := dk_27 (dk_at dksX16_gatherColumns_3 15 rfl rfl)
theorem dX16_gatherColumns_86 : decode cX16_gatherColumns 86 = .ok (.iastore, 1) := dk_79 (dk_at dksX16_gatherColumns_3 16 rfl rfl)
theorem dX16_gatherColumns_87 : decode cX16_gatherColumns 87 = .ok (.aload_n 0, 1) := dk_42 (dk_at dksX16_gatherColumns_3 17 rfl rfl)
theorem dX16_gatherColumns_88 : decode cX16_gatherColumns 88 = .ok (.dup, 1) := dk_89 (dk_at dksX16_gatherColumns_3 18 rfl rfl)
theorem dX16_gatherColumns_89 : decode cX16_gatherColumns 89 = .ok (.getfield 529, 3) := dk_180 2 17 (dk_at dksX16_gatherColumns_3 19 rfl rfl)
theorem dX16_gatherColumns_92 : decode cX16_gatherColumns 92 = .ok (.iconst 1, 1) := dk_4 (dk_at dksX16_gatherColumns_3 22 rfl rfl)
theorem dX16_gatherColumns_93 : decode cX16_gatherColumns 93 = .ok (.iadd, 1) := dk_96 (dk_at dksX16_gatherColumns_3 23 rfl rfl)
theorem dX16_gatherColumns_94 : decode cX16_gatherColumns 94 = .ok (.putfield 529, 3) := dk_181 2 17 (dk_at dksX16_gatherColumns_4 0 rfl rfl)
theorem dX16_gatherColumns_97 : decode cX16_gatherColumns 97 = .ok (.iinc 1 1, 3) := dk_132 1 1 (dk_at dksX16_gatherColumns_4 3 rfl rfl)
theorem dX16_gatherColumns_100 : decode cX16_gatherColumns 100 = .ok (.goto (-93), 3) := dk_167 255 163 (dk_at dksX16_gatherColumns_4 6 rfl rfl)
theorem dX16_gatherColumns_103 : decode cX16_gatherColumns 103 = .ok (.iconst 0, 1) := dk_3 (dk_at dksX16_gatherColumns_4 9 rfl rfl)
theorem dX16_gatherColumns_104 : decode cX16_gatherColumns 104 = .ok (.istore_n 1, 1) := dk_60 (dk_at dksX16_gatherColumns_4 10 rfl rfl)
theorem dX16_gatherColumns_105 : decode cX16_gatherColumns 105 = .ok (.iload_n 1, 1) := dk_27 (dk_at dksX16_gatherColumns_4 11 rfl rfl)
theorem dX16_gatherColumns_106 : decode cX16_gatherColumns 106 = .ok (.aload_n 0, 1) := dk_42 (dk_at dksX16_gatherColumns_4 12 rfl rfl)
theorem dX16_gatherColumns_107 : decode cX16_gatherColumns 107 = .ok (.getfield 529, 3) := dk_180 2 17 (dk_at dksX16_gatherColumns_4 13 rfl rfl)
theorem dX16_gatherColumns_110 : decode cX16_gatherColumns 110 = .ok (.if_icmp .ge 21, 3) := dk_162 0 21 (dk_at dksX16_gatherColumns_4 16 rfl rfl)
theorem dX16_gatherColumns_113 : decode cX16_gatherColumns 113 = .ok (.aload_n 0, 1) := dk_42 (dk_at dksX16_gatherColumns_4 19 rfl rfl)
theorem dX16_gatherColumns_114 : decode cX16_gatherColumns 114 = .ok (.getfield 282, 3) := dk_180 1 26 (dk_at dksX16_gatherColumns_4 20 rfl rfl)
theorem dX16_gatherColumns_117 : decode cX16_gatherColumns 117 = .ok (.aload_n 0, 1) := dk_42 (dk_at dksX16_gatherColumns_4 23 rfl rfl)
theorem dX16_gatherColumns_118 : decode cX16_gatherColumns 118 = .ok (.getfield 279, 3) := dk_180 1 23 (dk_at dksX16_gatherColumns_5 0 rfl rfl)
theorem dX16_gatherColumns_121 : decode cX16_gatherColumns 121 = .ok (.iload_n 1, 1) := dk_27 (dk_at dksX16_gatherColumns_5 3 rfl rfl)
theorem dX16_gatherColumns_122 : decode cX16_gatherColumns 122 = .ok (.iaload, 1) := dk_46 (dk_at dksX16_gatherColumns_5 4 rfl rfl)
theorem dX16_gatherColumns_123 : decode cX16_gatherColumns 123 = .ok (.iload_n 1, 1) := dk_27 (dk_at dksX16_gatherColumns_5 5 rfl rfl)
theorem dX16_gatherColumns_124 : decode cX16_gatherColumns 124 = .ok (.iastore, 1) := dk_79 (dk_at dksX16_gatherColumns_5 6 rfl rfl)
theorem dX16_gatherColumns_125 : decode cX16_gatherColumns 125 = .ok (.iinc 1 1, 3) := dk_132 1 1 (dk_at dksX16_gatherColumns_5 7 rfl rfl)
theorem dX16_gatherColumns_128 : decode cX16_gatherColumns 128 = .ok (.goto (-23), 3) := dk_167 255 233 (dk_at dksX16_gatherColumns_5 10 rfl rfl)
theorem dX16_gatherColumns_131 : decode cX16_gatherColumns 131 = .ok (.return_, 1) := dk_177 (dk_at dksX16_gatherColumns_5 13 rfl rfl)
abbrev cX16_use : ByteArray := prog_21_method_60_code
def yX16_use : MethodName := ⟨RX16, "use", "(II)V"⟩
def dkwX16_use_13 : List UInt8 := [4, 96, 181, 2, 32, 177]
abbrev dktX16_use_13 : List UInt8 := dkwX16_use_13 ++ []
def dkwX16_use_12 : List UInt8 := [180, 1, 32, 42, 180, 2, 29, 28, 79, 42, 89, 180, 2, 29, 4, 96, 181, 2, 29, 42, 89, 180, 2, 32]
abbrev dktX16_use_12 : List UInt8 := dkwX16_use_12 ++ dktX16_use_13
def dkwX16_use_11 : List UInt8 := [21, 4, 182, 2, 35, 132, 5, 1, 167, 255, 214, 42, 180, 1, 29, 42, 180, 2, 29, 27, 79, 42]
abbrev dktX16_use_11 : List UInt8 := dkwX16_use_11 ++ dktX16_use_12
def dkwX16_use_10 : List UInt8 := [180, 1, 39, 21, 5, 50, 21, 4, 50, 180, 0, 15, 153, 0, 17, 42, 42, 180, 1, 39, 21, 5, 50, 45]
abbrev dktX16_use_10 : List UInt8 := dkwX16_use_10 ++ dktX16_use_11
def dkwX16_use_9 : List UInt8 := [180, 1, 43, 42, 180, 2, 32, 21, 4, 79, 3, 54, 5, 21, 5, 42, 180, 2, 32, 162, 0, 39, 42]
abbrev dktX16_use_9 : List UInt8 := dkwX16_use_9 ++ dktX16_use_10
def dkwX16_use_8 : List UInt8 := [180, 0, 15, 154, 0, 9, 132, 4, 1, 167, 255, 234, 21, 4, 42, 180, 2, 17, 160, 0, 4, 177, 42]
abbrev dktX16_use_8 : List UInt8 := dkwX16_use_8 ++ dktX16_use_9
def dkwX16_use_7 : List UInt8 := [132, 4, 1, 167, 255, 210, 3, 54, 4, 21, 4, 42, 180, 2, 17, 162, 0, 19, 45, 21, 4, 50]
abbrev dktX16_use_7 : List UInt8 := dkwX16_use_7 ++ dktX16_use_8
def dkwX16_use_6 : List UInt8 := [153, 0, 22, 42, 45, 42, 180, 1, 39, 21, 4, 50, 42, 180, 1, 43, 21, 4, 46, 182, 2, 35]
abbrev dktX16_use_6 : List UInt8 := dkwX16_use_6 ++ dktX16_use_7
def dkwX16_use_5 : List UInt8 := [54, 4, 21, 4, 42, 180, 2, 32, 162, 0, 43, 45, 42, 180, 1, 43, 21, 4, 46, 50, 180, 0, 15]
abbrev dktX16_use_5 : List UInt8 := dkwX16_use_5 ++ dktX16_use_6
def dkwX16_use_4 : List UInt8 := [182, 0, 83, 132, 4, 1, 167, 255, 210, 45, 16, 35, 42, 180, 2, 29, 96, 50, 10, 182, 0, 83, 3]
abbrev dktX16_use_4 : List UInt8 := dkwX16_use_4 ++ dktX16_use_5
def dkwX16_use_3 : List UInt8 := [180, 1, 26, 42, 180, 0, 240, 21, 4, 46, 28, 96, 46, 50, 42, 180, 0, 243, 21, 4, 46, 133]
abbrev dktX16_use_3 : List UInt8 := dkwX16_use_3 ++ dktX16_use_4
def dkwX16_use_2 : List UInt8 := [16, 12, 27, 104, 54, 4, 21, 4, 16, 12, 27, 104, 42, 180, 0, 237, 27, 46, 96, 162, 0, 36, 45, 42]
abbrev dktX16_use_2 : List UInt8 := dkwX16_use_2 ++ dktX16_use_3
def dkwX16_use_1 : List UInt8 := [54, 4, 21, 4, 16, 70, 162, 0, 17, 45, 21, 4, 50, 9, 182, 0, 83, 132, 4, 1, 167, 255, 238]
abbrev dktX16_use_1 : List UInt8 := dkwX16_use_1 ++ dktX16_use_2
def dkwX16_use_0 : List UInt8 := [42, 180, 2, 29, 42, 180, 2, 17, 160, 0, 4, 177, 42, 180, 1, 39, 42, 180, 2, 32, 50, 78, 3]
abbrev dktX16_use_0 : List UInt8 := dkwX16_use_0 ++ dktX16_use_1
theorem dksX16_use_0 : cX16_use.data.toList.drop 0 = dktX16_use_0 := by decide +kernel
theorem dksX16_use_1 : cX16_use.data.toList.drop 23 = dktX16_use_1 := dk_seg dksX16_use_0 23 rfl rfl
theorem dksX16_use_2 : cX16_use.data.toList.drop 46 = dktX16_use_2 := dk_seg dksX16_use_1 23 rfl rfl
theorem dksX16_use_3 : cX16_use.data.toList.drop 70 = dktX16_use_3 := dk_seg dksX16_use_2 24 rfl rfl
theorem dksX16_use_4 : cX16_use.data.toList.drop 92 = dktX16_use_4 := dk_seg dksX16_use_3 22 rfl rfl
theorem dksX16_use_5 : cX16_use.data.toList.drop 115 = dktX16_use_5 := dk_seg dksX16_use_4 23 rfl rfl
theorem dksX16_use_6 : cX16_use.data.toList.drop 138 = dktX16_use_6 := dk_seg dksX16_use_5 23 rfl rfl
theorem dksX16_use_7 : cX16_use.data.toList.drop 160 = dktX16_use_7 := dk_seg dksX16_use_6 22 rfl rfl
theorem dksX16_use_8 : cX16_use.data.toList.drop 182 = dktX16_use_8 := dk_seg dksX16_use_7 22 rfl rfl
theorem dksX16_use_9 : cX16_use.data.toList.drop 205 = dktX16_use_9 := dk_seg dksX16_use_8 23 rfl rfl
theorem dksX16_use_10 : cX16_use.data.toList.drop 228 = dktX16_use_10 := dk_seg dksX16_use_9 23 rfl rfl
theorem dksX16_use_11 : cX16_use.data.toList.drop 252 = dktX16_use_11 := dk_seg dksX16_use_10 24 rfl rfl
theorem dksX16_use_12 : cX16_use.data.toList.drop 274 = dktX16_use_12 := dk_seg dksX16_use_11 22 rfl rfl
theorem dksX16_use_13 : cX16_use.data.toList.drop 298 = dktX16_use_13 := dk_seg dksX16_use_12 24 rfl rfl
theorem dX16_use_0 : decode cX16_use 0 = .ok (.aload_n 0, 1) := dk_42 (dk_at dksX16_use_0 0 rfl rfl)
theorem dX16_use_1 : decode cX16_use 1 = .ok (.getfield 541, 3) := dk_180 2 29 (dk_at dksX16_use_0 1 rfl rfl)
theorem dX16_use_4 : decode cX16_use 4 = .ok (.aload_n 0, 1) := dk_42 (dk_at dksX16_use_0 4 rfl rfl)
theorem dX16_use_5 : decode cX16_use 5 = .ok (.getfield 529, 3) := dk_180 2 17 (dk_at dksX16_use_0 5 rfl rfl)
theorem dX16_use_8 : decode cX16_use 8 = .ok (.if_icmp .ne 4, 3) := dk_160 0 4 (dk_at dksX16_use_0 8 rfl rfl)
theorem dX16_use_11 : decode cX16_use 11 = .ok (.return_, 1) := dk_177 (dk_at dksX16_use_0 11 rfl rfl)
theorem dX16_use_12 : decode cX16_use 12 = .ok (.aload_n 0, 1) := dk_42 (dk_at dksX16_use_0 12 rfl rfl)
theorem dX16_use_13 : decode cX16_use 13 = .ok (.getfield 295, 3) := dk_180 1 39 (dk_at dksX16_use_0 13 rfl rfl)
theorem dX16_use_16 : decode cX16_use 16 = .ok (.aload_n 0, 1) := dk_42 (dk_at dksX16_use_0 16 rfl rfl)
theorem dX16_use_17 : decode cX16_use 17 = .ok (.getfield 544, 3) := dk_180 2 32 (dk_at dksX16_use_0 17 rfl rfl)
theorem dX16_use_20 : decode cX16_use 20 = .ok (.aaload, 1) := dk_50 (dk_at dksX16_use_0 20 rfl rfl)
theorem dX16_use_21 : decode cX16_use 21 = .ok (.astore_n 3, 1) := dk_78 (dk_at dksX16_use_0 21 rfl rfl)
theorem dX16_use_22 : decode cX16_use 22 = .ok (.iconst 0, 1) := dk_3 (dk_at dksX16_use_0 22 rfl rfl)
theorem dX16_use_23 : decode cX16_use 23 = .ok (.istore 4, 2) := dk_54 4 (dk_at dksX16_use_1 0 rfl rfl)
theorem dX16_use_25 : decode cX16_use 25 = .ok (.iload 4, 2) := dk_21 4 (dk_at dksX16_use_1 2 rfl rfl)
theorem dX16_use_27 : decode cX16_use 27 = .ok (.bipush 70, 2) := dk_16 70 (dk_at dksX16_use_1 4 rfl rfl)
theorem dX16_use_29 : decode cX16_use 29 = .ok (.if_icmp .ge 17, 3) := dk_162 0 17 (dk_at dksX16_use_1 6 rfl rfl)
theorem dX16_use_32 : decode cX16_use 32 = .ok (.aload_n 3, 1) := dk_45 (dk_at dksX16_use_1 9 rfl rfl)
theorem dX16_use_33 : decode cX16_use 33 = .ok (.iload 4, 2) := dk_21 4 (dk_at dksX16_use_1 10 rfl rfl)
theorem dX16_use_35 : decode cX16_use 35 = .ok (.aaload, 1) := dk_50 (dk_at dksX16_use_1 12 rfl rfl)
theorem dX16_use_36 : decode cX16_use 36 = .ok (.lconst 0, 1) := dk_9 (dk_at dksX16_use_1 13 rfl rfl)
theorem dX16_use_37 : decode cX16_use 37 = .ok (.invokevirtual 83, 3) := dk_182 0 83 (dk_at dksX16_use_1 14 rfl rfl)
theorem dX16_use_40 : decode cX16_use 40 = .ok (.iinc 4 1, 3) := dk_132 4 1 (dk_at dksX16_use_1 17 rfl rfl)
theorem dX16_use_43 : decode cX16_use 43 = .ok (.goto (-18), 3) := dk_167 255 238 (dk_at dksX16_use_1 20 rfl rfl)
theorem dX16_use_46 : decode cX16_use 46 = .ok (.bipush 12, 2) := dk_16 12 (dk_at dksX16_use_2 0 rfl rfl)
theorem dX16_use_48 : decode cX16_use 48 = .ok (.iload_n 1, 1) := dk_27 (dk_at dksX16_use_2 2 rfl rfl)
theorem dX16_use_49 : decode cX16_use 49 = .ok (.imul, 1) := dk_104 (dk_at dksX16_use_2 3 rfl rfl)
theorem dX16_use_50 : decode cX16_use 50 = .ok (.istore 4, 2) := dk_54 4 (dk_at dksX16_use_2 4 rfl rfl)
theorem dX16_use_52 : decode cX16_use 52 = .ok (.iload 4, 2) := dk_21 4 (dk_at dksX16_use_2 6 rfl rfl)
theorem dX16_use_54 : decode cX16_use 54 = .ok (.bipush 12, 2) := dk_16 12 (dk_at dksX16_use_2 8 rfl rfl)
theorem dX16_use_56 : decode cX16_use 56 = .ok (.iload_n 1, 1) := dk_27 (dk_at dksX16_use_2 10 rfl rfl)
theorem dX16_use_57 : decode cX16_use 57 = .ok (.imul, 1) := dk_104 (dk_at dksX16_use_2 11 rfl rfl)
theorem dX16_use_58 : decode cX16_use 58 = .ok (.aload_n 0, 1) := dk_42 (dk_at dksX16_use_2 12 rfl rfl)
theorem dX16_use_59 : decode cX16_use 59 = .ok (.getfield 237, 3) := dk_180 0 237 (dk_at dksX16_use_2 13 rfl rfl)
theorem dX16_use_62 : decode cX16_use 62 = .ok (.iload_n 1, 1) := dk_27 (dk_at dksX16_use_2 16 rfl rfl)
theorem dX16_use_63 : decode cX16_use 63 = .ok (.iaload, 1) := dk_46 (dk_at dksX16_use_2 17 rfl rfl)
theorem dX16_use_64 : decode cX16_use 64 = .ok (.iadd, 1) := dk_96 (dk_at dksX16_use_2 18 rfl rfl)
theorem dX16_use_65 : decode cX16_use 65 = .ok (.if_icmp .ge 36, 3) := dk_162 0 36 (dk_at dksX16_use_2 19 rfl rfl)
theorem dX16_use_68 : decode cX16_use 68 = .ok (.aload_n 3, 1) := dk_45 (dk_at dksX16_use_2 22 rfl rfl)
theorem dX16_use_69 : decode cX16_use 69 = .ok (.aload_n 0, 1) := dk_42 (dk_at dksX16_use_2 23 rfl rfl)
theorem dX16_use_70 : decode cX16_use 70 = .ok (.getfield 282, 3) := dk_180 1 26 (dk_at dksX16_use_3 0 rfl rfl)
theorem dX16_use_73 : decode cX16_use 73 = .ok (.aload_n 0, 1) := dk_42 (dk_at dksX16_use_3 3 rfl rfl)
theorem dX16_use_74 : decode cX16_use 74 = .ok (.getfield 240, 3) := dk_180 0 240 (dk_at dksX16_use_3 4 rfl rfl)
theorem dX16_use_77 : decode cX16_use 77 = .ok (.iload 4, 2) := dk_21 4 (dk_at dksX16_use_3 7 rfl rfl)
theorem dX16_use_79 : decode cX16_use 79 = .ok (.iaload, 1) := dk_46 (dk_at dksX16_use_3 9 rfl rfl)
theorem dX16_use_80 : decode cX16_use 80 = .ok (.iload_n 2, 1) := dk_28 (dk_at dksX16_use_3 10 rfl rfl)
theorem dX16_use_81 : decode cX16_use 81 = .ok (.iadd, 1) := dk_96 (dk_at dksX16_use_3 11 rfl rfl)
theorem dX16_use_82 : decode cX16_use 82 = .ok (.iaload, 1) := dk_46 (dk_at dksX16_use_3 12 rfl rfl)
theorem dX16_use_83 : decode cX16_use 83 = .ok (.aaload, 1) := dk_50 (dk_at dksX16_use_3 13 rfl rfl)
theorem dX16_use_84 : decode cX16_use 84 = .ok (.aload_n 0, 1) := dk_42 (dk_at dksX16_use_3 14 rfl rfl)
theorem dX16_use_85 : decode cX16_use 85 = .ok (.getfield 243, 3) := dk_180 0 243 (dk_at dksX16_use_3 15 rfl rfl)
theorem dX16_use_88 : decode cX16_use 88 = .ok (.iload 4, 2) := dk_21 4 (dk_at dksX16_use_3 18 rfl rfl)
theorem dX16_use_90 : decode cX16_use 90 = .ok (.iaload, 1) := dk_46 (dk_at dksX16_use_3 20 rfl rfl)
theorem dX16_use_91 : decode cX16_use 91 = .ok (.i2l, 1) := dk_133 (dk_at dksX16_use_3 21 rfl rfl)
theorem dX16_use_92 : decode cX16_use 92 = .ok (.invokevirtual 83, 3) := dk_182 0 83 (dk_at dksX16_use_4 0 rfl rfl)
theorem dX16_use_95 : decode cX16_use 95 = .ok (.iinc 4 1, 3) := dk_132 4 1 (dk_at dksX16_use_4 3 rfl rfl)
theorem dX16_use_98 : decode cX16_use 98 = .ok (.goto (-46), 3) := dk_167 255 210 (dk_at dksX16_use_4 6 rfl rfl)
theorem dX16_use_101 : decode cX16_use 101 = .ok (.aload_n 3, 1) := dk_45 (dk_at dksX16_use_4 9 rfl rfl)
theorem dX16_use_102 : decode cX16_use 102 = .ok (.bipush 35, 2) := dk_16 35 (dk_at dksX16_use_4 10 rfl rfl)
theorem dX16_use_104 : decode cX16_use 104 = .ok (.aload_n 0, 1) := dk_42 (dk_at dksX16_use_4 12 rfl rfl)
theorem dX16_use_105 : decode cX16_use 105 = .ok (.getfield 541, 3) := dk_180 2 29 (dk_at dksX16_use_4 13 rfl rfl)
theorem dX16_use_108 : decode cX16_use 108 = .ok (.iadd, 1) := dk_96 (dk_at dksX16_use_4 16 rfl rfl)
theorem dX16_use_109 : decode cX16_use 109 = .ok (.aaload, 1) := dk_50 (dk_at dksX16_use_4 17 rfl rfl)
theorem dX16_use_110 : decode cX16_use 110 = .ok (.lconst 1, 1) := dk_10 (dk_at dksX16_use_4 18 rfl rfl)
theorem dX16_use_111 : decode cX16_use 111 = .ok (.invokevirtual 83, 3) := dk_182 0 83 (dk_at dksX16_use_4 19 rfl rfl)
theorem dX16_use_114 : decode cX16_use 114 = .ok (.iconst 0, 1) := dk_3 (dk_at dksX16_use_4 22 rfl rfl)
theorem dX16_use_115 : decode cX16_use 115 = .ok (.istore 4, 2) := dk_54 4 (dk_at dksX16_use_5 0 rfl rfl)
theorem dX16_use_117 : decode cX16_use 117 = .ok (.iload 4, 2) := dk_21 4 (dk_at dksX16_use_5 2 rfl rfl)
theorem dX16_use_119 : decode cX16_use 119 = .ok (.aload_n 0, 1) := dk_42 (dk_at dksX16_use_5 4 rfl rfl)
theorem dX16_use_120 : decode cX16_use 120 = .ok (.getfield 544, 3) := dk_180 2 32 (dk_at dksX16_use_5 5 rfl rfl)
theorem dX16_use_123 : decode cX16_use 123 = .ok (.if_icmp .ge 43, 3) := dk_162 0 43 (dk_at dksX16_use_5 8 rfl rfl)
theorem dX16_use_126 : decode cX16_use 126 = .ok (.aload_n 3, 1) := dk_45 (dk_at dksX16_use_5 11 rfl rfl)
theorem dX16_use_127 : decode cX16_use 127 = .ok (.aload_n 0, 1) := dk_42 (dk_at dksX16_use_5 12 rfl rfl)
theorem dX16_use_128 : decode cX16_use 128 = .ok (.getfield 299, 3) := dk_180 1 43 (dk_at dksX16_use_5 13 rfl rfl)
theorem dX16_use_131 : decode cX16_use 131 = .ok (.iload 4, 2) := dk_21 4 (dk_at dksX16_use_5 16 rfl rfl)
theorem dX16_use_133 : decode cX16_use 133 = .ok (.iaload, 1) := dk_46 (dk_at dksX16_use_5 18 rfl rfl)
theorem dX16_use_134 : decode cX16_use 134 = .ok (.aaload, 1) := dk_50 (dk_at dksX16_use_5 19 rfl rfl)
theorem dX16_use_135 : decode cX16_use 135 = .ok (.getfield 15, 3) := dk_180 0 15 (dk_at dksX16_use_5 20 rfl rfl)
theorem dX16_use_138 : decode cX16_use 138 = .ok (.ifCond .eq 22, 3) := dk_153 0 22 (dk_at dksX16_use_6 0 rfl rfl)
theorem dX16_use_141 : decode cX16_use 141 = .ok (.aload_n 0, 1) := dk_42 (dk_at dksX16_use_6 3 rfl rfl)
theorem dX16_use_142 : decode cX16_use 142 = .ok (.aload_n 3, 1) := dk_45 (dk_at dksX16_use_6 4 rfl rfl)
theorem dX16_use_143 : decode cX16_use 143 = .ok (.aload_n 0, 1) := dk_42 (dk_at dksX16_use_6 5 rfl rfl)
theorem dX16_use_144 : decode cX16_use 144 = .ok (.getfield 295, 3) := dk_180 1 39 (dk_at dksX16_use_6 6 rfl rfl)
theorem dX16_use_147 : decode cX16_use 147 = .ok (.iload 4, 2) := dk_21 4 (dk_at dksX16_use_6 9 rfl rfl)
theorem dX16_use_149 : decode cX16_use 149 = .ok (.aaload, 1) := dk_50 (dk_at dksX16_use_6 11 rfl rfl)
theorem dX16_use_150 : decode cX16_use 150 = .ok (.aload_n 0, 1) := dk_42 (dk_at dksX16_use_6 12 rfl rfl)
theorem dX16_use_151 : decode cX16_use 151 = .ok (.getfield 299, 3) := dk_180 1 43 (dk_at dksX16_use_6 13 rfl rfl)
theorem dX16_use_154 : decode cX16_use 154 = .ok (.iload 4, 2) := dk_21 4 (dk_at dksX16_use_6 16 rfl rfl)
theorem dX16_use_156 : decode cX16_use 156 = .ok (.iaload, 1) := dk_46 (dk_at dksX16_use_6 18 rfl rfl)
theorem dX16_use_157 : decode cX16_use 157 = .ok (.invokevirtual 547, 3) := dk_182 2 35 (dk_at dksX16_use_6 19 rfl rfl)
theorem dX16_use_160 : decode cX16_use 160 = .ok (.iinc 4 1, 3) := dk_132 4 1 (dk_at dksX16_use_7 0 rfl rfl)
theorem dX16_use_163 : decode cX16_use 163 = .ok (.goto (-46), 3) := dk_167 255 210 (dk_at dksX16_use_7 3 rfl rfl)
theorem dX16_use_166 : decode cX16_use 166 = .ok (.iconst 0, 1) := dk_3 (dk_at dksX16_use_7 6 rfl rfl)
theorem dX16_use_167 : decode cX16_use 167 = .ok (.istore 4, 2) := dk_54 4 (dk_at dksX16_use_7 7 rfl rfl)
theorem dX16_use_169 : decode cX16_use 169 = .ok (.iload 4, 2) := dk_21 4 (dk_at dksX16_use_7 9 rfl rfl)
theorem dX16_use_171 : decode cX16_use 171 = .ok (.aload_n 0, 1) := dk_42 (dk_at dksX16_use_7 11 rfl rfl)
theorem dX16_use_172 : decode cX16_use 172 = .ok (.getfield 529, 3) := dk_180 2 17 (dk_at dksX16_use_7 12 rfl rfl)
theorem dX16_use_175 : decode cX16_use 175 = .ok (.if_icmp .ge 19, 3) := dk_162 0 19 (dk_at dksX16_use_7 15 rfl rfl)
theorem dX16_use_178 : decode cX16_use 178 = .ok (.aload_n 3, 1) := dk_45 (dk_at dksX16_use_7 18 rfl rfl)
theorem dX16_use_179 : decode cX16_use 179 = .ok (.iload 4, 2) := dk_21 4 (dk_at dksX16_use_7 19 rfl rfl)
theorem dX16_use_181 : decode cX16_use 181 = .ok (.aaload, 1) := dk_50 (dk_at dksX16_use_7 21 rfl rfl)
theorem dX16_use_182 : decode cX16_use 182 = .ok (.getfield 15, 3) := dk_180 0 15 (dk_at dksX16_use_8 0 rfl rfl)
theorem dX16_use_185 : decode cX16_use 185 = .ok (.ifCond .ne 9, 3) := dk_154 0 9 (dk_at dksX16_use_8 3 rfl rfl)
theorem dX16_use_188 : decode cX16_use 188 = .ok (.iinc 4 1, 3) := dk_132 4 1 (dk_at dksX16_use_8 6 rfl rfl)
theorem dX16_use_191 : decode cX16_use 191 = .ok (.goto (-22), 3) := dk_167 255 234 (dk_at dksX16_use_8 9 rfl rfl)
theorem dX16_use_194 : decode cX16_use 194 = .ok (.iload 4, 2) := dk_21 4 (dk_at dksX16_use_8 12 rfl rfl)
theorem dX16_use_196 : decode cX16_use 196 = .ok (.aload_n 0, 1) := dk_42 (dk_at dksX16_use_8 14 rfl rfl)
theorem dX16_use_197 : decode cX16_use 197 = .ok (.getfield 529, 3) := dk_180 2 17 (dk_at dksX16_use_8 15 rfl rfl)
theorem dX16_use_200 : decode cX16_use 200 = .ok (.if_icmp .ne 4, 3) := dk_160 0 4 (dk_at dksX16_use_8 18 rfl rfl)
theorem dX16_use_203 : decode cX16_use 203 = .ok (.return_, 1) := dk_177 (dk_at dksX16_use_8 21 rfl rfl)
theorem dX16_use_204 : decode cX16_use 204 = .ok (.aload_n 0, 1) := dk_42 (dk_at dksX16_use_8 22 rfl rfl)
theorem dX16_use_205 : decode cX16_use 205 = .ok (.getfield 299, 3) := dk_180 1 43 (dk_at dksX16_use_9 0 rfl rfl)
theorem dX16_use_208 : decode cX16_use 208 = .ok (.aload_n 0, 1) := dk_42 (dk_at dksX16_use_9 3 rfl rfl)
theorem dX16_use_209 : decode cX16_use 209 = .ok (.getfield 544, 3) := dk_180 2 32 (dk_at dksX16_use_9 4 rfl rfl)
theorem dX16_use_212 : decode cX16_use 212 = .ok (.iload 4, 2) := dk_21 4 (dk_at dksX16_use_9 7 rfl rfl)
theorem dX16_use_214 : decode cX16_use 214 = .ok (.iastore, 1) := dk_79 (dk_at dksX16_use_9 9 rfl rfl)
theorem dX16_use_215 : decode cX16_use 215 = .ok (.iconst 0, 1) := dk_3 (dk_at dksX16_use_9 10 rfl rfl)
theorem dX16_use_216 : decode cX16_use 216 = .ok (.istore 5, 2) := dk_54 5 (dk_at dksX16_use_9 11 rfl rfl)
theorem dX16_use_218 : decode cX16_use 218 = .ok (.iload 5, 2) := dk_21 5 (dk_at dksX16_use_9 13 rfl rfl)
theorem dX16_use_220 : decode cX16_use 220 = .ok (.aload_n 0, 1) := dk_42 (dk_at dksX16_use_9 15 rfl rfl)
theorem dX16_use_221 : decode cX16_use 221 = .ok (.getfield 544, 3) := dk_180 2 32 (dk_at dksX16_use_9 16 rfl rfl)
theorem dX16_use_224 : decode cX16_use 224 = .ok (.if_icmp .ge 39, 3) := dk_162 0 39 (dk_at dksX16_use_9 19 rfl rfl)
theorem dX16_use_227 : decode cX16_use 227 = .ok (.aload_n 0, 1) := dk_42 (dk_at dksX16_use_9 22 rfl rfl)
theorem dX16_use_228 : decode cX16_use 228 = .ok (.getfield 295, 3) := dk_180 1 39 (dk_at dksX16_use_10 0 rfl rfl)
theorem dX16_use_231 : decode cX16_use 231 = .ok (.iload 5, 2) := dk_21 5 (dk_at dksX16_use_10 3 rfl rfl)
theorem dX16_use_233 : decode cX16_use 233 = .ok (.aaload, 1) := dk_50 (dk_at dksX16_use_10 5 rfl rfl)
theorem dX16_use_234 : decode cX16_use 234 = .ok (.iload 4, 2) := dk_21 4 (dk_at dksX16_use_10 6 rfl rfl)
theorem dX16_use_236 : decode cX16_use 236 = .ok (.aaload, 1) := dk_50 (dk_at dksX16_use_10 8 rfl rfl)
theorem dX16_use_237 : decode cX16_use 237 = .ok (.getfield 15, 3) := dk_180 0 15 (dk_at dksX16_use_10 9 rfl rfl)
theorem dX16_use_240 : decode cX16_use 240 = .ok (.ifCond .eq 17, 3) := dk_153 0 17 (dk_at dksX16_use_10 12 rfl rfl)
theorem dX16_use_243 : decode cX16_use 243 = .ok (.aload_n 0, 1) := dk_42 (dk_at dksX16_use_10 15 rfl rfl)
theorem dX16_use_244 : decode cX16_use 244 = .ok (.aload_n 0, 1) := dk_42 (dk_at dksX16_use_10 16 rfl rfl)
theorem dX16_use_245 : decode cX16_use 245 = .ok (.getfield 295, 3) := dk_180 1 39 (dk_at dksX16_use_10 17 rfl rfl)
theorem dX16_use_248 : decode cX16_use 248 = .ok (.iload 5, 2) := dk_21 5 (dk_at dksX16_use_10 20 rfl rfl)
theorem dX16_use_250 : decode cX16_use 250 = .ok (.aaload, 1) := dk_50 (dk_at dksX16_use_10 22 rfl rfl)
theorem dX16_use_251 : decode cX16_use 251 = .ok (.aload_n 3, 1) := dk_45 (dk_at dksX16_use_10 23 rfl rfl)
theorem dX16_use_252 : decode cX16_use 252 = .ok (.iload 4, 2) := dk_21 4 (dk_at dksX16_use_11 0 rfl rfl)
theorem dX16_use_254 : decode cX16_use 254 = .ok (.invokevirtual 547, 3) := dk_182 2 35 (dk_at dksX16_use_11 2 rfl rfl)
theorem dX16_use_257 : decode cX16_use 257 = .ok (.iinc 5 1, 3) := dk_132 5 1 (dk_at dksX16_use_11 5 rfl rfl)
theorem dX16_use_260 : decode cX16_use 260 = .ok (.goto (-42), 3) := dk_167 255 214 (dk_at dksX16_use_11 8 rfl rfl)
theorem dX16_use_263 : decode cX16_use 263 = .ok (.aload_n 0, 1) := dk_42 (dk_at dksX16_use_11 11 rfl rfl)
theorem dX16_use_264 : decode cX16_use 264 = .ok (.getfield 285, 3) := dk_180 1 29 (dk_at dksX16_use_11 12 rfl rfl)
theorem dX16_use_267 : decode cX16_use 267 = .ok (.aload_n 0, 1) := dk_42 (dk_at dksX16_use_11 15 rfl rfl)
theorem dX16_use_268 : decode cX16_use 268 = .ok (.getfield 541, 3) := dk_180 2 29 (dk_at dksX16_use_11 16 rfl rfl)
theorem dX16_use_271 : decode cX16_use 271 = .ok (.iload_n 1, 1) := dk_27 (dk_at dksX16_use_11 19 rfl rfl)
theorem dX16_use_272 : decode cX16_use 272 = .ok (.iastore, 1) := dk_79 (dk_at dksX16_use_11 20 rfl rfl)
theorem dX16_use_273 : decode cX16_use 273 = .ok (.aload_n 0, 1) := dk_42 (dk_at dksX16_use_11 21 rfl rfl)
theorem dX16_use_274 : decode cX16_use 274 = .ok (.getfield 288, 3) := dk_180 1 32 (dk_at dksX16_use_12 0 rfl rfl)
theorem dX16_use_277 : decode cX16_use 277 = .ok (.aload_n 0, 1) := dk_42 (dk_at dksX16_use_12 3 rfl rfl)
theorem dX16_use_278 : decode cX16_use 278 = .ok (.getfield 541, 3) := dk_180 2 29 (dk_at dksX16_use_12 4 rfl rfl)
theorem dX16_use_281 : decode cX16_use 281 = .ok (.iload_n 2, 1) := dk_28 (dk_at dksX16_use_12 7 rfl rfl)
theorem dX16_use_282 : decode cX16_use 282 = .ok (.iastore, 1) := dk_79 (dk_at dksX16_use_12 8 rfl rfl)
theorem dX16_use_283 : decode cX16_use 283 = .ok (.aload_n 0, 1) := dk_42 (dk_at dksX16_use_12 9 rfl rfl)
theorem dX16_use_284 : decode cX16_use 284 = .ok (.dup, 1) := dk_89 (dk_at dksX16_use_12 10 rfl rfl)
theorem dX16_use_285 : decode cX16_use 285 = .ok (.getfield 541, 3) := dk_180 2 29 (dk_at dksX16_use_12 11 rfl rfl)
theorem dX16_use_288 : decode cX16_use 288 = .ok (.iconst 1, 1) := dk_4 (dk_at dksX16_use_12 14 rfl rfl)
theorem dX16_use_289 : decode cX16_use 289 = .ok (.iadd, 1) := dk_96 (dk_at dksX16_use_12 15 rfl rfl)
theorem dX16_use_290 : decode cX16_use 290 = .ok (.putfield 541, 3) := dk_181 2 29 (dk_at dksX16_use_12 16 rfl rfl)
theorem dX16_use_293 : decode cX16_use 293 = .ok (.aload_n 0, 1) := dk_42 (dk_at dksX16_use_12 19 rfl rfl)
theorem dX16_use_294 : decode cX16_use 294 = .ok (.dup, 1) := dk_89 (dk_at dksX16_use_12 20 rfl rfl)
theorem dX16_use_295 : decode cX16_use 295 = .ok (.getfield 544, 3) := dk_180 2 32 (dk_at dksX16_use_12 21 rfl rfl)
theorem dX16_use_298 : decode cX16_use 298 = .ok (.iconst 1, 1) := dk_4 (dk_at dksX16_use_13 0 rfl rfl)
theorem dX16_use_299 : decode cX16_use 299 = .ok (.iadd, 1) := dk_96 (dk_at dksX16_use_13 1 rfl rfl)
theorem dX16_use_300 : decode cX16_use 300 = .ok (.putfield 544, 3) := dk_181 2 32 (dk_at dksX16_use_13 2 rfl rfl)
theorem dX16_use_303 : decode cX16_use 303 = .ok (.return_, 1) := dk_177 (dk_at dksX16_use_13 5 rfl rfl)
abbrev cX16_takeAway : ByteArray := prog_21_method_59_code
def yX16_takeAway : MethodName := ⟨RX16, "takeAway", "([LIdealCourtModel$Num;[LIdealCourtModel$Num;I)V"⟩
def dkwX16_takeAway_10 : List UInt8 := [167, 255, 209, 177]
abbrev dktX16_takeAway_10 : List UInt8 := dkwX16_takeAway_10 ++ []
def dkwX16_takeAway_9 : List UInt8 := [153, 0, 20, 42, 43, 21, 4, 50, 1, 43, 21, 4, 50, 42, 180, 1, 61, 182, 0, 87, 132, 4, 1]
abbrev dktX16_takeAway_9 : List UInt8 := dkwX16_takeAway_9 ++ dktX16_takeAway_10
def dkwX16_takeAway_8 : List UInt8 := [21, 4, 16, 70, 162, 0, 46, 42, 180, 1, 61, 182, 0, 91, 154, 0, 36, 43, 21, 4, 50, 180, 0, 15]
abbrev dktX16_takeAway_8 : List UInt8 := dkwX16_takeAway_8 ++ dktX16_takeAway_9
def dkwX16_takeAway_7 : List UInt8 := [180, 1, 61, 43, 21, 4, 50, 42, 180, 1, 61, 182, 0, 98, 132, 4, 1, 167, 255, 210, 3, 54, 4]
abbrev dktX16_takeAway_7 : List UInt8 := dkwX16_takeAway_7 ++ dktX16_takeAway_8
def dkwX16_takeAway_6 : List UInt8 := [42, 180, 1, 61, 182, 0, 91, 154, 0, 35, 43, 21, 4, 50, 180, 0, 15, 153, 0, 19, 42, 42]
abbrev dktX16_takeAway_6 : List UInt8 := dkwX16_takeAway_6 ++ dktX16_takeAway_7
def dkwX16_takeAway_5 : List UInt8 := [132, 4, 1, 167, 255, 187, 42, 180, 1, 61, 9, 182, 0, 83, 3, 54, 4, 21, 4, 16, 70, 162, 0, 45]
abbrev dktX16_takeAway_5 : List UInt8 := dkwX16_takeAway_5 ++ dktX16_takeAway_6
def dkwX16_takeAway_4 : List UInt8 := [180, 1, 58, 42, 180, 0, 102, 2, 184, 0, 111, 43, 21, 4, 50, 42, 180, 1, 58, 182, 0, 18]
abbrev dktX16_takeAway_4 : List UInt8 := dkwX16_takeAway_4 ++ dktX16_takeAway_5
def dkwX16_takeAway_3 : List UInt8 := [182, 0, 105, 42, 42, 180, 0, 102, 44, 21, 4, 50, 42, 180, 1, 55, 182, 0, 105, 42, 180, 1, 58, 42]
abbrev dktX16_takeAway_3 : List UInt8 := dkwX16_takeAway_3 ++ dktX16_takeAway_4
def dkwX16_takeAway_2 : List UInt8 := [54, 4, 21, 4, 16, 70, 162, 0, 68, 42, 42, 180, 1, 58, 43, 21, 4, 50, 42, 180, 1, 52]
abbrev dktX16_takeAway_2 : List UInt8 := dkwX16_takeAway_2 ++ dktX16_takeAway_3
def dkwX16_takeAway_1 : List UInt8 := [180, 1, 61, 182, 0, 87, 42, 42, 180, 1, 55, 1, 43, 29, 50, 42, 180, 1, 61, 182, 0, 87, 3]
abbrev dktX16_takeAway_1 : List UInt8 := dkwX16_takeAway_1 ++ dktX16_takeAway_2
def dkwX16_takeAway_0 : List UInt8 := [42, 42, 180, 1, 61, 43, 29, 50, 44, 29, 50, 182, 0, 98, 42, 42, 180, 1, 52, 1, 44, 29, 50, 42]
abbrev dktX16_takeAway_0 : List UInt8 := dkwX16_takeAway_0 ++ dktX16_takeAway_1
theorem dksX16_takeAway_0 : cX16_takeAway.data.toList.drop 0 = dktX16_takeAway_0 := by decide +kernel
theorem dksX16_takeAway_1 : cX16_takeAway.data.toList.drop 24 = dktX16_takeAway_1 := dk_seg dksX16_takeAway_0 24 rfl rfl
theorem dksX16_takeAway_2 : cX16_takeAway.data.toList.drop 47 = dktX16_takeAway_2 := dk_seg dksX16_takeAway_1 23 rfl rfl
theorem dksX16_takeAway_3 : cX16_takeAway.data.toList.drop 69 = dktX16_takeAway_3 := dk_seg dksX16_takeAway_2 22 rfl rfl
theorem dksX16_takeAway_4 : cX16_takeAway.data.toList.drop 93 = dktX16_takeAway_4 := dk_seg dksX16_takeAway_3 24 rfl rfl
theorem dksX16_takeAway_5 : cX16_takeAway.data.toList.drop 115 = dktX16_takeAway_5 := dk_seg dksX16_takeAway_4 22 rfl rfl
theorem dksX16_takeAway_6 : cX16_takeAway.data.toList.drop 139 = dktX16_takeAway_6 := dk_seg dksX16_takeAway_5 24 rfl rfl
theorem dksX16_takeAway_7 : cX16_takeAway.data.toList.drop 161 = dktX16_takeAway_7 := dk_seg dksX16_takeAway_6 22 rfl rfl
theorem dksX16_takeAway_8 : cX16_takeAway.data.toList.drop 184 = dktX16_takeAway_8 := dk_seg dksX16_takeAway_7 23 rfl rfl
theorem dksX16_takeAway_9 : cX16_takeAway.data.toList.drop 208 = dktX16_takeAway_9 := dk_seg dksX16_takeAway_8 24 rfl rfl
theorem dksX16_takeAway_10 : cX16_takeAway.data.toList.drop 231 = dktX16_takeAway_10 := dk_seg dksX16_takeAway_9 23 rfl rfl
theorem dX16_takeAway_0 : decode cX16_takeAway 0 = .ok (.aload_n 0, 1) := dk_42 (dk_at dksX16_takeAway_0 0 rfl rfl)
theorem dX16_takeAway_1 : decode cX16_takeAway 1 = .ok (.aload_n 0, 1) := dk_42 (dk_at dksX16_takeAway_0 1 rfl rfl)
theorem dX16_takeAway_2 : decode cX16_takeAway 2 = .ok (.getfield 317, 3) := dk_180 1 61 (dk_at dksX16_takeAway_0 2 rfl rfl)
theorem dX16_takeAway_5 : decode cX16_takeAway 5 = .ok (.aload_n 1, 1) := dk_43 (dk_at dksX16_takeAway_0 5 rfl rfl)
theorem dX16_takeAway_6 : decode cX16_takeAway 6 = .ok (.iload_n 3, 1) := dk_29 (dk_at dksX16_takeAway_0 6 rfl rfl)
theorem dX16_takeAway_7 : decode cX16_takeAway 7 = .ok (.aaload, 1) := dk_50 (dk_at dksX16_takeAway_0 7 rfl rfl)
theorem dX16_takeAway_8 : decode cX16_takeAway 8 = .ok (.aload_n 2, 1) := dk_44 (dk_at dksX16_takeAway_0 8 rfl rfl)
theorem dX16_takeAway_9 : decode cX16_takeAway 9 = .ok (.iload_n 3, 1) := dk_29 (dk_at dksX16_takeAway_0 9 rfl rfl)
theorem dX16_takeAway_10 : decode cX16_takeAway 10 = .ok (.aaload, 1) := dk_50 (dk_at dksX16_takeAway_0 10 rfl rfl)
theorem dX16_takeAway_11 : decode cX16_takeAway 11 = .ok (.invokevirtual 98, 3) := dk_182 0 98 (dk_at dksX16_takeAway_0 11 rfl rfl)
theorem dX16_takeAway_14 : decode cX16_takeAway 14 = .ok (.aload_n 0, 1) := dk_42 (dk_at dksX16_takeAway_0 14 rfl rfl)
theorem dX16_takeAway_15 : decode cX16_takeAway 15 = .ok (.aload_n 0, 1) := dk_42 (dk_at dksX16_takeAway_0 15 rfl rfl)
theorem dX16_takeAway_16 : decode cX16_takeAway 16 = .ok (.getfield 308, 3) := dk_180 1 52 (dk_at dksX16_takeAway_0 16 rfl rfl)
theorem dX16_takeAway_19 : decode cX16_takeAway 19 = .ok (.aconst_null, 1) := dk_1 (dk_at dksX16_takeAway_0 19 rfl rfl)
theorem dX16_takeAway_20 : decode cX16_takeAway 20 = .ok (.aload_n 2, 1) := dk_44 (dk_at dksX16_takeAway_0 20 rfl rfl)
theorem dX16_takeAway_21 : decode cX16_takeAway 21 = .ok (.iload_n 3, 1) := dk_29 (dk_at dksX16_takeAway_0 21 rfl rfl)
theorem dX16_takeAway_22 : decode cX16_takeAway 22 = .ok (.aaload, 1) := dk_50 (dk_at dksX16_takeAway_0 22 rfl rfl)
theorem dX16_takeAway_23 : decode cX16_takeAway 23 = .ok (.aload_n 0, 1) := dk_42 (dk_at dksX16_takeAway_0 23 rfl rfl)
theorem dX16_takeAway_24 : decode cX16_takeAway 24 = .ok (.getfield 317, 3) := dk_180 1 61 (dk_at dksX16_takeAway_1 0 rfl rfl)
theorem dX16_takeAway_27 : decode cX16_takeAway 27 = .ok (.invokevirtual 87, 3) := dk_182 0 87 (dk_at dksX16_takeAway_1 3 rfl rfl)
theorem dX16_takeAway_30 : decode cX16_takeAway 30 = .ok (.aload_n 0, 1) := dk_42 (dk_at dksX16_takeAway_1 6 rfl rfl)
theorem dX16_takeAway_31 : decode cX16_takeAway 31 = .ok (.aload_n 0, 1) := dk_42 (dk_at dksX16_takeAway_1 7 rfl rfl)
theorem dX16_takeAway_32 : decode cX16_takeAway 32 = .ok (.getfield 311, 3) := dk_180 1 55 (dk_at dksX16_takeAway_1 8 rfl rfl)
theorem dX16_takeAway_35 : decode cX16_takeAway 35 = .ok (.aconst_null, 1) := dk_1 (dk_at dksX16_takeAway_1 11 rfl rfl)
theorem dX16_takeAway_36 : decode cX16_takeAway 36 = .ok (.aload_n 1, 1) := dk_43 (dk_at dksX16_takeAway_1 12 rfl rfl)
theorem dX16_takeAway_37 : decode cX16_takeAway 37 = .ok (.iload_n 3, 1) := dk_29 (dk_at dksX16_takeAway_1 13 rfl rfl)
theorem dX16_takeAway_38 : decode cX16_takeAway 38 = .ok (.aaload, 1) := dk_50 (dk_at dksX16_takeAway_1 14 rfl rfl)
theorem dX16_takeAway_39 : decode cX16_takeAway 39 = .ok (.aload_n 0, 1) := dk_42 (dk_at dksX16_takeAway_1 15 rfl rfl)
theorem dX16_takeAway_40 : decode cX16_takeAway 40 = .ok (.getfield 317, 3) := dk_180 1 61 (dk_at dksX16_takeAway_1 16 rfl rfl)
theorem dX16_takeAway_43 : decode cX16_takeAway 43 = .ok (.invokevirtual 87, 3) := dk_182 0 87 (dk_at dksX16_takeAway_1 19 rfl rfl)
theorem dX16_takeAway_46 : decode cX16_takeAway 46 = .ok (.iconst 0, 1) := dk_3 (dk_at dksX16_takeAway_1 22 rfl rfl)
theorem dX16_takeAway_47 : decode cX16_takeAway 47 = .ok (.istore 4, 2) := dk_54 4 (dk_at dksX16_takeAway_2 0 rfl rfl)
theorem dX16_takeAway_49 : decode cX16_takeAway 49 = .ok (.iload 4, 2) := dk_21 4 (dk_at dksX16_takeAway_2 2 rfl rfl)
theorem dX16_takeAway_51 : decode cX16_takeAway 51 = .ok (.bipush 70, 2) := dk_16 70 (dk_at dksX16_takeAway_2 4 rfl rfl)
theorem dX16_takeAway_53 : decode cX16_takeAway 53 = .ok (.if_icmp .ge 68, 3) := dk_162 0 68 (dk_at dksX16_takeAway_2 6 rfl rfl)
theorem dX16_takeAway_56 : decode cX16_takeAway 56 = .ok (.aload_n 0, 1) := dk_42 (dk_at dksX16_takeAway_2 9 rfl rfl)
theorem dX16_takeAway_57 : decode cX16_takeAway 57 = .ok (.aload_n 0, 1) := dk_42 (dk_at dksX16_takeAway_2 10 rfl rfl)
theorem dX16_takeAway_58 : decode cX16_takeAway 58 = .ok (.getfield 314, 3) := dk_180 1 58 (dk_at dksX16_takeAway_2 11 rfl rfl)
theorem dX16_takeAway_61 : decode cX16_takeAway 61 = .ok (.aload_n 1, 1) := dk_43 (dk_at dksX16_takeAway_2 14 rfl rfl)
theorem dX16_takeAway_62 : decode cX16_takeAway 62 = .ok (.iload 4, 2) := dk_21 4 (dk_at dksX16_takeAway_2 15 rfl rfl)
theorem dX16_takeAway_64 : decode cX16_takeAway 64 = .ok (.aaload, 1) := dk_50 (dk_at dksX16_takeAway_2 17 rfl rfl)
theorem dX16_takeAway_65 : decode cX16_takeAway 65 = .ok (.aload_n 0, 1) := dk_42 (dk_at dksX16_takeAway_2 18 rfl rfl)
theorem dX16_takeAway_66 : decode cX16_takeAway 66 = .ok (.getfield 308, 3) := dk_180 1 52 (dk_at dksX16_takeAway_2 19 rfl rfl)
theorem dX16_takeAway_69 : decode cX16_takeAway 69 = .ok (.invokevirtual 105, 3) := dk_182 0 105 (dk_at dksX16_takeAway_3 0 rfl rfl)
theorem dX16_takeAway_72 : decode cX16_takeAway 72 = .ok (.aload_n 0, 1) := dk_42 (dk_at dksX16_takeAway_3 3 rfl rfl)
theorem dX16_takeAway_73 : decode cX16_takeAway 73 = .ok (.aload_n 0, 1) := dk_42 (dk_at dksX16_takeAway_3 4 rfl rfl)
theorem dX16_takeAway_74 : decode cX16_takeAway 74 = .ok (.getfield 102, 3) := dk_180 0 102 (dk_at dksX16_takeAway_3 5 rfl rfl)
theorem dX16_takeAway_77 : decode cX16_takeAway 77 = .ok (.aload_n 2, 1) := dk_44 (dk_at dksX16_takeAway_3 8 rfl rfl)
theorem dX16_takeAway_78 : decode cX16_takeAway 78 = .ok (.iload 4, 2) := dk_21 4 (dk_at dksX16_takeAway_3 9 rfl rfl)
theorem dX16_takeAway_80 : decode cX16_takeAway 80 = .ok (.aaload, 1) := dk_50 (dk_at dksX16_takeAway_3 11 rfl rfl)
theorem dX16_takeAway_81 : decode cX16_takeAway 81 = .ok (.aload_n 0, 1) := dk_42 (dk_at dksX16_takeAway_3 12 rfl rfl)
theorem dX16_takeAway_82 : decode cX16_takeAway 82 = .ok (.getfield 311, 3) := dk_180 1 55 (dk_at dksX16_takeAway_3 13 rfl rfl)
theorem dX16_takeAway_85 : decode cX16_takeAway 85 = .ok (.invokevirtual 105, 3) := dk_182 0 105 (dk_at dksX16_takeAway_3 16 rfl rfl)
theorem dX16_takeAway_88 : decode cX16_takeAway 88 = .ok (.aload_n 0, 1) := dk_42 (dk_at dksX16_takeAway_3 19 rfl rfl)
theorem dX16_takeAway_89 : decode cX16_takeAway 89 = .ok (.getfield 314, 3) := dk_180 1 58 (dk_at dksX16_takeAway_3 20 rfl rfl)
theorem dX16_takeAway_92 : decode cX16_takeAway 92 = .ok (.aload_n 0, 1) := dk_42 (dk_at dksX16_takeAway_3 23 rfl rfl)
theorem dX16_takeAway_93 : decode cX16_takeAway 93 = .ok (.getfield 314, 3) := dk_180 1 58 (dk_at dksX16_takeAway_4 0 rfl rfl)
theorem dX16_takeAway_96 : decode cX16_takeAway 96 = .ok (.aload_n 0, 1) := dk_42 (dk_at dksX16_takeAway_4 3 rfl rfl)
theorem dX16_takeAway_97 : decode cX16_takeAway 97 = .ok (.getfield 102, 3) := dk_180 0 102 (dk_at dksX16_takeAway_4 4 rfl rfl)
theorem dX16_takeAway_100 : decode cX16_takeAway 100 = .ok (.iconst (-1), 1) := dk_2 (dk_at dksX16_takeAway_4 7 rfl rfl)
theorem dX16_takeAway_101 : decode cX16_takeAway 101 = .ok (.invokestatic 111, 3) := dk_184 0 111 (dk_at dksX16_takeAway_4 8 rfl rfl)
theorem dX16_takeAway_104 : decode cX16_takeAway 104 = .ok (.aload_n 1, 1) := dk_43 (dk_at dksX16_takeAway_4 11 rfl rfl)
theorem dX16_takeAway_105 : decode cX16_takeAway 105 = .ok (.iload 4, 2) := dk_21 4 (dk_at dksX16_takeAway_4 12 rfl rfl)
theorem dX16_takeAway_107 : decode cX16_takeAway 107 = .ok (.aaload, 1) := dk_50 (dk_at dksX16_takeAway_4 14 rfl rfl)
theorem dX16_takeAway_108 : decode cX16_takeAway 108 = .ok (.aload_n 0, 1) := dk_42 (dk_at dksX16_takeAway_4 15 rfl rfl)
theorem dX16_takeAway_109 : decode cX16_takeAway 109 = .ok (.getfield 314, 3) := dk_180 1 58 (dk_at dksX16_takeAway_4 16 rfl rfl)
theorem dX16_takeAway_112 : decode cX16_takeAway 112 = .ok (.invokevirtual 18, 3) := dk_182 0 18 (dk_at dksX16_takeAway_4 19 rfl rfl)
theorem dX16_takeAway_115 : decode cX16_takeAway 115 = .ok (.iinc 4 1, 3) := dk_132 4 1 (dk_at dksX16_takeAway_5 0 rfl rfl)
theorem dX16_takeAway_118 : decode cX16_takeAway 118 = .ok (.goto (-69), 3) := dk_167 255 187 (dk_at dksX16_takeAway_5 3 rfl rfl)
theorem dX16_takeAway_121 : decode cX16_takeAway 121 = .ok (.aload_n 0, 1) := dk_42 (dk_at dksX16_takeAway_5 6 rfl rfl)
theorem dX16_takeAway_122 : decode cX16_takeAway 122 = .ok (.getfield 317, 3) := dk_180 1 61 (dk_at dksX16_takeAway_5 7 rfl rfl)
theorem dX16_takeAway_125 : decode cX16_takeAway 125 = .ok (.lconst 0, 1) := dk_9 (dk_at dksX16_takeAway_5 10 rfl rfl)
theorem dX16_takeAway_126 : decode cX16_takeAway 126 = .ok (.invokevirtual 83, 3) := dk_182 0 83 (dk_at dksX16_takeAway_5 11 rfl rfl)
theorem dX16_takeAway_129 : decode cX16_takeAway 129 = .ok (.iconst 0, 1) := dk_3 (dk_at dksX16_takeAway_5 14 rfl rfl)
theorem dX16_takeAway_130 : decode cX16_takeAway 130 = .ok (.istore 4, 2) := dk_54 4 (dk_at dksX16_takeAway_5 15 rfl rfl)
theorem dX16_takeAway_132 : decode cX16_takeAway 132 = .ok (.iload 4, 2) := dk_21 4 (dk_at dksX16_takeAway_5 17 rfl rfl)
theorem dX16_takeAway_134 : decode cX16_takeAway 134 = .ok (.bipush 70, 2) := dk_16 70 (dk_at dksX16_takeAway_5 19 rfl rfl)
theorem dX16_takeAway_136 : decode cX16_takeAway 136 = .ok (.if_icmp .ge 45, 3) := dk_162 0 45 (dk_at dksX16_takeAway_5 21 rfl rfl)
theorem dX16_takeAway_139 : decode cX16_takeAway 139 = .ok (.aload_n 0, 1) := dk_42 (dk_at dksX16_takeAway_6 0 rfl rfl)
theorem dX16_takeAway_140 : decode cX16_takeAway 140 = .ok (.getfield 317, 3) := dk_180 1 61 (dk_at dksX16_takeAway_6 1 rfl rfl)
theorem dX16_takeAway_143 : decode cX16_takeAway 143 = .ok (.invokevirtual 91, 3) := dk_182 0 91 (dk_at dksX16_takeAway_6 4 rfl rfl)
theorem dX16_takeAway_146 : decode cX16_takeAway 146 = .ok (.ifCond .ne 35, 3) := dk_154 0 35 (dk_at dksX16_takeAway_6 7 rfl rfl)
theorem dX16_takeAway_149 : decode cX16_takeAway 149 = .ok (.aload_n 1, 1) := dk_43 (dk_at dksX16_takeAway_6 10 rfl rfl)
theorem dX16_takeAway_150 : decode cX16_takeAway 150 = .ok (.iload 4, 2) := dk_21 4 (dk_at dksX16_takeAway_6 11 rfl rfl)
theorem dX16_takeAway_152 : decode cX16_takeAway 152 = .ok (.aaload, 1) := dk_50 (dk_at dksX16_takeAway_6 13 rfl rfl)
theorem dX16_takeAway_153 : decode cX16_takeAway 153 = .ok (.getfield 15, 3) := dk_180 0 15 (dk_at dksX16_takeAway_6 14 rfl rfl)
theorem dX16_takeAway_156 : decode cX16_takeAway 156 = .ok (.ifCond .eq 19, 3) := dk_153 0 19 (dk_at dksX16_takeAway_6 17 rfl rfl)
theorem dX16_takeAway_159 : decode cX16_takeAway 159 = .ok (.aload_n 0, 1) := dk_42 (dk_at dksX16_takeAway_6 20 rfl rfl)
theorem dX16_takeAway_160 : decode cX16_takeAway 160 = .ok (.aload_n 0, 1) := dk_42 (dk_at dksX16_takeAway_6 21 rfl rfl)
theorem dX16_takeAway_161 : decode cX16_takeAway 161 = .ok (.getfield 317, 3) := dk_180 1 61 (dk_at dksX16_takeAway_7 0 rfl rfl)
theorem dX16_takeAway_164 : decode cX16_takeAway 164 = .ok (.aload_n 1, 1) := dk_43 (dk_at dksX16_takeAway_7 3 rfl rfl)
theorem dX16_takeAway_165 : decode cX16_takeAway 165 = .ok (.iload 4, 2) := dk_21 4 (dk_at dksX16_takeAway_7 4 rfl rfl)
theorem dX16_takeAway_167 : decode cX16_takeAway 167 = .ok (.aaload, 1) := dk_50 (dk_at dksX16_takeAway_7 6 rfl rfl)
theorem dX16_takeAway_168 : decode cX16_takeAway 168 = .ok (.aload_n 0, 1) := dk_42 (dk_at dksX16_takeAway_7 7 rfl rfl)
theorem dX16_takeAway_169 : decode cX16_takeAway 169 = .ok (.getfield 317, 3) := dk_180 1 61 (dk_at dksX16_takeAway_7 8 rfl rfl)
theorem dX16_takeAway_172 : decode cX16_takeAway 172 = .ok (.invokevirtual 98, 3) := dk_182 0 98 (dk_at dksX16_takeAway_7 11 rfl rfl)
theorem dX16_takeAway_175 : decode cX16_takeAway 175 = .ok (.iinc 4 1, 3) := dk_132 4 1 (dk_at dksX16_takeAway_7 14 rfl rfl)
theorem dX16_takeAway_178 : decode cX16_takeAway 178 = .ok (.goto (-46), 3) := dk_167 255 210 (dk_at dksX16_takeAway_7 17 rfl rfl)
theorem dX16_takeAway_181 : decode cX16_takeAway 181 = .ok (.iconst 0, 1) := dk_3 (dk_at dksX16_takeAway_7 20 rfl rfl)
theorem dX16_takeAway_182 : decode cX16_takeAway 182 = .ok (.istore 4, 2) := dk_54 4 (dk_at dksX16_takeAway_7 21 rfl rfl)
theorem dX16_takeAway_184 : decode cX16_takeAway 184 = .ok (.iload 4, 2) := dk_21 4 (dk_at dksX16_takeAway_8 0 rfl rfl)
theorem dX16_takeAway_186 : decode cX16_takeAway 186 = .ok (.bipush 70, 2) := dk_16 70 (dk_at dksX16_takeAway_8 2 rfl rfl)
theorem dX16_takeAway_188 : decode cX16_takeAway 188 = .ok (.if_icmp .ge 46, 3) := dk_162 0 46 (dk_at dksX16_takeAway_8 4 rfl rfl)
theorem dX16_takeAway_191 : decode cX16_takeAway 191 = .ok (.aload_n 0, 1) := dk_42 (dk_at dksX16_takeAway_8 7 rfl rfl)
theorem dX16_takeAway_192 : decode cX16_takeAway 192 = .ok (.getfield 317, 3) := dk_180 1 61 (dk_at dksX16_takeAway_8 8 rfl rfl)
theorem dX16_takeAway_195 : decode cX16_takeAway 195 = .ok (.invokevirtual 91, 3) := dk_182 0 91 (dk_at dksX16_takeAway_8 11 rfl rfl)
theorem dX16_takeAway_198 : decode cX16_takeAway 198 = .ok (.ifCond .ne 36, 3) := dk_154 0 36 (dk_at dksX16_takeAway_8 14 rfl rfl)
theorem dX16_takeAway_201 : decode cX16_takeAway 201 = .ok (.aload_n 1, 1) := dk_43 (dk_at dksX16_takeAway_8 17 rfl rfl)
theorem dX16_takeAway_202 : decode cX16_takeAway 202 = .ok (.iload 4, 2) := dk_21 4 (dk_at dksX16_takeAway_8 18 rfl rfl)
theorem dX16_takeAway_204 : decode cX16_takeAway 204 = .ok (.aaload, 1) := dk_50 (dk_at dksX16_takeAway_8 20 rfl rfl)
theorem dX16_takeAway_205 : decode cX16_takeAway 205 = .ok (.getfield 15, 3) := dk_180 0 15 (dk_at dksX16_takeAway_8 21 rfl rfl)
theorem dX16_takeAway_208 : decode cX16_takeAway 208 = .ok (.ifCond .eq 20, 3) := dk_153 0 20 (dk_at dksX16_takeAway_9 0 rfl rfl)
theorem dX16_takeAway_211 : decode cX16_takeAway 211 = .ok (.aload_n 0, 1) := dk_42 (dk_at dksX16_takeAway_9 3 rfl rfl)
theorem dX16_takeAway_212 : decode cX16_takeAway 212 = .ok (.aload_n 1, 1) := dk_43 (dk_at dksX16_takeAway_9 4 rfl rfl)
theorem dX16_takeAway_213 : decode cX16_takeAway 213 = .ok (.iload 4, 2) := dk_21 4 (dk_at dksX16_takeAway_9 5 rfl rfl)
theorem dX16_takeAway_215 : decode cX16_takeAway 215 = .ok (.aaload, 1) := dk_50 (dk_at dksX16_takeAway_9 7 rfl rfl)
theorem dX16_takeAway_216 : decode cX16_takeAway 216 = .ok (.aconst_null, 1) := dk_1 (dk_at dksX16_takeAway_9 8 rfl rfl)
theorem dX16_takeAway_217 : decode cX16_takeAway 217 = .ok (.aload_n 1, 1) := dk_43 (dk_at dksX16_takeAway_9 9 rfl rfl)
theorem dX16_takeAway_218 : decode cX16_takeAway 218 = .ok (.iload 4, 2) := dk_21 4 (dk_at dksX16_takeAway_9 10 rfl rfl)
theorem dX16_takeAway_220 : decode cX16_takeAway 220 = .ok (.aaload, 1) := dk_50 (dk_at dksX16_takeAway_9 12 rfl rfl)
theorem dX16_takeAway_221 : decode cX16_takeAway 221 = .ok (.aload_n 0, 1) := dk_42 (dk_at dksX16_takeAway_9 13 rfl rfl)
theorem dX16_takeAway_222 : decode cX16_takeAway 222 = .ok (.getfield 317, 3) := dk_180 1 61 (dk_at dksX16_takeAway_9 14 rfl rfl)
theorem dX16_takeAway_225 : decode cX16_takeAway 225 = .ok (.invokevirtual 87, 3) := dk_182 0 87 (dk_at dksX16_takeAway_9 17 rfl rfl)
theorem dX16_takeAway_228 : decode cX16_takeAway 228 = .ok (.iinc 4 1, 3) := dk_132 4 1 (dk_at dksX16_takeAway_9 20 rfl rfl)
theorem dX16_takeAway_231 : decode cX16_takeAway 231 = .ok (.goto (-47), 3) := dk_167 255 209 (dk_at dksX16_takeAway_10 0 rfl rfl)
theorem dX16_takeAway_234 : decode cX16_takeAway 234 = .ok (.return_, 1) := dk_177 (dk_at dksX16_takeAway_10 3 rfl rfl)
abbrev cX16_tellElements : ByteArray := prog_21_method_61_code
def yX16_tellElements : MethodName := ⟨RX16, "tellElements", "()V"⟩
def dkwX16_tellElements_6 : List UInt8 := [167, 255, 119, 177]
abbrev dktX16_tellElements_6 : List UInt8 := dkwX16_tellElements_6 ++ []
def dkwX16_tellElements_5 : List UInt8 := [182, 1, 154, 42, 180, 1, 49, 27, 29, 79, 132, 1, 1, 132, 3, 1, 167, 255, 135, 132, 2, 1]
abbrev dktX16_tellElements_5 : List UInt8 := dkwX16_tellElements_5 ++ dktX16_tellElements_6
def dkwX16_tellElements_4 : List UInt8 := [50, 28, 50, 4, 182, 0, 172, 87, 132, 4, 1, 167, 255, 195, 42, 180, 0, 230, 42, 180, 1, 46, 27, 50]
abbrev dktX16_tellElements_4 : List UInt8 := dkwX16_tellElements_4 ++ dktX16_tellElements_5
def dkwX16_tellElements_3 : List UInt8 := [180, 0, 230, 42, 180, 1, 23, 21, 4, 46, 42, 180, 1, 39, 29, 50, 21, 4, 50, 42, 180, 1, 39, 29]
abbrev dktX16_tellElements_3 : List UInt8 := dkwX16_tellElements_3 ++ dktX16_tellElements_4
def dkwX16_tellElements_2 : List UInt8 := [42, 180, 2, 17, 162, 0, 58, 42, 180, 1, 39, 29, 50, 21, 4, 50, 180, 0, 15, 153, 0, 37, 42, 42]
abbrev dktX16_tellElements_2 : List UInt8 := dkwX16_tellElements_2 ++ dktX16_tellElements_3
def dkwX16_tellElements_1 : List UInt8 := [180, 1, 43, 29, 46, 28, 159, 0, 6, 167, 0, 100, 42, 180, 0, 230, 182, 1, 167, 28, 54, 4, 21, 4]
abbrev dktX16_tellElements_1 : List UInt8 := dkwX16_tellElements_1 ++ dktX16_tellElements_2
def dkwX16_tellElements_0 : List UInt8 := [3, 60, 3, 61, 28, 42, 180, 2, 17, 162, 0, 135, 3, 62, 29, 42, 180, 2, 32, 162, 0, 119, 42]
abbrev dktX16_tellElements_0 : List UInt8 := dkwX16_tellElements_0 ++ dktX16_tellElements_1
theorem dksX16_tellElements_0 : cX16_tellElements.data.toList.drop 0 = dktX16_tellElements_0 := by decide +kernel
theorem dksX16_tellElements_1 : cX16_tellElements.data.toList.drop 23 = dktX16_tellElements_1 := dk_seg dksX16_tellElements_0 23 rfl rfl
theorem dksX16_tellElements_2 : cX16_tellElements.data.toList.drop 47 = dktX16_tellElements_2 := dk_seg dksX16_tellElements_1 24 rfl rfl
theorem dksX16_tellElements_3 : cX16_tellElements.data.toList.drop 71 = dktX16_tellElements_3 := dk_seg dksX16_tellElements_2 24 rfl rfl
theorem dksX16_tellElements_4 : cX16_tellElements.data.toList.drop 95 = dktX16_tellElements_4 := dk_seg dksX16_tellElements_3 24 rfl rfl
theorem dksX16_tellElements_5 : cX16_tellElements.data.toList.drop 119 = dktX16_tellElements_5 := dk_seg dksX16_tellElements_4 24 rfl rfl
theorem dksX16_tellElements_6 : cX16_tellElements.data.toList.drop 141 = dktX16_tellElements_6 := dk_seg dksX16_tellElements_5 22 rfl rfl
theorem dX16_tellElements_0 : decode cX16_tellElements 0 = .ok (.iconst 0, 1) := dk_3 (dk_at dksX16_tellElements_0 0 rfl rfl)
theorem dX16_tellElements_1 : decode cX16_tellElements 1 = .ok (.istore_n 1, 1) := dk_60 (dk_at dksX16_tellElements_0 1 rfl rfl)
theorem dX16_tellElements_2 : decode cX16_tellElements 2 = .ok (.iconst 0, 1) := dk_3 (dk_at dksX16_tellElements_0 2 rfl rfl)
theorem dX16_tellElements_3 : decode cX16_tellElements 3 = .ok (.istore_n 2, 1) := dk_61 (dk_at dksX16_tellElements_0 3 rfl rfl)
theorem dX16_tellElements_4 : decode cX16_tellElements 4 = .ok (.iload_n 2, 1) := dk_28 (dk_at dksX16_tellElements_0 4 rfl rfl)
theorem dX16_tellElements_5 : decode cX16_tellElements 5 = .ok (.aload_n 0, 1) := dk_42 (dk_at dksX16_tellElements_0 5 rfl rfl)
theorem dX16_tellElements_6 : decode cX16_tellElements 6 = .ok (.getfield 529, 3) := dk_180 2 17 (dk_at dksX16_tellElements_0 6 rfl rfl)
theorem dX16_tellElements_9 : decode cX16_tellElements 9 = .ok (.if_icmp .ge 135, 3) := dk_162 0 135 (dk_at dksX16_tellElements_0 9 rfl rfl)
theorem dX16_tellElements_12 : decode cX16_tellElements 12 = .ok (.iconst 0, 1) := dk_3 (dk_at dksX16_tellElements_0 12 rfl rfl)
theorem dX16_tellElements_13 : decode cX16_tellElements 13 = .ok (.istore_n 3, 1) := dk_62 (dk_at dksX16_tellElements_0 13 rfl rfl)
theorem dX16_tellElements_14 : decode cX16_tellElements 14 = .ok (.iload_n 3, 1) := dk_29 (dk_at dksX16_tellElements_0 14 rfl rfl)
theorem dX16_tellElements_15 : decode cX16_tellElements 15 = .ok (.aload_n 0, 1) := dk_42 (dk_at dksX16_tellElements_0 15 rfl rfl)
theorem dX16_tellElements_16 : decode cX16_tellElements 16 = .ok (.getfield 544, 3) := dk_180 2 32 (dk_at dksX16_tellElements_0 16 rfl rfl)
theorem dX16_tellElements_19 : decode cX16_tellElements 19 = .ok (.if_icmp .ge 119, 3) := dk_162 0 119 (dk_at dksX16_tellElements_0 19 rfl rfl)
theorem dX16_tellElements_22 : decode cX16_tellElements 22 = .ok (.aload_n 0, 1) := dk_42 (dk_at dksX16_tellElements_0 22 rfl rfl)
theorem dX16_tellElements_23 : decode cX16_tellElements 23 = .ok (.getfield 299, 3) := dk_180 1 43 (dk_at dksX16_tellElements_1 0 rfl rfl)
theorem dX16_tellElements_26 : decode cX16_tellElements 26 = .ok (.iload_n 3, 1) := dk_29 (dk_at dksX16_tellElements_1 3 rfl rfl)
theorem dX16_tellElements_27 : decode cX16_tellElements 27 = .ok (.iaload, 1) := dk_46 (dk_at dksX16_tellElements_1 4 rfl rfl)
theorem dX16_tellElements_28 : decode cX16_tellElements 28 = .ok (.iload_n 2, 1) := dk_28 (dk_at dksX16_tellElements_1 5 rfl rfl)
theorem dX16_tellElements_29 : decode cX16_tellElements 29 = .ok (.if_icmp .eq 6, 3) := dk_159 0 6 (dk_at dksX16_tellElements_1 6 rfl rfl)
theorem dX16_tellElements_32 : decode cX16_tellElements 32 = .ok (.goto 100, 3) := dk_167 0 100 (dk_at dksX16_tellElements_1 9 rfl rfl)
theorem dX16_tellElements_35 : decode cX16_tellElements 35 = .ok (.aload_n 0, 1) := dk_42 (dk_at dksX16_tellElements_1 12 rfl rfl)
theorem dX16_tellElements_36 : decode cX16_tellElements 36 = .ok (.getfield 230, 3) := dk_180 0 230 (dk_at dksX16_tellElements_1 13 rfl rfl)
theorem dX16_tellElements_39 : decode cX16_tellElements 39 = .ok (.invokevirtual 423, 3) := dk_182 1 167 (dk_at dksX16_tellElements_1 16 rfl rfl)
theorem dX16_tellElements_42 : decode cX16_tellElements 42 = .ok (.iload_n 2, 1) := dk_28 (dk_at dksX16_tellElements_1 19 rfl rfl)
theorem dX16_tellElements_43 : decode cX16_tellElements 43 = .ok (.istore 4, 2) := dk_54 4 (dk_at dksX16_tellElements_1 20 rfl rfl)
theorem dX16_tellElements_45 : decode cX16_tellElements 45 = .ok (.iload 4, 2) := dk_21 4 (dk_at dksX16_tellElements_1 22 rfl rfl)
theorem dX16_tellElements_47 : decode cX16_tellElements 47 = .ok (.aload_n 0, 1) := dk_42 (dk_at dksX16_tellElements_2 0 rfl rfl)
theorem dX16_tellElements_48 : decode cX16_tellElements 48 = .ok (.getfield 529, 3) := dk_180 2 17 (dk_at dksX16_tellElements_2 1 rfl rfl)
theorem dX16_tellElements_51 : decode cX16_tellElements 51 = .ok (.if_icmp .ge 58, 3) := dk_162 0 58 (dk_at dksX16_tellElements_2 4 rfl rfl)
theorem dX16_tellElements_54 : decode cX16_tellElements 54 = .ok (.aload_n 0, 1) := dk_42 (dk_at dksX16_tellElements_2 7 rfl rfl)
theorem dX16_tellElements_55 : decode cX16_tellElements 55 = .ok (.getfield 295, 3) := dk_180 1 39 (dk_at dksX16_tellElements_2 8 rfl rfl)
theorem dX16_tellElements_58 : decode cX16_tellElements 58 = .ok (.iload_n 3, 1) := dk_29 (dk_at dksX16_tellElements_2 11 rfl rfl)
theorem dX16_tellElements_59 : decode cX16_tellElements 59 = .ok (.aaload, 1) := dk_50 (dk_at dksX16_tellElements_2 12 rfl rfl)
theorem dX16_tellElements_60 : decode cX16_tellElements 60 = .ok (.iload 4, 2) := dk_21 4 (dk_at dksX16_tellElements_2 13 rfl rfl)
theorem dX16_tellElements_62 : decode cX16_tellElements 62 = .ok (.aaload, 1) := dk_50 (dk_at dksX16_tellElements_2 15 rfl rfl)
theorem dX16_tellElements_63 : decode cX16_tellElements 63 = .ok (.getfield 15, 3) := dk_180 0 15 (dk_at dksX16_tellElements_2 16 rfl rfl)
theorem dX16_tellElements_66 : decode cX16_tellElements 66 = .ok (.ifCond .eq 37, 3) := dk_153 0 37 (dk_at dksX16_tellElements_2 19 rfl rfl)
theorem dX16_tellElements_69 : decode cX16_tellElements 69 = .ok (.aload_n 0, 1) := dk_42 (dk_at dksX16_tellElements_2 22 rfl rfl)
theorem dX16_tellElements_70 : decode cX16_tellElements 70 = .ok (.aload_n 0, 1) := dk_42 (dk_at dksX16_tellElements_2 23 rfl rfl)
theorem dX16_tellElements_71 : decode cX16_tellElements 71 = .ok (.getfield 230, 3) := dk_180 0 230 (dk_at dksX16_tellElements_3 0 rfl rfl)
theorem dX16_tellElements_74 : decode cX16_tellElements 74 = .ok (.aload_n 0, 1) := dk_42 (dk_at dksX16_tellElements_3 3 rfl rfl)
theorem dX16_tellElements_75 : decode cX16_tellElements 75 = .ok (.getfield 279, 3) := dk_180 1 23 (dk_at dksX16_tellElements_3 4 rfl rfl)
theorem dX16_tellElements_78 : decode cX16_tellElements 78 = .ok (.iload 4, 2) := dk_21 4 (dk_at dksX16_tellElements_3 7 rfl rfl)
theorem dX16_tellElements_80 : decode cX16_tellElements 80 = .ok (.iaload, 1) := dk_46 (dk_at dksX16_tellElements_3 9 rfl rfl)
theorem dX16_tellElements_81 : decode cX16_tellElements 81 = .ok (.aload_n 0, 1) := dk_42 (dk_at dksX16_tellElements_3 10 rfl rfl)
theorem dX16_tellElements_82 : decode cX16_tellElements 82 = .ok (.getfield 295, 3) := dk_180 1 39 (dk_at dksX16_tellElements_3 11 rfl rfl)
theorem dX16_tellElements_85 : decode cX16_tellElements 85 = .ok (.iload_n 3, 1) := dk_29 (dk_at dksX16_tellElements_3 14 rfl rfl)
theorem dX16_tellElements_86 : decode cX16_tellElements 86 = .ok (.aaload, 1) := dk_50 (dk_at dksX16_tellElements_3 15 rfl rfl)
theorem dX16_tellElements_87 : decode cX16_tellElements 87 = .ok (.iload 4, 2) := dk_21 4 (dk_at dksX16_tellElements_3 16 rfl rfl)
theorem dX16_tellElements_89 : decode cX16_tellElements 89 = .ok (.aaload, 1) := dk_50 (dk_at dksX16_tellElements_3 18 rfl rfl)
theorem dX16_tellElements_90 : decode cX16_tellElements 90 = .ok (.aload_n 0, 1) := dk_42 (dk_at dksX16_tellElements_3 19 rfl rfl)
theorem dX16_tellElements_91 : decode cX16_tellElements 91 = .ok (.getfield 295, 3) := dk_180 1 39 (dk_at dksX16_tellElements_3 20 rfl rfl)
theorem dX16_tellElements_94 : decode cX16_tellElements 94 = .ok (.iload_n 3, 1) := dk_29 (dk_at dksX16_tellElements_3 23 rfl rfl)
theorem dX16_tellElements_95 : decode cX16_tellElements 95 = .ok (.aaload, 1) := dk_50 (dk_at dksX16_tellElements_4 0 rfl rfl)
theorem dX16_tellElements_96 : decode cX16_tellElements 96 = .ok (.iload_n 2, 1) := dk_28 (dk_at dksX16_tellElements_4 1 rfl rfl)
theorem dX16_tellElements_97 : decode cX16_tellElements 97 = .ok (.aaload, 1) := dk_50 (dk_at dksX16_tellElements_4 2 rfl rfl)
theorem dX16_tellElements_98 : decode cX16_tellElements 98 = .ok (.iconst 1, 1) := dk_4 (dk_at dksX16_tellElements_4 3 rfl rfl)
theorem dX16_tellElements_99 : decode cX16_tellElements 99 = .ok (.invokevirtual 172, 3) := dk_182 0 172 (dk_at dksX16_tellElements_4 4 rfl rfl)
theorem dX16_tellElements_102 : decode cX16_tellElements 102 = .ok (.pop, 1) := dk_87 (dk_at dksX16_tellElements_4 7 rfl rfl)
theorem dX16_tellElements_103 : decode cX16_tellElements 103 = .ok (.iinc 4 1, 3) := dk_132 4 1 (dk_at dksX16_tellElements_4 8 rfl rfl)
theorem dX16_tellElements_106 : decode cX16_tellElements 106 = .ok (.goto (-61), 3) := dk_167 255 195 (dk_at dksX16_tellElements_4 11 rfl rfl)
theorem dX16_tellElements_109 : decode cX16_tellElements 109 = .ok (.aload_n 0, 1) := dk_42 (dk_at dksX16_tellElements_4 14 rfl rfl)
theorem dX16_tellElements_110 : decode cX16_tellElements 110 = .ok (.getfield 230, 3) := dk_180 0 230 (dk_at dksX16_tellElements_4 15 rfl rfl)
theorem dX16_tellElements_113 : decode cX16_tellElements 113 = .ok (.aload_n 0, 1) := dk_42 (dk_at dksX16_tellElements_4 18 rfl rfl)
theorem dX16_tellElements_114 : decode cX16_tellElements 114 = .ok (.getfield 302, 3) := dk_180 1 46 (dk_at dksX16_tellElements_4 19 rfl rfl)
theorem dX16_tellElements_117 : decode cX16_tellElements 117 = .ok (.iload_n 1, 1) := dk_27 (dk_at dksX16_tellElements_4 22 rfl rfl)
theorem dX16_tellElements_118 : decode cX16_tellElements 118 = .ok (.aaload, 1) := dk_50 (dk_at dksX16_tellElements_4 23 rfl rfl)
theorem dX16_tellElements_119 : decode cX16_tellElements 119 = .ok (.invokevirtual 410, 3) := dk_182 1 154 (dk_at dksX16_tellElements_5 0 rfl rfl)
theorem dX16_tellElements_122 : decode cX16_tellElements 122 = .ok (.aload_n 0, 1) := dk_42 (dk_at dksX16_tellElements_5 3 rfl rfl)
theorem dX16_tellElements_123 : decode cX16_tellElements 123 = .ok (.getfield 305, 3) := dk_180 1 49 (dk_at dksX16_tellElements_5 4 rfl rfl)
theorem dX16_tellElements_126 : decode cX16_tellElements 126 = .ok (.iload_n 1, 1) := dk_27 (dk_at dksX16_tellElements_5 7 rfl rfl)
theorem dX16_tellElements_127 : decode cX16_tellElements 127 = .ok (.iload_n 3, 1) := dk_29 (dk_at dksX16_tellElements_5 8 rfl rfl)
theorem dX16_tellElements_128 : decode cX16_tellElements 128 = .ok (.iastore, 1) := dk_79 (dk_at dksX16_tellElements_5 9 rfl rfl)
theorem dX16_tellElements_129 : decode cX16_tellElements 129 = .ok (.iinc 1 1, 3) := dk_132 1 1 (dk_at dksX16_tellElements_5 10 rfl rfl)
theorem dX16_tellElements_132 : decode cX16_tellElements 132 = .ok (.iinc 3 1, 3) := dk_132 3 1 (dk_at dksX16_tellElements_5 13 rfl rfl)
theorem dX16_tellElements_135 : decode cX16_tellElements 135 = .ok (.goto (-121), 3) := dk_167 255 135 (dk_at dksX16_tellElements_5 16 rfl rfl)
theorem dX16_tellElements_138 : decode cX16_tellElements 138 = .ok (.iinc 2 1, 3) := dk_132 2 1 (dk_at dksX16_tellElements_5 19 rfl rfl)
theorem dX16_tellElements_141 : decode cX16_tellElements 141 = .ok (.goto (-137), 3) := dk_167 255 119 (dk_at dksX16_tellElements_6 0 rfl rfl)
theorem dX16_tellElements_144 : decode cX16_tellElements 144 = .ok (.return_, 1) := dk_177 (dk_at dksX16_tellElements_6 3 rfl rfl)
abbrev cX16_element : ByteArray := prog_21_method_63_code
def yX16_element : MethodName := ⟨RX16, "element", "(II)I"⟩
def dkwX16_element_3 : List UInt8 := [46, 172]
abbrev dktX16_element_3 : List UInt8 := dkwX16_element_3 ++ []
def dkwX16_element_2 : List UInt8 := [180, 1, 46, 27, 50, 182, 1, 157, 87, 42, 180, 1, 23, 42, 180, 1, 43, 42, 180, 1, 49, 27, 46, 46]
abbrev dktX16_element_2 : List UInt8 := dkwX16_element_2 ++ dktX16_element_3
def dkwX16_element_1 : List UInt8 := [180, 2, 32, 161, 0, 18, 42, 29, 156, 0, 7, 29, 167, 0, 5, 16, 249, 182, 1, 151, 172, 42, 28, 42]
abbrev dktX16_element_1 : List UInt8 := dkwX16_element_1 ++ dktX16_element_2
def dkwX16_element_0 : List UInt8 := [42, 28, 182, 1, 161, 62, 29, 155, 0, 22, 42, 180, 2, 39, 153, 0, 15, 27, 155, 0, 11, 27, 42]
abbrev dktX16_element_0 : List UInt8 := dkwX16_element_0 ++ dktX16_element_1
theorem dksX16_element_0 : cX16_element.data.toList.drop 0 = dktX16_element_0 := by decide +kernel
theorem dksX16_element_1 : cX16_element.data.toList.drop 23 = dktX16_element_1 := dk_seg dksX16_element_0 23 rfl rfl
theorem dksX16_element_2 : cX16_element.data.toList.drop 47 = dktX16_element_2 := dk_seg dksX16_element_1 24 rfl rfl
theorem dksX16_element_3 : cX16_element.data.toList.drop 71 = dktX16_element_3 := dk_seg dksX16_element_2 24 rfl rfl
theorem dX16_element_0 : decode cX16_element 0 = .ok (.aload_n 0, 1) := dk_42 (dk_at dksX16_element_0 0 rfl rfl)
theorem dX16_element_1 : decode cX16_element 1 = .ok (.iload_n 2, 1) := dk_28 (dk_at dksX16_element_0 1 rfl rfl)
theorem dX16_element_2 : decode cX16_element 2 = .ok (.invokevirtual 417, 3) := dk_182 1 161 (dk_at dksX16_element_0 2 rfl rfl)
theorem dX16_element_5 : decode cX16_element 5 = .ok (.istore_n 3, 1) := dk_62 (dk_at dksX16_element_0 5 rfl rfl)
theorem dX16_element_6 : decode cX16_element 6 = .ok (.iload_n 3, 1) := dk_29 (dk_at dksX16_element_0 6 rfl rfl)
theorem dX16_element_7 : decode cX16_element 7 = .ok (.ifCond .lt 22, 3) := dk_155 0 22 (dk_at dksX16_element_0 7 rfl rfl)
theorem dX16_element_10 : decode cX16_element 10 = .ok (.aload_n 0, 1) := dk_42 (dk_at dksX16_element_0 10 rfl rfl)
theorem dX16_element_11 : decode cX16_element 11 = .ok (.getfield 551, 3) := dk_180 2 39 (dk_at dksX16_element_0 11 rfl rfl)
theorem dX16_element_14 : decode cX16_element 14 = .ok (.ifCond .eq 15, 3) := dk_153 0 15 (dk_at dksX16_element_0 14 rfl rfl)
theorem dX16_element_17 : decode cX16_element 17 = .ok (.iload_n 1, 1) := dk_27 (dk_at dksX16_element_0 17 rfl rfl)
theorem dX16_element_18 : decode cX16_element 18 = .ok (.ifCond .lt 11, 3) := dk_155 0 11 (dk_at dksX16_element_0 18 rfl rfl)
theorem dX16_element_21 : decode cX16_element 21 = .ok (.iload_n 1, 1) := dk_27 (dk_at dksX16_element_0 21 rfl rfl)
theorem dX16_element_22 : decode cX16_element 22 = .ok (.aload_n 0, 1) := dk_42 (dk_at dksX16_element_0 22 rfl rfl)
theorem dX16_element_23 : decode cX16_element 23 = .ok (.getfield 544, 3) := dk_180 2 32 (dk_at dksX16_element_1 0 rfl rfl)
theorem dX16_element_26 : decode cX16_element 26 = .ok (.if_icmp .lt 18, 3) := dk_161 0 18 (dk_at dksX16_element_1 3 rfl rfl)
theorem dX16_element_29 : decode cX16_element 29 = .ok (.aload_n 0, 1) := dk_42 (dk_at dksX16_element_1 6 rfl rfl)
theorem dX16_element_30 : decode cX16_element 30 = .ok (.iload_n 3, 1) := dk_29 (dk_at dksX16_element_1 7 rfl rfl)
theorem dX16_element_31 : decode cX16_element 31 = .ok (.ifCond .ge 7, 3) := dk_156 0 7 (dk_at dksX16_element_1 8 rfl rfl)
theorem dX16_element_34 : decode cX16_element 34 = .ok (.iload_n 3, 1) := dk_29 (dk_at dksX16_element_1 11 rfl rfl)
theorem dX16_element_35 : decode cX16_element 35 = .ok (.goto 5, 3) := dk_167 0 5 (dk_at dksX16_element_1 12 rfl rfl)
theorem dX16_element_38 : decode cX16_element 38 = .ok (.bipush (-7), 2) := dk_16 249 (dk_at dksX16_element_1 15 rfl rfl)
theorem dX16_element_40 : decode cX16_element 40 = .ok (.invokevirtual 407, 3) := dk_182 1 151 (dk_at dksX16_element_1 17 rfl rfl)
theorem dX16_element_43 : decode cX16_element 43 = .ok (.ireturn, 1) := dk_172 (dk_at dksX16_element_1 20 rfl rfl)
theorem dX16_element_44 : decode cX16_element 44 = .ok (.aload_n 0, 1) := dk_42 (dk_at dksX16_element_1 21 rfl rfl)
theorem dX16_element_45 : decode cX16_element 45 = .ok (.iload_n 2, 1) := dk_28 (dk_at dksX16_element_1 22 rfl rfl)
theorem dX16_element_46 : decode cX16_element 46 = .ok (.aload_n 0, 1) := dk_42 (dk_at dksX16_element_1 23 rfl rfl)
theorem dX16_element_47 : decode cX16_element 47 = .ok (.getfield 302, 3) := dk_180 1 46 (dk_at dksX16_element_2 0 rfl rfl)
theorem dX16_element_50 : decode cX16_element 50 = .ok (.iload_n 1, 1) := dk_27 (dk_at dksX16_element_2 3 rfl rfl)
theorem dX16_element_51 : decode cX16_element 51 = .ok (.aaload, 1) := dk_50 (dk_at dksX16_element_2 4 rfl rfl)
theorem dX16_element_52 : decode cX16_element 52 = .ok (.invokevirtual 413, 3) := dk_182 1 157 (dk_at dksX16_element_2 5 rfl rfl)
theorem dX16_element_55 : decode cX16_element 55 = .ok (.pop, 1) := dk_87 (dk_at dksX16_element_2 8 rfl rfl)
theorem dX16_element_56 : decode cX16_element 56 = .ok (.aload_n 0, 1) := dk_42 (dk_at dksX16_element_2 9 rfl rfl)
theorem dX16_element_57 : decode cX16_element 57 = .ok (.getfield 279, 3) := dk_180 1 23 (dk_at dksX16_element_2 10 rfl rfl)
theorem dX16_element_60 : decode cX16_element 60 = .ok (.aload_n 0, 1) := dk_42 (dk_at dksX16_element_2 13 rfl rfl)
theorem dX16_element_61 : decode cX16_element 61 = .ok (.getfield 299, 3) := dk_180 1 43 (dk_at dksX16_element_2 14 rfl rfl)
theorem dX16_element_64 : decode cX16_element 64 = .ok (.aload_n 0, 1) := dk_42 (dk_at dksX16_element_2 17 rfl rfl)
theorem dX16_element_65 : decode cX16_element 65 = .ok (.getfield 305, 3) := dk_180 1 49 (dk_at dksX16_element_2 18 rfl rfl)
theorem dX16_element_68 : decode cX16_element 68 = .ok (.iload_n 1, 1) := dk_27 (dk_at dksX16_element_2 21 rfl rfl)
theorem dX16_element_69 : decode cX16_element 69 = .ok (.iaload, 1) := dk_46 (dk_at dksX16_element_2 22 rfl rfl)
theorem dX16_element_70 : decode cX16_element 70 = .ok (.iaload, 1) := dk_46 (dk_at dksX16_element_2 23 rfl rfl)
theorem dX16_element_71 : decode cX16_element 71 = .ok (.iaload, 1) := dk_46 (dk_at dksX16_element_3 0 rfl rfl)
theorem dX16_element_72 : decode cX16_element 72 = .ok (.ireturn, 1) := dk_172 (dk_at dksX16_element_3 1 rfl rfl)
abbrev cX16_closed : ByteArray := prog_21_method_68_code
def yX16_closed : MethodName := ⟨RX16, "closed", "()I"⟩
def dkwX16_closed_8 : List UInt8 := [172]
abbrev dktX16_closed_8 : List UInt8 := dkwX16_closed_8 ++ []
def dkwX16_closed_7 : List UInt8 := [180, 0, 234, 182, 1, 147, 158, 0, 5, 3, 172, 132, 3, 1, 167, 255, 110, 132, 2, 1, 167, 255, 95, 4]
abbrev dktX16_closed_7 : List UInt8 := dkwX16_closed_7 ++ dktX16_closed_8
def dkwX16_closed_6 : List UInt8 := [180, 2, 23, 42, 180, 2, 26, 3, 182, 1, 255, 154, 0, 10, 42, 16, 250, 182, 1, 151, 172, 42]
abbrev dktX16_closed_6 : List UInt8 := dkwX16_closed_6 ++ dktX16_closed_7
def dkwX16_closed_5 : List UInt8 := [21, 5, 153, 0, 36, 42, 180, 0, 230, 182, 1, 147, 16, 60, 163, 0, 24, 42, 42, 180, 1, 64, 27, 42]
abbrev dktX16_closed_5 : List UInt8 := dkwX16_closed_5 ++ dktX16_closed_6
def dkwX16_closed_4 : List UInt8 := [21, 4, 42, 180, 1, 67, 29, 46, 100, 2, 182, 2, 64, 153, 0, 7, 4, 167, 0, 4, 3, 54, 5]
abbrev dktX16_closed_4 : List UInt8 := dkwX16_closed_4 ++ dktX16_closed_5
def dkwX16_closed_3 : List UInt8 := [180, 1, 67, 28, 46, 100, 4, 182, 2, 64, 54, 5, 21, 5, 153, 0, 30, 42, 42, 180, 1, 64, 29, 50]
abbrev dktX16_closed_3 : List UInt8 := dkwX16_closed_3 ++ dktX16_closed_4
def dkwX16_closed_2 : List UInt8 := [184, 2, 61, 54, 4, 42, 180, 0, 230, 182, 1, 167, 42, 42, 180, 1, 64, 28, 50, 21, 4, 42]
abbrev dktX16_closed_2 : List UInt8 := dkwX16_closed_2 ++ dktX16_closed_3
def dkwX16_closed_1 : List UInt8 := [162, 0, 162, 28, 4, 96, 62, 29, 27, 162, 0, 147, 42, 180, 1, 67, 28, 46, 42, 180, 1, 67, 29, 46]
abbrev dktX16_closed_1 : List UInt8 := dkwX16_closed_1 ++ dktX16_closed_2
def dkwX16_closed_0 : List UInt8 := [42, 180, 2, 39, 154, 0, 10, 42, 16, 249, 182, 1, 151, 172, 42, 182, 2, 58, 60, 3, 61, 28, 27]
abbrev dktX16_closed_0 : List UInt8 := dkwX16_closed_0 ++ dktX16_closed_1
theorem dksX16_closed_0 : cX16_closed.data.toList.drop 0 = dktX16_closed_0 := by decide +kernel
theorem dksX16_closed_1 : cX16_closed.data.toList.drop 23 = dktX16_closed_1 := dk_seg dksX16_closed_0 23 rfl rfl
theorem dksX16_closed_2 : cX16_closed.data.toList.drop 47 = dktX16_closed_2 := dk_seg dksX16_closed_1 24 rfl rfl
theorem dksX16_closed_3 : cX16_closed.data.toList.drop 69 = dktX16_closed_3 := dk_seg dksX16_closed_2 22 rfl rfl
theorem dksX16_closed_4 : cX16_closed.data.toList.drop 93 = dktX16_closed_4 := dk_seg dksX16_closed_3 24 rfl rfl
theorem dksX16_closed_5 : cX16_closed.data.toList.drop 116 = dktX16_closed_5 := dk_seg dksX16_closed_4 23 rfl rfl
theorem dksX16_closed_6 : cX16_closed.data.toList.drop 140 = dktX16_closed_6 := dk_seg dksX16_closed_5 24 rfl rfl
theorem dksX16_closed_7 : cX16_closed.data.toList.drop 162 = dktX16_closed_7 := dk_seg dksX16_closed_6 22 rfl rfl
theorem dksX16_closed_8 : cX16_closed.data.toList.drop 186 = dktX16_closed_8 := dk_seg dksX16_closed_7 24 rfl rfl
theorem dX16_closed_0 : decode cX16_closed 0 = .ok (.aload_n 0, 1) := dk_42 (dk_at dksX16_closed_0 0 rfl rfl)
theorem dX16_closed_1 : decode cX16_closed 1 = .ok (.getfield 551, 3) := dk_180 2 39 (dk_at dksX16_closed_0 1 rfl rfl)
theorem dX16_closed_4 : decode cX16_closed 4 = .ok (.ifCond .ne 10, 3) := dk_154 0 10 (dk_at dksX16_closed_0 4 rfl rfl)
theorem dX16_closed_7 : decode cX16_closed 7 = .ok (.aload_n 0, 1) := dk_42 (dk_at dksX16_closed_0 7 rfl rfl)
theorem dX16_closed_8 : decode cX16_closed 8 = .ok (.bipush (-7), 2) := dk_16 249 (dk_at dksX16_closed_0 8 rfl rfl)
theorem dX16_closed_10 : decode cX16_closed 10 = .ok (.invokevirtual 407, 3) := dk_182 1 151 (dk_at dksX16_closed_0 10 rfl rfl)
theorem dX16_closed_13 : decode cX16_closed 13 = .ok (.ireturn, 1) := dk_172 (dk_at dksX16_closed_0 13 rfl rfl)
theorem dX16_closed_14 : decode cX16_closed 14 = .ok (.aload_n 0, 1) := dk_42 (dk_at dksX16_closed_0 14 rfl rfl)
theorem dX16_closed_15 : decode cX16_closed 15 = .ok (.invokevirtual 570, 3) := dk_182 2 58 (dk_at dksX16_closed_0 15 rfl rfl)
theorem dX16_closed_18 : decode cX16_closed 18 = .ok (.istore_n 1, 1) := dk_60 (dk_at dksX16_closed_0 18 rfl rfl)
theorem dX16_closed_19 : decode cX16_closed 19 = .ok (.iconst 0, 1) := dk_3 (dk_at dksX16_closed_0 19 rfl rfl)
theorem dX16_closed_20 : decode cX16_closed 20 = .ok (.istore_n 2, 1) := dk_61 (dk_at dksX16_closed_0 20 rfl rfl)
theorem dX16_closed_21 : decode cX16_closed 21 = .ok (.iload_n 2, 1) := dk_28 (dk_at dksX16_closed_0 21 rfl rfl)
theorem dX16_closed_22 : decode cX16_closed 22 = .ok (.iload_n 1, 1) := dk_27 (dk_at dksX16_closed_0 22 rfl rfl)
theorem dX16_closed_23 : decode cX16_closed 23 = .ok (.if_icmp .ge 162, 3) := dk_162 0 162 (dk_at dksX16_closed_1 0 rfl rfl)
theorem dX16_closed_26 : decode cX16_closed 26 = .ok (.iload_n 2, 1) := dk_28 (dk_at dksX16_closed_1 3 rfl rfl)
theorem dX16_closed_27 : decode cX16_closed 27 = .ok (.iconst 1, 1) := dk_4 (dk_at dksX16_closed_1 4 rfl rfl)
theorem dX16_closed_28 : decode cX16_closed 28 = .ok (.iadd, 1) := dk_96 (dk_at dksX16_closed_1 5 rfl rfl)
theorem dX16_closed_29 : decode cX16_closed 29 = .ok (.istore_n 3, 1) := dk_62 (dk_at dksX16_closed_1 6 rfl rfl)
theorem dX16_closed_30 : decode cX16_closed 30 = .ok (.iload_n 3, 1) := dk_29 (dk_at dksX16_closed_1 7 rfl rfl)
theorem dX16_closed_31 : decode cX16_closed 31 = .ok (.iload_n 1, 1) := dk_27 (dk_at dksX16_closed_1 8 rfl rfl)
theorem dX16_closed_32 : decode cX16_closed 32 = .ok (.if_icmp .ge 147, 3) := dk_162 0 147 (dk_at dksX16_closed_1 9 rfl rfl)
theorem dX16_closed_35 : decode cX16_closed 35 = .ok (.aload_n 0, 1) := dk_42 (dk_at dksX16_closed_1 12 rfl rfl)
theorem dX16_closed_36 : decode cX16_closed 36 = .ok (.getfield 323, 3) := dk_180 1 67 (dk_at dksX16_closed_1 13 rfl rfl)
theorem dX16_closed_39 : decode cX16_closed 39 = .ok (.iload_n 2, 1) := dk_28 (dk_at dksX16_closed_1 16 rfl rfl)
theorem dX16_closed_40 : decode cX16_closed 40 = .ok (.iaload, 1) := dk_46 (dk_at dksX16_closed_1 17 rfl rfl)
theorem dX16_closed_41 : decode cX16_closed 41 = .ok (.aload_n 0, 1) := dk_42 (dk_at dksX16_closed_1 18 rfl rfl)
theorem dX16_closed_42 : decode cX16_closed 42 = .ok (.getfield 323, 3) := dk_180 1 67 (dk_at dksX16_closed_1 19 rfl rfl)
theorem dX16_closed_45 : decode cX16_closed 45 = .ok (.iload_n 3, 1) := dk_29 (dk_at dksX16_closed_1 22 rfl rfl)
theorem dX16_closed_46 : decode cX16_closed 46 = .ok (.iaload, 1) := dk_46 (dk_at dksX16_closed_1 23 rfl rfl)
theorem dX16_closed_47 : decode cX16_closed 47 = .ok (.invokestatic 573, 3) := dk_184 2 61 (dk_at dksX16_closed_2 0 rfl rfl)
theorem dX16_closed_50 : decode cX16_closed 50 = .ok (.istore 4, 2) := dk_54 4 (dk_at dksX16_closed_2 3 rfl rfl)
theorem dX16_closed_52 : decode cX16_closed 52 = .ok (.aload_n 0, 1) := dk_42 (dk_at dksX16_closed_2 5 rfl rfl)
theorem dX16_closed_53 : decode cX16_closed 53 = .ok (.getfield 230, 3) := dk_180 0 230 (dk_at dksX16_closed_2 6 rfl rfl)
theorem dX16_closed_56 : decode cX16_closed 56 = .ok (.invokevirtual 423, 3) := dk_182 1 167 (dk_at dksX16_closed_2 9 rfl rfl)
theorem dX16_closed_59 : decode cX16_closed 59 = .ok (.aload_n 0, 1) := dk_42 (dk_at dksX16_closed_2 12 rfl rfl)
theorem dX16_closed_60 : decode cX16_closed 60 = .ok (.aload_n 0, 1) := dk_42 (dk_at dksX16_closed_2 13 rfl rfl)
theorem dX16_closed_61 : decode cX16_closed 61 = .ok (.getfield 320, 3) := dk_180 1 64 (dk_at dksX16_closed_2 14 rfl rfl)
theorem dX16_closed_64 : decode cX16_closed 64 = .ok (.iload_n 2, 1) := dk_28 (dk_at dksX16_closed_2 17 rfl rfl)
theorem dX16_closed_65 : decode cX16_closed 65 = .ok (.aaload, 1) := dk_50 (dk_at dksX16_closed_2 18 rfl rfl)
theorem dX16_closed_66 : decode cX16_closed 66 = .ok (.iload 4, 2) := dk_21 4 (dk_at dksX16_closed_2 19 rfl rfl)
theorem dX16_closed_68 : decode cX16_closed 68 = .ok (.aload_n 0, 1) := dk_42 (dk_at dksX16_closed_2 21 rfl rfl)
theorem dX16_closed_69 : decode cX16_closed 69 = .ok (.getfield 323, 3) := dk_180 1 67 (dk_at dksX16_closed_3 0 rfl rfl)
theorem dX16_closed_72 : decode cX16_closed 72 = .ok (.iload_n 2, 1) := dk_28 (dk_at dksX16_closed_3 3 rfl rfl)
theorem dX16_closed_73 : decode cX16_closed 73 = .ok (.iaload, 1) := dk_46 (dk_at dksX16_closed_3 4 rfl rfl)
theorem dX16_closed_74 : decode cX16_closed 74 = .ok (.isub, 1) := dk_100 (dk_at dksX16_closed_3 5 rfl rfl)
theorem dX16_closed_75 : decode cX16_closed 75 = .ok (.iconst 1, 1) := dk_4 (dk_at dksX16_closed_3 6 rfl rfl)
theorem dX16_closed_76 : decode cX16_closed 76 = .ok (.invokevirtual 576, 3) := dk_182 2 64 (dk_at dksX16_closed_3 7 rfl rfl)
theorem dX16_closed_79 : decode cX16_closed 79 = .ok (.istore 5, 2) := dk_54 5 (dk_at dksX16_closed_3 10 rfl rfl)
theorem dX16_closed_81 : decode cX16_closed 81 = .ok (.iload 5, 2) := dk_21 5 (dk_at dksX16_closed_3 12 rfl rfl)
theorem dX16_closed_83 : decode cX16_closed 83 = .ok (.ifCond .eq 30, 3) := dk_153 0 30 (dk_at dksX16_closed_3 14 rfl rfl)
theorem dX16_closed_86 : decode cX16_closed 86 = .ok (.aload_n 0, 1) := dk_42 (dk_at dksX16_closed_3 17 rfl rfl)
theorem dX16_closed_87 : decode cX16_closed 87 = .ok (.aload_n 0, 1) := dk_42 (dk_at dksX16_closed_3 18 rfl rfl)
theorem dX16_closed_88 : decode cX16_closed 88 = .ok (.getfield 320, 3) := dk_180 1 64 (dk_at dksX16_closed_3 19 rfl rfl)
theorem dX16_closed_91 : decode cX16_closed 91 = .ok (.iload_n 3, 1) := dk_29 (dk_at dksX16_closed_3 22 rfl rfl)
theorem dX16_closed_92 : decode cX16_closed 92 = .ok (.aaload, 1) := dk_50 (dk_at dksX16_closed_3 23 rfl rfl)
theorem dX16_closed_93 : decode cX16_closed 93 = .ok (.iload 4, 2) := dk_21 4 (dk_at dksX16_closed_4 0 rfl rfl)
theorem dX16_closed_95 : decode cX16_closed 95 = .ok (.aload_n 0, 1) := dk_42 (dk_at dksX16_closed_4 2 rfl rfl)
theorem dX16_closed_96 : decode cX16_closed 96 = .ok (.getfield 323, 3) := dk_180 1 67 (dk_at dksX16_closed_4 3 rfl rfl)
theorem dX16_closed_99 : decode cX16_closed 99 = .ok (.iload_n 3, 1) := dk_29 (dk_at dksX16_closed_4 6 rfl rfl)
theorem dX16_closed_100 : decode cX16_closed 100 = .ok (.iaload, 1) := dk_46 (dk_at dksX16_closed_4 7 rfl rfl)
theorem dX16_closed_101 : decode cX16_closed 101 = .ok (.isub, 1) := dk_100 (dk_at dksX16_closed_4 8 rfl rfl)
theorem dX16_closed_102 : decode cX16_closed 102 = .ok (.iconst (-1), 1) := dk_2 (dk_at dksX16_closed_4 9 rfl rfl)
theorem dX16_closed_103 : decode cX16_closed 103 = .ok (.invokevirtual 576, 3) := dk_182 2 64 (dk_at dksX16_closed_4 10 rfl rfl)
theorem dX16_closed_106 : decode cX16_closed 106 = .ok (.ifCond .eq 7, 3) := dk_153 0 7 (dk_at dksX16_closed_4 13 rfl rfl)
theorem dX16_closed_109 : decode cX16_closed 109 = .ok (.iconst 1, 1) := dk_4 (dk_at dksX16_closed_4 16 rfl rfl)
theorem dX16_closed_110 : decode cX16_closed 110 = .ok (.goto 4, 3) := dk_167 0 4 (dk_at dksX16_closed_4 17 rfl rfl)
theorem dX16_closed_113 : decode cX16_closed 113 = .ok (.iconst 0, 1) := dk_3 (dk_at dksX16_closed_4 20 rfl rfl)
theorem dX16_closed_114 : decode cX16_closed 114 = .ok (.istore 5, 2) := dk_54 5 (dk_at dksX16_closed_4 21 rfl rfl)
theorem dX16_closed_116 : decode cX16_closed 116 = .ok (.iload 5, 2) := dk_21 5 (dk_at dksX16_closed_5 0 rfl rfl)
theorem dX16_closed_118 : decode cX16_closed 118 = .ok (.ifCond .eq 36, 3) := dk_153 0 36 (dk_at dksX16_closed_5 2 rfl rfl)
theorem dX16_closed_121 : decode cX16_closed 121 = .ok (.aload_n 0, 1) := dk_42 (dk_at dksX16_closed_5 5 rfl rfl)
theorem dX16_closed_122 : decode cX16_closed 122 = .ok (.getfield 230, 3) := dk_180 0 230 (dk_at dksX16_closed_5 6 rfl rfl)
theorem dX16_closed_125 : decode cX16_closed 125 = .ok (.invokevirtual 403, 3) := dk_182 1 147 (dk_at dksX16_closed_5 9 rfl rfl)
theorem dX16_closed_128 : decode cX16_closed 128 = .ok (.bipush 60, 2) := dk_16 60 (dk_at dksX16_closed_5 12 rfl rfl)
theorem dX16_closed_130 : decode cX16_closed 130 = .ok (.if_icmp .gt 24, 3) := dk_163 0 24 (dk_at dksX16_closed_5 14 rfl rfl)
theorem dX16_closed_133 : decode cX16_closed 133 = .ok (.aload_n 0, 1) := dk_42 (dk_at dksX16_closed_5 17 rfl rfl)
theorem dX16_closed_134 : decode cX16_closed 134 = .ok (.aload_n 0, 1) := dk_42 (dk_at dksX16_closed_5 18 rfl rfl)
theorem dX16_closed_135 : decode cX16_closed 135 = .ok (.getfield 320, 3) := dk_180 1 64 (dk_at dksX16_closed_5 19 rfl rfl)
theorem dX16_closed_138 : decode cX16_closed 138 = .ok (.iload_n 1, 1) := dk_27 (dk_at dksX16_closed_5 22 rfl rfl)
theorem dX16_closed_139 : decode cX16_closed 139 = .ok (.aload_n 0, 1) := dk_42 (dk_at dksX16_closed_5 23 rfl rfl)
theorem dX16_closed_140 : decode cX16_closed 140 = .ok (.getfield 535, 3) := dk_180 2 23 (dk_at dksX16_closed_6 0 rfl rfl)
theorem dX16_closed_143 : decode cX16_closed 143 = .ok (.aload_n 0, 1) := dk_42 (dk_at dksX16_closed_6 3 rfl rfl)
theorem dX16_closed_144 : decode cX16_closed 144 = .ok (.getfield 538, 3) := dk_180 2 26 (dk_at dksX16_closed_6 4 rfl rfl)
theorem dX16_closed_147 : decode cX16_closed 147 = .ok (.iconst 0, 1) := dk_3 (dk_at dksX16_closed_6 7 rfl rfl)
theorem dX16_closed_148 : decode cX16_closed 148 = .ok (.invokevirtual 511, 3) := dk_182 1 255 (dk_at dksX16_closed_6 8 rfl rfl)
theorem dX16_closed_151 : decode cX16_closed 151 = .ok (.ifCond .ne 10, 3) := dk_154 0 10 (dk_at dksX16_closed_6 11 rfl rfl)
theorem dX16_closed_154 : decode cX16_closed 154 = .ok (.aload_n 0, 1) := dk_42 (dk_at dksX16_closed_6 14 rfl rfl)
theorem dX16_closed_155 : decode cX16_closed 155 = .ok (.bipush (-6), 2) := dk_16 250 (dk_at dksX16_closed_6 15 rfl rfl)
theorem dX16_closed_157 : decode cX16_closed 157 = .ok (.invokevirtual 407, 3) := dk_182 1 151 (dk_at dksX16_closed_6 17 rfl rfl)
theorem dX16_closed_160 : decode cX16_closed 160 = .ok (.ireturn, 1) := dk_172 (dk_at dksX16_closed_6 20 rfl rfl)
theorem dX16_closed_161 : decode cX16_closed 161 = .ok (.aload_n 0, 1) := dk_42 (dk_at dksX16_closed_6 21 rfl rfl)
theorem dX16_closed_162 : decode cX16_closed 162 = .ok (.getfield 234, 3) := dk_180 0 234 (dk_at dksX16_closed_7 0 rfl rfl)
theorem dX16_closed_165 : decode cX16_closed 165 = .ok (.invokevirtual 403, 3) := dk_182 1 147 (dk_at dksX16_closed_7 3 rfl rfl)
theorem dX16_closed_168 : decode cX16_closed 168 = .ok (.ifCond .le 5, 3) := dk_158 0 5 (dk_at dksX16_closed_7 6 rfl rfl)
theorem dX16_closed_171 : decode cX16_closed 171 = .ok (.iconst 0, 1) := dk_3 (dk_at dksX16_closed_7 9 rfl rfl)
theorem dX16_closed_172 : decode cX16_closed 172 = .ok (.ireturn, 1) := dk_172 (dk_at dksX16_closed_7 10 rfl rfl)
theorem dX16_closed_173 : decode cX16_closed 173 = .ok (.iinc 3 1, 3) := dk_132 3 1 (dk_at dksX16_closed_7 11 rfl rfl)
theorem dX16_closed_176 : decode cX16_closed 176 = .ok (.goto (-146), 3) := dk_167 255 110 (dk_at dksX16_closed_7 14 rfl rfl)
theorem dX16_closed_179 : decode cX16_closed 179 = .ok (.iinc 2 1, 3) := dk_132 2 1 (dk_at dksX16_closed_7 17 rfl rfl)
theorem dX16_closed_182 : decode cX16_closed 182 = .ok (.goto (-161), 3) := dk_167 255 95 (dk_at dksX16_closed_7 20 rfl rfl)
theorem dX16_closed_185 : decode cX16_closed 185 = .ok (.iconst 1, 1) := dk_4 (dk_at dksX16_closed_7 23 rfl rfl)
theorem dX16_closed_186 : decode cX16_closed 186 = .ok (.ireturn, 1) := dk_172 (dk_at dksX16_closed_8 0 rfl rfl)
abbrev cX16_gatherMinimal : ByteArray := prog_21_method_65_code
def yX16_gatherMinimal : MethodName := ⟨RX16, "gatherMinimal", "()I"⟩
def dkwX16_gatherMinimal_4 : List UInt8 := [132, 1, 1, 132, 2, 1, 167, 255, 162, 27, 172]
abbrev dktX16_gatherMinimal_4 : List UInt8 := dkwX16_gatherMinimal_4 ++ []
def dkwX16_gatherMinimal_3 : List UInt8 := [180, 1, 64, 27, 42, 180, 1, 46, 28, 50, 83, 42, 180, 1, 67, 27, 42, 28, 182, 2, 55, 79]
abbrev dktX16_gatherMinimal_3 : List UInt8 := dkwX16_gatherMinimal_3 ++ dktX16_gatherMinimal_4
def dkwX16_gatherMinimal_2 : List UInt8 := [184, 1, 247, 154, 0, 7, 4, 167, 0, 4, 3, 62, 132, 4, 1, 167, 255, 211, 29, 153, 0, 29, 42]
abbrev dktX16_gatherMinimal_2 : List UInt8 := dkwX16_gatherMinimal_2 ++ dktX16_gatherMinimal_3
def dkwX16_gatherMinimal_1 : List UInt8 := [162, 0, 42, 29, 153, 0, 38, 21, 4, 28, 159, 0, 20, 42, 21, 4, 182, 2, 55, 42, 28, 182, 2, 55]
abbrev dktX16_gatherMinimal_1 : List UInt8 := dkwX16_gatherMinimal_1 ++ dktX16_gatherMinimal_2
def dkwX16_gatherMinimal_0 : List UInt8 := [3, 60, 3, 61, 28, 42, 180, 2, 32, 162, 0, 92, 4, 62, 3, 54, 4, 21, 4, 42, 180, 2, 32]
abbrev dktX16_gatherMinimal_0 : List UInt8 := dkwX16_gatherMinimal_0 ++ dktX16_gatherMinimal_1
theorem dksX16_gatherMinimal_0 : cX16_gatherMinimal.data.toList.drop 0 = dktX16_gatherMinimal_0 := by decide +kernel
theorem dksX16_gatherMinimal_1 : cX16_gatherMinimal.data.toList.drop 23 = dktX16_gatherMinimal_1 := dk_seg dksX16_gatherMinimal_0 23 rfl rfl
theorem dksX16_gatherMinimal_2 : cX16_gatherMinimal.data.toList.drop 47 = dktX16_gatherMinimal_2 := dk_seg dksX16_gatherMinimal_1 24 rfl rfl
theorem dksX16_gatherMinimal_3 : cX16_gatherMinimal.data.toList.drop 70 = dktX16_gatherMinimal_3 := dk_seg dksX16_gatherMinimal_2 23 rfl rfl
theorem dksX16_gatherMinimal_4 : cX16_gatherMinimal.data.toList.drop 92 = dktX16_gatherMinimal_4 := dk_seg dksX16_gatherMinimal_3 22 rfl rfl
theorem dX16_gatherMinimal_0 : decode cX16_gatherMinimal 0 = .ok (.iconst 0, 1) := dk_3 (dk_at dksX16_gatherMinimal_0 0 rfl rfl)
theorem dX16_gatherMinimal_1 : decode cX16_gatherMinimal 1 = .ok (.istore_n 1, 1) := dk_60 (dk_at dksX16_gatherMinimal_0 1 rfl rfl)
theorem dX16_gatherMinimal_2 : decode cX16_gatherMinimal 2 = .ok (.iconst 0, 1) := dk_3 (dk_at dksX16_gatherMinimal_0 2 rfl rfl)
theorem dX16_gatherMinimal_3 : decode cX16_gatherMinimal 3 = .ok (.istore_n 2, 1) := dk_61 (dk_at dksX16_gatherMinimal_0 3 rfl rfl)
theorem dX16_gatherMinimal_4 : decode cX16_gatherMinimal 4 = .ok (.iload_n 2, 1) := dk_28 (dk_at dksX16_gatherMinimal_0 4 rfl rfl)
theorem dX16_gatherMinimal_5 : decode cX16_gatherMinimal 5 = .ok (.aload_n 0, 1) := dk_42 (dk_at dksX16_gatherMinimal_0 5 rfl rfl)
theorem dX16_gatherMinimal_6 : decode cX16_gatherMinimal 6 = .ok (.getfield 544, 3) := dk_180 2 32 (dk_at dksX16_gatherMinimal_0 6 rfl rfl)
theorem dX16_gatherMinimal_9 : decode cX16_gatherMinimal 9 = .ok (.if_icmp .ge 92, 3) := dk_162 0 92 (dk_at dksX16_gatherMinimal_0 9 rfl rfl)
theorem dX16_gatherMinimal_12 : decode cX16_gatherMinimal 12 = .ok (.iconst 1, 1) := dk_4 (dk_at dksX16_gatherMinimal_0 12 rfl rfl)
theorem dX16_gatherMinimal_13 : decode cX16_gatherMinimal 13 = .ok (.istore_n 3, 1) := dk_62 (dk_at dksX16_gatherMinimal_0 13 rfl rfl)
theorem dX16_gatherMinimal_14 : decode cX16_gatherMinimal 14 = .ok (.iconst 0, 1) := dk_3 (dk_at dksX16_gatherMinimal_0 14 rfl rfl)
theorem dX16_gatherMinimal_15 : decode cX16_gatherMinimal 15 = .ok (.istore 4, 2) := dk_54 4 (dk_at dksX16_gatherMinimal_0 15 rfl rfl)
theorem dX16_gatherMinimal_17 : decode cX16_gatherMinimal 17 = .ok (.iload 4, 2) := dk_21 4 (dk_at dksX16_gatherMinimal_0 17 rfl rfl)
theorem dX16_gatherMinimal_19 : decode cX16_gatherMinimal 19 = .ok (.aload_n 0, 1) := dk_42 (dk_at dksX16_gatherMinimal_0 19 rfl rfl)
theorem dX16_gatherMinimal_20 : decode cX16_gatherMinimal 20 = .ok (.getfield 544, 3) := dk_180 2 32 (dk_at dksX16_gatherMinimal_0 20 rfl rfl)
theorem dX16_gatherMinimal_23 : decode cX16_gatherMinimal 23 = .ok (.if_icmp .ge 42, 3) := dk_162 0 42 (dk_at dksX16_gatherMinimal_1 0 rfl rfl)
theorem dX16_gatherMinimal_26 : decode cX16_gatherMinimal 26 = .ok (.iload_n 3, 1) := dk_29 (dk_at dksX16_gatherMinimal_1 3 rfl rfl)
theorem dX16_gatherMinimal_27 : decode cX16_gatherMinimal 27 = .ok (.ifCond .eq 38, 3) := dk_153 0 38 (dk_at dksX16_gatherMinimal_1 4 rfl rfl)
theorem dX16_gatherMinimal_30 : decode cX16_gatherMinimal 30 = .ok (.iload 4, 2) := dk_21 4 (dk_at dksX16_gatherMinimal_1 7 rfl rfl)
theorem dX16_gatherMinimal_32 : decode cX16_gatherMinimal 32 = .ok (.iload_n 2, 1) := dk_28 (dk_at dksX16_gatherMinimal_1 9 rfl rfl)
theorem dX16_gatherMinimal_33 : decode cX16_gatherMinimal 33 = .ok (.if_icmp .eq 20, 3) := dk_159 0 20 (dk_at dksX16_gatherMinimal_1 10 rfl rfl)
theorem dX16_gatherMinimal_36 : decode cX16_gatherMinimal 36 = .ok (.aload_n 0, 1) := dk_42 (dk_at dksX16_gatherMinimal_1 13 rfl rfl)
theorem dX16_gatherMinimal_37 : decode cX16_gatherMinimal 37 = .ok (.iload 4, 2) := dk_21 4 (dk_at dksX16_gatherMinimal_1 14 rfl rfl)
theorem dX16_gatherMinimal_39 : decode cX16_gatherMinimal 39 = .ok (.invokevirtual 567, 3) := dk_182 2 55 (dk_at dksX16_gatherMinimal_1 16 rfl rfl)
theorem dX16_gatherMinimal_42 : decode cX16_gatherMinimal 42 = .ok (.aload_n 0, 1) := dk_42 (dk_at dksX16_gatherMinimal_1 19 rfl rfl)
theorem dX16_gatherMinimal_43 : decode cX16_gatherMinimal 43 = .ok (.iload_n 2, 1) := dk_28 (dk_at dksX16_gatherMinimal_1 20 rfl rfl)
theorem dX16_gatherMinimal_44 : decode cX16_gatherMinimal 44 = .ok (.invokevirtual 567, 3) := dk_182 2 55 (dk_at dksX16_gatherMinimal_1 21 rfl rfl)
theorem dX16_gatherMinimal_47 : decode cX16_gatherMinimal 47 = .ok (.invokestatic 503, 3) := dk_184 1 247 (dk_at dksX16_gatherMinimal_2 0 rfl rfl)
theorem dX16_gatherMinimal_50 : decode cX16_gatherMinimal 50 = .ok (.ifCond .ne 7, 3) := dk_154 0 7 (dk_at dksX16_gatherMinimal_2 3 rfl rfl)
theorem dX16_gatherMinimal_53 : decode cX16_gatherMinimal 53 = .ok (.iconst 1, 1) := dk_4 (dk_at dksX16_gatherMinimal_2 6 rfl rfl)
theorem dX16_gatherMinimal_54 : decode cX16_gatherMinimal 54 = .ok (.goto 4, 3) := dk_167 0 4 (dk_at dksX16_gatherMinimal_2 7 rfl rfl)
theorem dX16_gatherMinimal_57 : decode cX16_gatherMinimal 57 = .ok (.iconst 0, 1) := dk_3 (dk_at dksX16_gatherMinimal_2 10 rfl rfl)
theorem dX16_gatherMinimal_58 : decode cX16_gatherMinimal 58 = .ok (.istore_n 3, 1) := dk_62 (dk_at dksX16_gatherMinimal_2 11 rfl rfl)
theorem dX16_gatherMinimal_59 : decode cX16_gatherMinimal 59 = .ok (.iinc 4 1, 3) := dk_132 4 1 (dk_at dksX16_gatherMinimal_2 12 rfl rfl)
theorem dX16_gatherMinimal_62 : decode cX16_gatherMinimal 62 = .ok (.goto (-45), 3) := dk_167 255 211 (dk_at dksX16_gatherMinimal_2 15 rfl rfl)
theorem dX16_gatherMinimal_65 : decode cX16_gatherMinimal 65 = .ok (.iload_n 3, 1) := dk_29 (dk_at dksX16_gatherMinimal_2 18 rfl rfl)
theorem dX16_gatherMinimal_66 : decode cX16_gatherMinimal 66 = .ok (.ifCond .eq 29, 3) := dk_153 0 29 (dk_at dksX16_gatherMinimal_2 19 rfl rfl)
theorem dX16_gatherMinimal_69 : decode cX16_gatherMinimal 69 = .ok (.aload_n 0, 1) := dk_42 (dk_at dksX16_gatherMinimal_2 22 rfl rfl)
theorem dX16_gatherMinimal_70 : decode cX16_gatherMinimal 70 = .ok (.getfield 320, 3) := dk_180 1 64 (dk_at dksX16_gatherMinimal_3 0 rfl rfl)
theorem dX16_gatherMinimal_73 : decode cX16_gatherMinimal 73 = .ok (.iload_n 1, 1) := dk_27 (dk_at dksX16_gatherMinimal_3 3 rfl rfl)
theorem dX16_gatherMinimal_74 : decode cX16_gatherMinimal 74 = .ok (.aload_n 0, 1) := dk_42 (dk_at dksX16_gatherMinimal_3 4 rfl rfl)
theorem dX16_gatherMinimal_75 : decode cX16_gatherMinimal 75 = .ok (.getfield 302, 3) := dk_180 1 46 (dk_at dksX16_gatherMinimal_3 5 rfl rfl)
theorem dX16_gatherMinimal_78 : decode cX16_gatherMinimal 78 = .ok (.iload_n 2, 1) := dk_28 (dk_at dksX16_gatherMinimal_3 8 rfl rfl)
theorem dX16_gatherMinimal_79 : decode cX16_gatherMinimal 79 = .ok (.aaload, 1) := dk_50 (dk_at dksX16_gatherMinimal_3 9 rfl rfl)
theorem dX16_gatherMinimal_80 : decode cX16_gatherMinimal 80 = .ok (.aastore, 1) := dk_83 (dk_at dksX16_gatherMinimal_3 10 rfl rfl)
theorem dX16_gatherMinimal_81 : decode cX16_gatherMinimal 81 = .ok (.aload_n 0, 1) := dk_42 (dk_at dksX16_gatherMinimal_3 11 rfl rfl)
theorem dX16_gatherMinimal_82 : decode cX16_gatherMinimal 82 = .ok (.getfield 323, 3) := dk_180 1 67 (dk_at dksX16_gatherMinimal_3 12 rfl rfl)
theorem dX16_gatherMinimal_85 : decode cX16_gatherMinimal 85 = .ok (.iload_n 1, 1) := dk_27 (dk_at dksX16_gatherMinimal_3 15 rfl rfl)
theorem dX16_gatherMinimal_86 : decode cX16_gatherMinimal 86 = .ok (.aload_n 0, 1) := dk_42 (dk_at dksX16_gatherMinimal_3 16 rfl rfl)
theorem dX16_gatherMinimal_87 : decode cX16_gatherMinimal 87 = .ok (.iload_n 2, 1) := dk_28 (dk_at dksX16_gatherMinimal_3 17 rfl rfl)
theorem dX16_gatherMinimal_88 : decode cX16_gatherMinimal 88 = .ok (.invokevirtual 567, 3) := dk_182 2 55 (dk_at dksX16_gatherMinimal_3 18 rfl rfl)
theorem dX16_gatherMinimal_91 : decode cX16_gatherMinimal 91 = .ok (.iastore, 1) := dk_79 (dk_at dksX16_gatherMinimal_3 21 rfl rfl)
theorem dX16_gatherMinimal_92 : decode cX16_gatherMinimal 92 = .ok (.iinc 1 1, 3) := dk_132 1 1 (dk_at dksX16_gatherMinimal_4 0 rfl rfl)
theorem dX16_gatherMinimal_95 : decode cX16_gatherMinimal 95 = .ok (.iinc 2 1, 3) := dk_132 2 1 (dk_at dksX16_gatherMinimal_4 3 rfl rfl)
theorem dX16_gatherMinimal_98 : decode cX16_gatherMinimal 98 = .ok (.goto (-94), 3) := dk_167 255 162 (dk_at dksX16_gatherMinimal_4 6 rfl rfl)
theorem dX16_gatherMinimal_101 : decode cX16_gatherMinimal 101 = .ok (.iload_n 1, 1) := dk_27 (dk_at dksX16_gatherMinimal_4 9 rfl rfl)
theorem dX16_gatherMinimal_102 : decode cX16_gatherMinimal 102 = .ok (.ireturn, 1) := dk_172 (dk_at dksX16_gatherMinimal_4 10 rfl rfl)
abbrev cX16_leadOf : ByteArray := prog_21_method_64_code
def yX16_leadOf : MethodName := ⟨RX16, "leadOf", "(I)I"⟩
def dkwX16_leadOf_0 : List UInt8 := [42, 180, 1, 23, 42, 180, 1, 43, 42, 180, 1, 49, 27, 46, 46, 46, 172]
abbrev dktX16_leadOf_0 : List UInt8 := dkwX16_leadOf_0 ++ []
theorem dksX16_leadOf_0 : cX16_leadOf.data.toList.drop 0 = dktX16_leadOf_0 := by decide +kernel
theorem dX16_leadOf_0 : decode cX16_leadOf 0 = .ok (.aload_n 0, 1) := dk_42 (dk_at dksX16_leadOf_0 0 rfl rfl)
theorem dX16_leadOf_1 : decode cX16_leadOf 1 = .ok (.getfield 279, 3) := dk_180 1 23 (dk_at dksX16_leadOf_0 1 rfl rfl)
theorem dX16_leadOf_4 : decode cX16_leadOf 4 = .ok (.aload_n 0, 1) := dk_42 (dk_at dksX16_leadOf_0 4 rfl rfl)
theorem dX16_leadOf_5 : decode cX16_leadOf 5 = .ok (.getfield 299, 3) := dk_180 1 43 (dk_at dksX16_leadOf_0 5 rfl rfl)
theorem dX16_leadOf_8 : decode cX16_leadOf 8 = .ok (.aload_n 0, 1) := dk_42 (dk_at dksX16_leadOf_0 8 rfl rfl)
theorem dX16_leadOf_9 : decode cX16_leadOf 9 = .ok (.getfield 305, 3) := dk_180 1 49 (dk_at dksX16_leadOf_0 9 rfl rfl)
theorem dX16_leadOf_12 : decode cX16_leadOf 12 = .ok (.iload_n 1, 1) := dk_27 (dk_at dksX16_leadOf_0 12 rfl rfl)
theorem dX16_leadOf_13 : decode cX16_leadOf 13 = .ok (.iaload, 1) := dk_46 (dk_at dksX16_leadOf_0 13 rfl rfl)
theorem dX16_leadOf_14 : decode cX16_leadOf 14 = .ok (.iaload, 1) := dk_46 (dk_at dksX16_leadOf_0 14 rfl rfl)
theorem dX16_leadOf_15 : decode cX16_leadOf 15 = .ok (.iaload, 1) := dk_46 (dk_at dksX16_leadOf_0 15 rfl rfl)
theorem dX16_leadOf_16 : decode cX16_leadOf 16 = .ok (.ireturn, 1) := dk_172 (dk_at dksX16_leadOf_0 16 rfl rfl)
abbrev cX16_join : ByteArray := prog_21_method_67_code
def yX16_join : MethodName := ⟨RX16, "join", "(II)I"⟩
def dkwX16_join_1 : List UInt8 := [29, 104, 120, 96, 61, 132, 3, 1, 167, 255, 228, 28, 172]
abbrev dktX16_join_1 : List UInt8 := dkwX16_join_1 ++ []
def dkwX16_join_0 : List UInt8 := [3, 61, 3, 62, 29, 6, 162, 0, 29, 28, 26, 29, 184, 0, 119, 27, 29, 184, 0, 119, 184, 0, 22, 7]
abbrev dktX16_join_0 : List UInt8 := dkwX16_join_0 ++ dktX16_join_1
theorem dksX16_join_0 : cX16_join.data.toList.drop 0 = dktX16_join_0 := by decide +kernel
theorem dksX16_join_1 : cX16_join.data.toList.drop 24 = dktX16_join_1 := dk_seg dksX16_join_0 24 rfl rfl
theorem dX16_join_0 : decode cX16_join 0 = .ok (.iconst 0, 1) := dk_3 (dk_at dksX16_join_0 0 rfl rfl)
theorem dX16_join_1 : decode cX16_join 1 = .ok (.istore_n 2, 1) := dk_61 (dk_at dksX16_join_0 1 rfl rfl)
theorem dX16_join_2 : decode cX16_join 2 = .ok (.iconst 0, 1) := dk_3 (dk_at dksX16_join_0 2 rfl rfl)
theorem dX16_join_3 : decode cX16_join 3 = .ok (.istore_n 3, 1) := dk_62 (dk_at dksX16_join_0 3 rfl rfl)
theorem dX16_join_4 : decode cX16_join 4 = .ok (.iload_n 3, 1) := dk_29 (dk_at dksX16_join_0 4 rfl rfl)
theorem dX16_join_5 : decode cX16_join 5 = .ok (.iconst 3, 1) := dk_6 (dk_at dksX16_join_0 5 rfl rfl)
theorem dX16_join_6 : decode cX16_join 6 = .ok (.if_icmp .ge 29, 3) := dk_162 0 29 (dk_at dksX16_join_0 6 rfl rfl)
theorem dX16_join_9 : decode cX16_join 9 = .ok (.iload_n 2, 1) := dk_28 (dk_at dksX16_join_0 9 rfl rfl)
theorem dX16_join_10 : decode cX16_join 10 = .ok (.iload_n 0, 1) := dk_26 (dk_at dksX16_join_0 10 rfl rfl)
theorem dX16_join_11 : decode cX16_join 11 = .ok (.iload_n 3, 1) := dk_29 (dk_at dksX16_join_0 11 rfl rfl)
theorem dX16_join_12 : decode cX16_join 12 = .ok (.invokestatic 119, 3) := dk_184 0 119 (dk_at dksX16_join_0 12 rfl rfl)
theorem dX16_join_15 : decode cX16_join 15 = .ok (.iload_n 1, 1) := dk_27 (dk_at dksX16_join_0 15 rfl rfl)
theorem dX16_join_16 : decode cX16_join 16 = .ok (.iload_n 3, 1) := dk_29 (dk_at dksX16_join_0 16 rfl rfl)
theorem dX16_join_17 : decode cX16_join 17 = .ok (.invokestatic 119, 3) := dk_184 0 119 (dk_at dksX16_join_0 17 rfl rfl)
theorem dX16_join_20 : decode cX16_join 20 = .ok (.invokestatic 22, 3) := dk_184 0 22 (dk_at dksX16_join_0 20 rfl rfl)
theorem dX16_join_23 : decode cX16_join 23 = .ok (.iconst 4, 1) := dk_7 (dk_at dksX16_join_0 23 rfl rfl)
theorem dX16_join_24 : decode cX16_join 24 = .ok (.iload_n 3, 1) := dk_29 (dk_at dksX16_join_1 0 rfl rfl)
theorem dX16_join_25 : decode cX16_join 25 = .ok (.imul, 1) := dk_104 (dk_at dksX16_join_1 1 rfl rfl)
theorem dX16_join_26 : decode cX16_join 26 = .ok (.ishl, 1) := dk_120 (dk_at dksX16_join_1 2 rfl rfl)
theorem dX16_join_27 : decode cX16_join 27 = .ok (.iadd, 1) := dk_96 (dk_at dksX16_join_1 3 rfl rfl)
theorem dX16_join_28 : decode cX16_join 28 = .ok (.istore_n 2, 1) := dk_61 (dk_at dksX16_join_1 4 rfl rfl)
theorem dX16_join_29 : decode cX16_join 29 = .ok (.iinc 3 1, 3) := dk_132 3 1 (dk_at dksX16_join_1 5 rfl rfl)
theorem dX16_join_32 : decode cX16_join 32 = .ok (.goto (-28), 3) := dk_167 255 228 (dk_at dksX16_join_1 8 rfl rfl)
theorem dX16_join_35 : decode cX16_join 35 = .ok (.iload_n 2, 1) := dk_28 (dk_at dksX16_join_1 11 rfl rfl)
theorem dX16_join_36 : decode cX16_join 36 = .ok (.ireturn, 1) := dk_172 (dk_at dksX16_join_1 12 rfl rfl)
abbrev cX16_gatherTimes : ByteArray := prog_21_method_66_code
def yX16_gatherTimes : MethodName := ⟨RX16, "gatherTimes", "(LIdealCourtModel$Poly;II)Z"⟩
def dkwX16_gatherTimes_2 : List UInt8 := [172, 132, 4, 1, 167, 255, 207, 4, 172]
abbrev dktX16_gatherTimes_2 : List UInt8 := dkwX16_gatherTimes_2 ++ []
def dkwX16_gatherTimes_1 : List UInt8 := [28, 96, 43, 180, 0, 170, 21, 4, 50, 43, 180, 0, 171, 21, 4, 50, 29, 182, 0, 172, 154, 0, 5, 3]
abbrev dktX16_gatherTimes_1 : List UInt8 := dkwX16_gatherTimes_1 ++ dktX16_gatherTimes_2
def dkwX16_gatherTimes_0 : List UInt8 := [3, 54, 4, 21, 4, 43, 180, 0, 162, 162, 0, 46, 42, 42, 180, 0, 230, 43, 180, 0, 167, 21, 4, 46]
abbrev dktX16_gatherTimes_0 : List UInt8 := dkwX16_gatherTimes_0 ++ dktX16_gatherTimes_1
theorem dksX16_gatherTimes_0 : cX16_gatherTimes.data.toList.drop 0 = dktX16_gatherTimes_0 := by decide +kernel
theorem dksX16_gatherTimes_1 : cX16_gatherTimes.data.toList.drop 24 = dktX16_gatherTimes_1 := dk_seg dksX16_gatherTimes_0 24 rfl rfl
theorem dksX16_gatherTimes_2 : cX16_gatherTimes.data.toList.drop 48 = dktX16_gatherTimes_2 := dk_seg dksX16_gatherTimes_1 24 rfl rfl
theorem dX16_gatherTimes_0 : decode cX16_gatherTimes 0 = .ok (.iconst 0, 1) := dk_3 (dk_at dksX16_gatherTimes_0 0 rfl rfl)
theorem dX16_gatherTimes_1 : decode cX16_gatherTimes 1 = .ok (.istore 4, 2) := dk_54 4 (dk_at dksX16_gatherTimes_0 1 rfl rfl)
theorem dX16_gatherTimes_3 : decode cX16_gatherTimes 3 = .ok (.iload 4, 2) := dk_21 4 (dk_at dksX16_gatherTimes_0 3 rfl rfl)
theorem dX16_gatherTimes_5 : decode cX16_gatherTimes 5 = .ok (.aload_n 1, 1) := dk_43 (dk_at dksX16_gatherTimes_0 5 rfl rfl)
theorem dX16_gatherTimes_6 : decode cX16_gatherTimes 6 = .ok (.getfield 162, 3) := dk_180 0 162 (dk_at dksX16_gatherTimes_0 6 rfl rfl)
theorem dX16_gatherTimes_9 : decode cX16_gatherTimes 9 = .ok (.if_icmp .ge 46, 3) := dk_162 0 46 (dk_at dksX16_gatherTimes_0 9 rfl rfl)
theorem dX16_gatherTimes_12 : decode cX16_gatherTimes 12 = .ok (.aload_n 0, 1) := dk_42 (dk_at dksX16_gatherTimes_0 12 rfl rfl)
theorem dX16_gatherTimes_13 : decode cX16_gatherTimes 13 = .ok (.aload_n 0, 1) := dk_42 (dk_at dksX16_gatherTimes_0 13 rfl rfl)
theorem dX16_gatherTimes_14 : decode cX16_gatherTimes 14 = .ok (.getfield 230, 3) := dk_180 0 230 (dk_at dksX16_gatherTimes_0 14 rfl rfl)
theorem dX16_gatherTimes_17 : decode cX16_gatherTimes 17 = .ok (.aload_n 1, 1) := dk_43 (dk_at dksX16_gatherTimes_0 17 rfl rfl)
theorem dX16_gatherTimes_18 : decode cX16_gatherTimes 18 = .ok (.getfield 167, 3) := dk_180 0 167 (dk_at dksX16_gatherTimes_0 18 rfl rfl)
theorem dX16_gatherTimes_21 : decode cX16_gatherTimes 21 = .ok (.iload 4, 2) := dk_21 4 (dk_at dksX16_gatherTimes_0 21 rfl rfl)
theorem dX16_gatherTimes_23 : decode cX16_gatherTimes 23 = .ok (.iaload, 1) := dk_46 (dk_at dksX16_gatherTimes_0 23 rfl rfl)
theorem dX16_gatherTimes_24 : decode cX16_gatherTimes 24 = .ok (.iload_n 2, 1) := dk_28 (dk_at dksX16_gatherTimes_1 0 rfl rfl)
theorem dX16_gatherTimes_25 : decode cX16_gatherTimes 25 = .ok (.iadd, 1) := dk_96 (dk_at dksX16_gatherTimes_1 1 rfl rfl)
theorem dX16_gatherTimes_26 : decode cX16_gatherTimes 26 = .ok (.aload_n 1, 1) := dk_43 (dk_at dksX16_gatherTimes_1 2 rfl rfl)
theorem dX16_gatherTimes_27 : decode cX16_gatherTimes 27 = .ok (.getfield 170, 3) := dk_180 0 170 (dk_at dksX16_gatherTimes_1 3 rfl rfl)
theorem dX16_gatherTimes_30 : decode cX16_gatherTimes 30 = .ok (.iload 4, 2) := dk_21 4 (dk_at dksX16_gatherTimes_1 6 rfl rfl)
theorem dX16_gatherTimes_32 : decode cX16_gatherTimes 32 = .ok (.aaload, 1) := dk_50 (dk_at dksX16_gatherTimes_1 8 rfl rfl)
theorem dX16_gatherTimes_33 : decode cX16_gatherTimes 33 = .ok (.aload_n 1, 1) := dk_43 (dk_at dksX16_gatherTimes_1 9 rfl rfl)
theorem dX16_gatherTimes_34 : decode cX16_gatherTimes 34 = .ok (.getfield 171, 3) := dk_180 0 171 (dk_at dksX16_gatherTimes_1 10 rfl rfl)
theorem dX16_gatherTimes_37 : decode cX16_gatherTimes 37 = .ok (.iload 4, 2) := dk_21 4 (dk_at dksX16_gatherTimes_1 13 rfl rfl)
theorem dX16_gatherTimes_39 : decode cX16_gatherTimes 39 = .ok (.aaload, 1) := dk_50 (dk_at dksX16_gatherTimes_1 15 rfl rfl)
theorem dX16_gatherTimes_40 : decode cX16_gatherTimes 40 = .ok (.iload_n 3, 1) := dk_29 (dk_at dksX16_gatherTimes_1 16 rfl rfl)
theorem dX16_gatherTimes_41 : decode cX16_gatherTimes 41 = .ok (.invokevirtual 172, 3) := dk_182 0 172 (dk_at dksX16_gatherTimes_1 17 rfl rfl)
theorem dX16_gatherTimes_44 : decode cX16_gatherTimes 44 = .ok (.ifCond .ne 5, 3) := dk_154 0 5 (dk_at dksX16_gatherTimes_1 20 rfl rfl)
theorem dX16_gatherTimes_47 : decode cX16_gatherTimes 47 = .ok (.iconst 0, 1) := dk_3 (dk_at dksX16_gatherTimes_1 23 rfl rfl)
theorem dX16_gatherTimes_48 : decode cX16_gatherTimes 48 = .ok (.ireturn, 1) := dk_172 (dk_at dksX16_gatherTimes_2 0 rfl rfl)
theorem dX16_gatherTimes_49 : decode cX16_gatherTimes 49 = .ok (.iinc 4 1, 3) := dk_132 4 1 (dk_at dksX16_gatherTimes_2 1 rfl rfl)
theorem dX16_gatherTimes_52 : decode cX16_gatherTimes 52 = .ok (.goto (-49), 3) := dk_167 255 207 (dk_at dksX16_gatherTimes_2 4 rfl rfl)
theorem dX16_gatherTimes_55 : decode cX16_gatherTimes 55 = .ok (.iconst 1, 1) := dk_4 (dk_at dksX16_gatherTimes_2 7 rfl rfl)
theorem dX16_gatherTimes_56 : decode cX16_gatherTimes 56 = .ok (.ireturn, 1) := dk_172 (dk_at dksX16_gatherTimes_2 8 rfl rfl)
abbrev cX16_without : ByteArray := prog_21_method_69_code
def yX16_without : MethodName := ⟨RX16, "without", "(I)I"⟩
def dkwX16_without_6 : List UInt8 := [96, 61, 132, 3, 1, 167, 255, 151, 28, 172]
abbrev dktX16_without_6 : List UInt8 := dkwX16_without_6 ++ []
def dkwX16_without_5 : List UInt8 := [4, 167, 0, 4, 3, 54, 4, 132, 5, 1, 167, 255, 184, 28, 21, 4, 153, 0, 7, 4, 167, 0, 4, 3]
abbrev dktX16_without_5 : List UInt8 := dkwX16_without_5 ++ dktX16_without_6
def dkwX16_without_4 : List UInt8 := [27, 4, 159, 0, 22, 42, 180, 1, 46, 29, 50, 180, 0, 167, 21, 5, 46, 4, 184, 0, 119, 154, 0, 7]
abbrev dktX16_without_4 : List UInt8 := dkwX16_without_4 ++ dktX16_without_5
def dkwX16_without_3 : List UInt8 := [21, 4, 153, 0, 50, 42, 180, 1, 46, 29, 50, 180, 0, 167, 21, 5, 46, 3, 184, 0, 119, 154, 0, 31]
abbrev dktX16_without_3 : List UInt8 := dkwX16_without_3 ++ dktX16_without_4
def dkwX16_without_2 : List UInt8 := [162, 0, 103, 4, 54, 4, 3, 54, 5, 21, 5, 42, 180, 1, 46, 29, 50, 180, 0, 162, 162, 0, 64]
abbrev dktX16_without_2 : List UInt8 := dkwX16_without_2 ++ dktX16_without_3
def dkwX16_without_1 : List UInt8 := [154, 0, 8, 16, 249, 167, 0, 5, 16, 250, 182, 1, 151, 172, 3, 61, 3, 62, 29, 42, 180, 2, 32]
abbrev dktX16_without_1 : List UInt8 := dkwX16_without_1 ++ dktX16_without_2
def dkwX16_without_0 : List UInt8 := [42, 180, 2, 39, 153, 0, 13, 27, 4, 159, 0, 27, 27, 5, 159, 0, 22, 42, 42, 180, 2, 39]
abbrev dktX16_without_0 : List UInt8 := dkwX16_without_0 ++ dktX16_without_1
theorem dksX16_without_0 : cX16_without.data.toList.drop 0 = dktX16_without_0 := by decide +kernel
theorem dksX16_without_1 : cX16_without.data.toList.drop 22 = dktX16_without_1 := dk_seg dksX16_without_0 22 rfl rfl
theorem dksX16_without_2 : cX16_without.data.toList.drop 45 = dktX16_without_2 := dk_seg dksX16_without_1 23 rfl rfl
theorem dksX16_without_3 : cX16_without.data.toList.drop 68 = dktX16_without_3 := dk_seg dksX16_without_2 23 rfl rfl
theorem dksX16_without_4 : cX16_without.data.toList.drop 92 = dktX16_without_4 := dk_seg dksX16_without_3 24 rfl rfl
theorem dksX16_without_5 : cX16_without.data.toList.drop 116 = dktX16_without_5 := dk_seg dksX16_without_4 24 rfl rfl
theorem dksX16_without_6 : cX16_without.data.toList.drop 140 = dktX16_without_6 := dk_seg dksX16_without_5 24 rfl rfl
theorem dX16_without_0 : decode cX16_without 0 = .ok (.aload_n 0, 1) := dk_42 (dk_at dksX16_without_0 0 rfl rfl)
theorem dX16_without_1 : decode cX16_without 1 = .ok (.getfield 551, 3) := dk_180 2 39 (dk_at dksX16_without_0 1 rfl rfl)
theorem dX16_without_4 : decode cX16_without 4 = .ok (.ifCond .eq 13, 3) := dk_153 0 13 (dk_at dksX16_without_0 4 rfl rfl)
theorem dX16_without_7 : decode cX16_without 7 = .ok (.iload_n 1, 1) := dk_27 (dk_at dksX16_without_0 7 rfl rfl)
theorem dX16_without_8 : decode cX16_without 8 = .ok (.iconst 1, 1) := dk_4 (dk_at dksX16_without_0 8 rfl rfl)
theorem dX16_without_9 : decode cX16_without 9 = .ok (.if_icmp .eq 27, 3) := dk_159 0 27 (dk_at dksX16_without_0 9 rfl rfl)
theorem dX16_without_12 : decode cX16_without 12 = .ok (.iload_n 1, 1) := dk_27 (dk_at dksX16_without_0 12 rfl rfl)
theorem dX16_without_13 : decode cX16_without 13 = .ok (.iconst 2, 1) := dk_5 (dk_at dksX16_without_0 13 rfl rfl)
theorem dX16_without_14 : decode cX16_without 14 = .ok (.if_icmp .eq 22, 3) := dk_159 0 22 (dk_at dksX16_without_0 14 rfl rfl)
theorem dX16_without_17 : decode cX16_without 17 = .ok (.aload_n 0, 1) := dk_42 (dk_at dksX16_without_0 17 rfl rfl)
theorem dX16_without_18 : decode cX16_without 18 = .ok (.aload_n 0, 1) := dk_42 (dk_at dksX16_without_0 18 rfl rfl)
theorem dX16_without_19 : decode cX16_without 19 = .ok (.getfield 551, 3) := dk_180 2 39 (dk_at dksX16_without_0 19 rfl rfl)
theorem dX16_without_22 : decode cX16_without 22 = .ok (.ifCond .ne 8, 3) := dk_154 0 8 (dk_at dksX16_without_1 0 rfl rfl)
theorem dX16_without_25 : decode cX16_without 25 = .ok (.bipush (-7), 2) := dk_16 249 (dk_at dksX16_without_1 3 rfl rfl)
theorem dX16_without_27 : decode cX16_without 27 = .ok (.goto 5, 3) := dk_167 0 5 (dk_at dksX16_without_1 5 rfl rfl)
theorem dX16_without_30 : decode cX16_without 30 = .ok (.bipush (-6), 2) := dk_16 250 (dk_at dksX16_without_1 8 rfl rfl)
theorem dX16_without_32 : decode cX16_without 32 = .ok (.invokevirtual 407, 3) := dk_182 1 151 (dk_at dksX16_without_1 10 rfl rfl)
theorem dX16_without_35 : decode cX16_without 35 = .ok (.ireturn, 1) := dk_172 (dk_at dksX16_without_1 13 rfl rfl)
theorem dX16_without_36 : decode cX16_without 36 = .ok (.iconst 0, 1) := dk_3 (dk_at dksX16_without_1 14 rfl rfl)
theorem dX16_without_37 : decode cX16_without 37 = .ok (.istore_n 2, 1) := dk_61 (dk_at dksX16_without_1 15 rfl rfl)
theorem dX16_without_38 : decode cX16_without 38 = .ok (.iconst 0, 1) := dk_3 (dk_at dksX16_without_1 16 rfl rfl)
theorem dX16_without_39 : decode cX16_without 39 = .ok (.istore_n 3, 1) := dk_62 (dk_at dksX16_without_1 17 rfl rfl)
theorem dX16_without_40 : decode cX16_without 40 = .ok (.iload_n 3, 1) := dk_29 (dk_at dksX16_without_1 18 rfl rfl)
theorem dX16_without_41 : decode cX16_without 41 = .ok (.aload_n 0, 1) := dk_42 (dk_at dksX16_without_1 19 rfl rfl)
theorem dX16_without_42 : decode cX16_without 42 = .ok (.getfield 544, 3) := dk_180 2 32 (dk_at dksX16_without_1 20 rfl rfl)
theorem dX16_without_45 : decode cX16_without 45 = .ok (.if_icmp .ge 103, 3) := dk_162 0 103 (dk_at dksX16_without_2 0 rfl rfl)
theorem dX16_without_48 : decode cX16_without 48 = .ok (.iconst 1, 1) := dk_4 (dk_at dksX16_without_2 3 rfl rfl)
theorem dX16_without_49 : decode cX16_without 49 = .ok (.istore 4, 2) := dk_54 4 (dk_at dksX16_without_2 4 rfl rfl)
theorem dX16_without_51 : decode cX16_without 51 = .ok (.iconst 0, 1) := dk_3 (dk_at dksX16_without_2 6 rfl rfl)
theorem dX16_without_52 : decode cX16_without 52 = .ok (.istore 5, 2) := dk_54 5 (dk_at dksX16_without_2 7 rfl rfl)
theorem dX16_without_54 : decode cX16_without 54 = .ok (.iload 5, 2) := dk_21 5 (dk_at dksX16_without_2 9 rfl rfl)
theorem dX16_without_56 : decode cX16_without 56 = .ok (.aload_n 0, 1) := dk_42 (dk_at dksX16_without_2 11 rfl rfl)
theorem dX16_without_57 : decode cX16_without 57 = .ok (.getfield 302, 3) := dk_180 1 46 (dk_at dksX16_without_2 12 rfl rfl)
theorem dX16_without_60 : decode cX16_without 60 = .ok (.iload_n 3, 1) := dk_29 (dk_at dksX16_without_2 15 rfl rfl)
theorem dX16_without_61 : decode cX16_without 61 = .ok (.aaload, 1) := dk_50 (dk_at dksX16_without_2 16 rfl rfl)
theorem dX16_without_62 : decode cX16_without 62 = .ok (.getfield 162, 3) := dk_180 0 162 (dk_at dksX16_without_2 17 rfl rfl)
theorem dX16_without_65 : decode cX16_without 65 = .ok (.if_icmp .ge 64, 3) := dk_162 0 64 (dk_at dksX16_without_2 20 rfl rfl)
theorem dX16_without_68 : decode cX16_without 68 = .ok (.iload 4, 2) := dk_21 4 (dk_at dksX16_without_3 0 rfl rfl)
theorem dX16_without_70 : decode cX16_without 70 = .ok (.ifCond .eq 50, 3) := dk_153 0 50 (dk_at dksX16_without_3 2 rfl rfl)
theorem dX16_without_73 : decode cX16_without 73 = .ok (.aload_n 0, 1) := dk_42 (dk_at dksX16_without_3 5 rfl rfl)
theorem dX16_without_74 : decode cX16_without 74 = .ok (.getfield 302, 3) := dk_180 1 46 (dk_at dksX16_without_3 6 rfl rfl)
theorem dX16_without_77 : decode cX16_without 77 = .ok (.iload_n 3, 1) := dk_29 (dk_at dksX16_without_3 9 rfl rfl)
theorem dX16_without_78 : decode cX16_without 78 = .ok (.aaload, 1) := dk_50 (dk_at dksX16_without_3 10 rfl rfl)
theorem dX16_without_79 : decode cX16_without 79 = .ok (.getfield 167, 3) := dk_180 0 167 (dk_at dksX16_without_3 11 rfl rfl)
theorem dX16_without_82 : decode cX16_without 82 = .ok (.iload 5, 2) := dk_21 5 (dk_at dksX16_without_3 14 rfl rfl)
theorem dX16_without_84 : decode cX16_without 84 = .ok (.iaload, 1) := dk_46 (dk_at dksX16_without_3 16 rfl rfl)
theorem dX16_without_85 : decode cX16_without 85 = .ok (.iconst 0, 1) := dk_3 (dk_at dksX16_without_3 17 rfl rfl)
theorem dX16_without_86 : decode cX16_without 86 = .ok (.invokestatic 119, 3) := dk_184 0 119 (dk_at dksX16_without_3 18 rfl rfl)
theorem dX16_without_89 : decode cX16_without 89 = .ok (.ifCond .ne 31, 3) := dk_154 0 31 (dk_at dksX16_without_3 21 rfl rfl)
theorem dX16_without_92 : decode cX16_without 92 = .ok (.iload_n 1, 1) := dk_27 (dk_at dksX16_without_4 0 rfl rfl)
theorem dX16_without_93 : decode cX16_without 93 = .ok (.iconst 1, 1) := dk_4 (dk_at dksX16_without_4 1 rfl rfl)
theorem dX16_without_94 : decode cX16_without 94 = .ok (.if_icmp .eq 22, 3) := dk_159 0 22 (dk_at dksX16_without_4 2 rfl rfl)
theorem dX16_without_97 : decode cX16_without 97 = .ok (.aload_n 0, 1) := dk_42 (dk_at dksX16_without_4 5 rfl rfl)
theorem dX16_without_98 : decode cX16_without 98 = .ok (.getfield 302, 3) := dk_180 1 46 (dk_at dksX16_without_4 6 rfl rfl)
theorem dX16_without_101 : decode cX16_without 101 = .ok (.iload_n 3, 1) := dk_29 (dk_at dksX16_without_4 9 rfl rfl)
theorem dX16_without_102 : decode cX16_without 102 = .ok (.aaload, 1) := dk_50 (dk_at dksX16_without_4 10 rfl rfl)
theorem dX16_without_103 : decode cX16_without 103 = .ok (.getfield 167, 3) := dk_180 0 167 (dk_at dksX16_without_4 11 rfl rfl)
theorem dX16_without_106 : decode cX16_without 106 = .ok (.iload 5, 2) := dk_21 5 (dk_at dksX16_without_4 14 rfl rfl)
theorem dX16_without_108 : decode cX16_without 108 = .ok (.iaload, 1) := dk_46 (dk_at dksX16_without_4 16 rfl rfl)
theorem dX16_without_109 : decode cX16_without 109 = .ok (.iconst 1, 1) := dk_4 (dk_at dksX16_without_4 17 rfl rfl)
theorem dX16_without_110 : decode cX16_without 110 = .ok (.invokestatic 119, 3) := dk_184 0 119 (dk_at dksX16_without_4 18 rfl rfl)
theorem dX16_without_113 : decode cX16_without 113 = .ok (.ifCond .ne 7, 3) := dk_154 0 7 (dk_at dksX16_without_4 21 rfl rfl)
theorem dX16_without_116 : decode cX16_without 116 = .ok (.iconst 1, 1) := dk_4 (dk_at dksX16_without_5 0 rfl rfl)
theorem dX16_without_117 : decode cX16_without 117 = .ok (.goto 4, 3) := dk_167 0 4 (dk_at dksX16_without_5 1 rfl rfl)
theorem dX16_without_120 : decode cX16_without 120 = .ok (.iconst 0, 1) := dk_3 (dk_at dksX16_without_5 4 rfl rfl)
theorem dX16_without_121 : decode cX16_without 121 = .ok (.istore 4, 2) := dk_54 4 (dk_at dksX16_without_5 5 rfl rfl)
theorem dX16_without_123 : decode cX16_without 123 = .ok (.iinc 5 1, 3) := dk_132 5 1 (dk_at dksX16_without_5 7 rfl rfl)
theorem dX16_without_126 : decode cX16_without 126 = .ok (.goto (-72), 3) := dk_167 255 184 (dk_at dksX16_without_5 10 rfl rfl)
theorem dX16_without_129 : decode cX16_without 129 = .ok (.iload_n 2, 1) := dk_28 (dk_at dksX16_without_5 13 rfl rfl)
theorem dX16_without_130 : decode cX16_without 130 = .ok (.iload 4, 2) := dk_21 4 (dk_at dksX16_without_5 14 rfl rfl)
theorem dX16_without_132 : decode cX16_without 132 = .ok (.ifCond .eq 7, 3) := dk_153 0 7 (dk_at dksX16_without_5 16 rfl rfl)
theorem dX16_without_135 : decode cX16_without 135 = .ok (.iconst 1, 1) := dk_4 (dk_at dksX16_without_5 19 rfl rfl)
theorem dX16_without_136 : decode cX16_without 136 = .ok (.goto 4, 3) := dk_167 0 4 (dk_at dksX16_without_5 20 rfl rfl)
theorem dX16_without_139 : decode cX16_without 139 = .ok (.iconst 0, 1) := dk_3 (dk_at dksX16_without_5 23 rfl rfl)
theorem dX16_without_140 : decode cX16_without 140 = .ok (.iadd, 1) := dk_96 (dk_at dksX16_without_6 0 rfl rfl)
theorem dX16_without_141 : decode cX16_without 141 = .ok (.istore_n 2, 1) := dk_61 (dk_at dksX16_without_6 1 rfl rfl)
theorem dX16_without_142 : decode cX16_without 142 = .ok (.iinc 3 1, 3) := dk_132 3 1 (dk_at dksX16_without_6 2 rfl rfl)
theorem dX16_without_145 : decode cX16_without 145 = .ok (.goto (-105), 3) := dk_167 255 151 (dk_at dksX16_without_6 5 rfl rfl)
theorem dX16_without_148 : decode cX16_without 148 = .ok (.iload_n 2, 1) := dk_28 (dk_at dksX16_without_6 8 rfl rfl)
theorem dX16_without_149 : decode cX16_without 149 = .ok (.ireturn, 1) := dk_172 (dk_at dksX16_without_6 9 rfl rfl)
abbrev cX16_many : ByteArray := prog_21_method_71_code
def yX16_many : MethodName := ⟨RX16, "many", "()I"⟩
def dkwX16_many_6 : List UInt8 := [27, 172]
abbrev dktX16_many_6 : List UInt8 := dkwX16_many_6 ++ []
def dkwX16_many_5 : List UInt8 := [132, 4, 1, 167, 255, 221, 27, 29, 153, 0, 7, 4, 167, 0, 4, 3, 96, 60, 132, 2, 1, 167, 255, 161]
abbrev dktX16_many_5 : List UInt8 := dkwX16_many_5 ++ dktX16_many_6
def dkwX16_many_4 : List UInt8 := [29, 153, 0, 28, 42, 21, 4, 182, 2, 55, 28, 184, 1, 247, 154, 0, 7, 4, 167, 0, 4, 3, 62]
abbrev dktX16_many_4 : List UInt8 := dkwX16_many_4 ++ dktX16_many_5
def dkwX16_many_3 : List UInt8 := [184, 0, 119, 7, 164, 0, 6, 167, 0, 58, 4, 62, 3, 54, 4, 21, 4, 42, 180, 2, 32, 162, 0, 32]
abbrev dktX16_many_3 : List UInt8 := dkwX16_many_3 ++ dktX16_many_4
def dkwX16_many_2 : List UInt8 := [162, 0, 94, 28, 3, 184, 0, 119, 7, 163, 0, 79, 28, 4, 184, 0, 119, 7, 163, 0, 70, 28, 5]
abbrev dktX16_many_2 : List UInt8 := dkwX16_many_2 ++ dktX16_many_3
def dkwX16_many_1 : List UInt8 := [5, 182, 2, 68, 156, 0, 10, 42, 16, 249, 182, 1, 151, 172, 3, 60, 3, 61, 28, 17, 16, 0]
abbrev dktX16_many_1 : List UInt8 := dkwX16_many_1 ++ dktX16_many_2
def dkwX16_many_0 : List UInt8 := [42, 180, 2, 39, 153, 0, 27, 42, 3, 182, 2, 68, 155, 0, 19, 42, 4, 182, 2, 68, 155, 0, 11, 42]
abbrev dktX16_many_0 : List UInt8 := dkwX16_many_0 ++ dktX16_many_1
theorem dksX16_many_0 : cX16_many.data.toList.drop 0 = dktX16_many_0 := by decide +kernel
theorem dksX16_many_1 : cX16_many.data.toList.drop 24 = dktX16_many_1 := dk_seg dksX16_many_0 24 rfl rfl
theorem dksX16_many_2 : cX16_many.data.toList.drop 46 = dktX16_many_2 := dk_seg dksX16_many_1 22 rfl rfl
theorem dksX16_many_3 : cX16_many.data.toList.drop 69 = dktX16_many_3 := dk_seg dksX16_many_2 23 rfl rfl
theorem dksX16_many_4 : cX16_many.data.toList.drop 93 = dktX16_many_4 := dk_seg dksX16_many_3 24 rfl rfl
theorem dksX16_many_5 : cX16_many.data.toList.drop 116 = dktX16_many_5 := dk_seg dksX16_many_4 23 rfl rfl
theorem dksX16_many_6 : cX16_many.data.toList.drop 140 = dktX16_many_6 := dk_seg dksX16_many_5 24 rfl rfl
theorem dX16_many_0 : decode cX16_many 0 = .ok (.aload_n 0, 1) := dk_42 (dk_at dksX16_many_0 0 rfl rfl)
theorem dX16_many_1 : decode cX16_many 1 = .ok (.getfield 551, 3) := dk_180 2 39 (dk_at dksX16_many_0 1 rfl rfl)
theorem dX16_many_4 : decode cX16_many 4 = .ok (.ifCond .eq 27, 3) := dk_153 0 27 (dk_at dksX16_many_0 4 rfl rfl)
theorem dX16_many_7 : decode cX16_many 7 = .ok (.aload_n 0, 1) := dk_42 (dk_at dksX16_many_0 7 rfl rfl)
theorem dX16_many_8 : decode cX16_many 8 = .ok (.iconst 0, 1) := dk_3 (dk_at dksX16_many_0 8 rfl rfl)
theorem dX16_many_9 : decode cX16_many 9 = .ok (.invokevirtual 580, 3) := dk_182 2 68 (dk_at dksX16_many_0 9 rfl rfl)
theorem dX16_many_12 : decode cX16_many 12 = .ok (.ifCond .lt 19, 3) := dk_155 0 19 (dk_at dksX16_many_0 12 rfl rfl)
theorem dX16_many_15 : decode cX16_many 15 = .ok (.aload_n 0, 1) := dk_42 (dk_at dksX16_many_0 15 rfl rfl)
theorem dX16_many_16 : decode cX16_many 16 = .ok (.iconst 1, 1) := dk_4 (dk_at dksX16_many_0 16 rfl rfl)
theorem dX16_many_17 : decode cX16_many 17 = .ok (.invokevirtual 580, 3) := dk_182 2 68 (dk_at dksX16_many_0 17 rfl rfl)
theorem dX16_many_20 : decode cX16_many 20 = .ok (.ifCond .lt 11, 3) := dk_155 0 11 (dk_at dksX16_many_0 20 rfl rfl)
theorem dX16_many_23 : decode cX16_many 23 = .ok (.aload_n 0, 1) := dk_42 (dk_at dksX16_many_0 23 rfl rfl)
theorem dX16_many_24 : decode cX16_many 24 = .ok (.iconst 2, 1) := dk_5 (dk_at dksX16_many_1 0 rfl rfl)
theorem dX16_many_25 : decode cX16_many 25 = .ok (.invokevirtual 580, 3) := dk_182 2 68 (dk_at dksX16_many_1 1 rfl rfl)
theorem dX16_many_28 : decode cX16_many 28 = .ok (.ifCond .ge 10, 3) := dk_156 0 10 (dk_at dksX16_many_1 4 rfl rfl)
theorem dX16_many_31 : decode cX16_many 31 = .ok (.aload_n 0, 1) := dk_42 (dk_at dksX16_many_1 7 rfl rfl)
theorem dX16_many_32 : decode cX16_many 32 = .ok (.bipush (-7), 2) := dk_16 249 (dk_at dksX16_many_1 8 rfl rfl)
theorem dX16_many_34 : decode cX16_many 34 = .ok (.invokevirtual 407, 3) := dk_182 1 151 (dk_at dksX16_many_1 10 rfl rfl)
theorem dX16_many_37 : decode cX16_many 37 = .ok (.ireturn, 1) := dk_172 (dk_at dksX16_many_1 13 rfl rfl)
theorem dX16_many_38 : decode cX16_many 38 = .ok (.iconst 0, 1) := dk_3 (dk_at dksX16_many_1 14 rfl rfl)
theorem dX16_many_39 : decode cX16_many 39 = .ok (.istore_n 1, 1) := dk_60 (dk_at dksX16_many_1 15 rfl rfl)
theorem dX16_many_40 : decode cX16_many 40 = .ok (.iconst 0, 1) := dk_3 (dk_at dksX16_many_1 16 rfl rfl)
theorem dX16_many_41 : decode cX16_many 41 = .ok (.istore_n 2, 1) := dk_61 (dk_at dksX16_many_1 17 rfl rfl)
theorem dX16_many_42 : decode cX16_many 42 = .ok (.iload_n 2, 1) := dk_28 (dk_at dksX16_many_1 18 rfl rfl)
theorem dX16_many_43 : decode cX16_many 43 = .ok (.sipush 4096, 3) := dk_17 16 0 (dk_at dksX16_many_1 19 rfl rfl)
theorem dX16_many_46 : decode cX16_many 46 = .ok (.if_icmp .ge 94, 3) := dk_162 0 94 (dk_at dksX16_many_2 0 rfl rfl)
theorem dX16_many_49 : decode cX16_many 49 = .ok (.iload_n 2, 1) := dk_28 (dk_at dksX16_many_2 3 rfl rfl)
theorem dX16_many_50 : decode cX16_many 50 = .ok (.iconst 0, 1) := dk_3 (dk_at dksX16_many_2 4 rfl rfl)
theorem dX16_many_51 : decode cX16_many 51 = .ok (.invokestatic 119, 3) := dk_184 0 119 (dk_at dksX16_many_2 5 rfl rfl)
theorem dX16_many_54 : decode cX16_many 54 = .ok (.iconst 4, 1) := dk_7 (dk_at dksX16_many_2 8 rfl rfl)
theorem dX16_many_55 : decode cX16_many 55 = .ok (.if_icmp .gt 79, 3) := dk_163 0 79 (dk_at dksX16_many_2 9 rfl rfl)
theorem dX16_many_58 : decode cX16_many 58 = .ok (.iload_n 2, 1) := dk_28 (dk_at dksX16_many_2 12 rfl rfl)
theorem dX16_many_59 : decode cX16_many 59 = .ok (.iconst 1, 1) := dk_4 (dk_at dksX16_many_2 13 rfl rfl)
theorem dX16_many_60 : decode cX16_many 60 = .ok (.invokestatic 119, 3) := dk_184 0 119 (dk_at dksX16_many_2 14 rfl rfl)
theorem dX16_many_63 : decode cX16_many 63 = .ok (.iconst 4, 1) := dk_7 (dk_at dksX16_many_2 17 rfl rfl)
theorem dX16_many_64 : decode cX16_many 64 = .ok (.if_icmp .gt 70, 3) := dk_163 0 70 (dk_at dksX16_many_2 18 rfl rfl)
theorem dX16_many_67 : decode cX16_many 67 = .ok (.iload_n 2, 1) := dk_28 (dk_at dksX16_many_2 21 rfl rfl)
theorem dX16_many_68 : decode cX16_many 68 = .ok (.iconst 2, 1) := dk_5 (dk_at dksX16_many_2 22 rfl rfl)
theorem dX16_many_69 : decode cX16_many 69 = .ok (.invokestatic 119, 3) := dk_184 0 119 (dk_at dksX16_many_3 0 rfl rfl)
theorem dX16_many_72 : decode cX16_many 72 = .ok (.iconst 4, 1) := dk_7 (dk_at dksX16_many_3 3 rfl rfl)
theorem dX16_many_73 : decode cX16_many 73 = .ok (.if_icmp .le 6, 3) := dk_164 0 6 (dk_at dksX16_many_3 4 rfl rfl)
theorem dX16_many_76 : decode cX16_many 76 = .ok (.goto 58, 3) := dk_167 0 58 (dk_at dksX16_many_3 7 rfl rfl)
theorem dX16_many_79 : decode cX16_many 79 = .ok (.iconst 1, 1) := dk_4 (dk_at dksX16_many_3 10 rfl rfl)
theorem dX16_many_80 : decode cX16_many 80 = .ok (.istore_n 3, 1) := dk_62 (dk_at dksX16_many_3 11 rfl rfl)
theorem dX16_many_81 : decode cX16_many 81 = .ok (.iconst 0, 1) := dk_3 (dk_at dksX16_many_3 12 rfl rfl)
theorem dX16_many_82 : decode cX16_many 82 = .ok (.istore 4, 2) := dk_54 4 (dk_at dksX16_many_3 13 rfl rfl)
theorem dX16_many_84 : decode cX16_many 84 = .ok (.iload 4, 2) := dk_21 4 (dk_at dksX16_many_3 15 rfl rfl)
theorem dX16_many_86 : decode cX16_many 86 = .ok (.aload_n 0, 1) := dk_42 (dk_at dksX16_many_3 17 rfl rfl)
theorem dX16_many_87 : decode cX16_many 87 = .ok (.getfield 544, 3) := dk_180 2 32 (dk_at dksX16_many_3 18 rfl rfl)
theorem dX16_many_90 : decode cX16_many 90 = .ok (.if_icmp .ge 32, 3) := dk_162 0 32 (dk_at dksX16_many_3 21 rfl rfl)
theorem dX16_many_93 : decode cX16_many 93 = .ok (.iload_n 3, 1) := dk_29 (dk_at dksX16_many_4 0 rfl rfl)
theorem dX16_many_94 : decode cX16_many 94 = .ok (.ifCond .eq 28, 3) := dk_153 0 28 (dk_at dksX16_many_4 1 rfl rfl)
theorem dX16_many_97 : decode cX16_many 97 = .ok (.aload_n 0, 1) := dk_42 (dk_at dksX16_many_4 4 rfl rfl)
theorem dX16_many_98 : decode cX16_many 98 = .ok (.iload 4, 2) := dk_21 4 (dk_at dksX16_many_4 5 rfl rfl)
theorem dX16_many_100 : decode cX16_many 100 = .ok (.invokevirtual 567, 3) := dk_182 2 55 (dk_at dksX16_many_4 7 rfl rfl)
theorem dX16_many_103 : decode cX16_many 103 = .ok (.iload_n 2, 1) := dk_28 (dk_at dksX16_many_4 10 rfl rfl)
theorem dX16_many_104 : decode cX16_many 104 = .ok (.invokestatic 503, 3) := dk_184 1 247 (dk_at dksX16_many_4 11 rfl rfl)
theorem dX16_many_107 : decode cX16_many 107 = .ok (.ifCond .ne 7, 3) := dk_154 0 7 (dk_at dksX16_many_4 14 rfl rfl)
theorem dX16_many_110 : decode cX16_many 110 = .ok (.iconst 1, 1) := dk_4 (dk_at dksX16_many_4 17 rfl rfl)
theorem dX16_many_111 : decode cX16_many 111 = .ok (.goto 4, 3) := dk_167 0 4 (dk_at dksX16_many_4 18 rfl rfl)
theorem dX16_many_114 : decode cX16_many 114 = .ok (.iconst 0, 1) := dk_3 (dk_at dksX16_many_4 21 rfl rfl)
theorem dX16_many_115 : decode cX16_many 115 = .ok (.istore_n 3, 1) := dk_62 (dk_at dksX16_many_4 22 rfl rfl)
theorem dX16_many_116 : decode cX16_many 116 = .ok (.iinc 4 1, 3) := dk_132 4 1 (dk_at dksX16_many_5 0 rfl rfl)
theorem dX16_many_119 : decode cX16_many 119 = .ok (.goto (-35), 3) := dk_167 255 221 (dk_at dksX16_many_5 3 rfl rfl)
theorem dX16_many_122 : decode cX16_many 122 = .ok (.iload_n 1, 1) := dk_27 (dk_at dksX16_many_5 6 rfl rfl)
theorem dX16_many_123 : decode cX16_many 123 = .ok (.iload_n 3, 1) := dk_29 (dk_at dksX16_many_5 7 rfl rfl)
theorem dX16_many_124 : decode cX16_many 124 = .ok (.ifCond .eq 7, 3) := dk_153 0 7 (dk_at dksX16_many_5 8 rfl rfl)
theorem dX16_many_127 : decode cX16_many 127 = .ok (.iconst 1, 1) := dk_4 (dk_at dksX16_many_5 11 rfl rfl)
theorem dX16_many_128 : decode cX16_many 128 = .ok (.goto 4, 3) := dk_167 0 4 (dk_at dksX16_many_5 12 rfl rfl)
theorem dX16_many_131 : decode cX16_many 131 = .ok (.iconst 0, 1) := dk_3 (dk_at dksX16_many_5 15 rfl rfl)
theorem dX16_many_132 : decode cX16_many 132 = .ok (.iadd, 1) := dk_96 (dk_at dksX16_many_5 16 rfl rfl)
theorem dX16_many_133 : decode cX16_many 133 = .ok (.istore_n 1, 1) := dk_60 (dk_at dksX16_many_5 17 rfl rfl)
theorem dX16_many_134 : decode cX16_many 134 = .ok (.iinc 2 1, 3) := dk_132 2 1 (dk_at dksX16_many_5 18 rfl rfl)
theorem dX16_many_137 : decode cX16_many 137 = .ok (.goto (-95), 3) := dk_167 255 161 (dk_at dksX16_many_5 21 rfl rfl)
theorem dX16_many_140 : decode cX16_many 140 = .ok (.iload_n 1, 1) := dk_27 (dk_at dksX16_many_6 0 rfl rfl)
theorem dX16_many_141 : decode cX16_many 141 = .ok (.ireturn, 1) := dk_172 (dk_at dksX16_many_6 1 rfl rfl)
abbrev cX16_powerOf : ByteArray := prog_21_method_70_code
def yX16_powerOf : MethodName := ⟨RX16, "powerOf", "(I)I"⟩
def dkwX16_powerOf_1 : List UInt8 := [27, 104, 120, 160, 0, 5, 28, 172, 132, 3, 1, 167, 255, 230, 132, 2, 1, 167, 255, 217, 2, 172]
abbrev dktX16_powerOf_1 : List UInt8 := dkwX16_powerOf_1 ++ []
def dkwX16_powerOf_0 : List UInt8 := [3, 61, 28, 7, 163, 0, 40, 3, 62, 29, 42, 180, 2, 32, 162, 0, 24, 42, 29, 182, 2, 55, 28, 7]
abbrev dktX16_powerOf_0 : List UInt8 := dkwX16_powerOf_0 ++ dktX16_powerOf_1
theorem dksX16_powerOf_0 : cX16_powerOf.data.toList.drop 0 = dktX16_powerOf_0 := by decide +kernel
theorem dksX16_powerOf_1 : cX16_powerOf.data.toList.drop 24 = dktX16_powerOf_1 := dk_seg dksX16_powerOf_0 24 rfl rfl
theorem dX16_powerOf_0 : decode cX16_powerOf 0 = .ok (.iconst 0, 1) := dk_3 (dk_at dksX16_powerOf_0 0 rfl rfl)
theorem dX16_powerOf_1 : decode cX16_powerOf 1 = .ok (.istore_n 2, 1) := dk_61 (dk_at dksX16_powerOf_0 1 rfl rfl)
theorem dX16_powerOf_2 : decode cX16_powerOf 2 = .ok (.iload_n 2, 1) := dk_28 (dk_at dksX16_powerOf_0 2 rfl rfl)
theorem dX16_powerOf_3 : decode cX16_powerOf 3 = .ok (.iconst 4, 1) := dk_7 (dk_at dksX16_powerOf_0 3 rfl rfl)
theorem dX16_powerOf_4 : decode cX16_powerOf 4 = .ok (.if_icmp .gt 40, 3) := dk_163 0 40 (dk_at dksX16_powerOf_0 4 rfl rfl)
theorem dX16_powerOf_7 : decode cX16_powerOf 7 = .ok (.iconst 0, 1) := dk_3 (dk_at dksX16_powerOf_0 7 rfl rfl)
theorem dX16_powerOf_8 : decode cX16_powerOf 8 = .ok (.istore_n 3, 1) := dk_62 (dk_at dksX16_powerOf_0 8 rfl rfl)
theorem dX16_powerOf_9 : decode cX16_powerOf 9 = .ok (.iload_n 3, 1) := dk_29 (dk_at dksX16_powerOf_0 9 rfl rfl)
theorem dX16_powerOf_10 : decode cX16_powerOf 10 = .ok (.aload_n 0, 1) := dk_42 (dk_at dksX16_powerOf_0 10 rfl rfl)
theorem dX16_powerOf_11 : decode cX16_powerOf 11 = .ok (.getfield 544, 3) := dk_180 2 32 (dk_at dksX16_powerOf_0 11 rfl rfl)
theorem dX16_powerOf_14 : decode cX16_powerOf 14 = .ok (.if_icmp .ge 24, 3) := dk_162 0 24 (dk_at dksX16_powerOf_0 14 rfl rfl)
theorem dX16_powerOf_17 : decode cX16_powerOf 17 = .ok (.aload_n 0, 1) := dk_42 (dk_at dksX16_powerOf_0 17 rfl rfl)
theorem dX16_powerOf_18 : decode cX16_powerOf 18 = .ok (.iload_n 3, 1) := dk_29 (dk_at dksX16_powerOf_0 18 rfl rfl)
theorem dX16_powerOf_19 : decode cX16_powerOf 19 = .ok (.invokevirtual 567, 3) := dk_182 2 55 (dk_at dksX16_powerOf_0 19 rfl rfl)
theorem dX16_powerOf_22 : decode cX16_powerOf 22 = .ok (.iload_n 2, 1) := dk_28 (dk_at dksX16_powerOf_0 22 rfl rfl)
theorem dX16_powerOf_23 : decode cX16_powerOf 23 = .ok (.iconst 4, 1) := dk_7 (dk_at dksX16_powerOf_0 23 rfl rfl)
theorem dX16_powerOf_24 : decode cX16_powerOf 24 = .ok (.iload_n 1, 1) := dk_27 (dk_at dksX16_powerOf_1 0 rfl rfl)
theorem dX16_powerOf_25 : decode cX16_powerOf 25 = .ok (.imul, 1) := dk_104 (dk_at dksX16_powerOf_1 1 rfl rfl)
theorem dX16_powerOf_26 : decode cX16_powerOf 26 = .ok (.ishl, 1) := dk_120 (dk_at dksX16_powerOf_1 2 rfl rfl)
theorem dX16_powerOf_27 : decode cX16_powerOf 27 = .ok (.if_icmp .ne 5, 3) := dk_160 0 5 (dk_at dksX16_powerOf_1 3 rfl rfl)
theorem dX16_powerOf_30 : decode cX16_powerOf 30 = .ok (.iload_n 2, 1) := dk_28 (dk_at dksX16_powerOf_1 6 rfl rfl)
theorem dX16_powerOf_31 : decode cX16_powerOf 31 = .ok (.ireturn, 1) := dk_172 (dk_at dksX16_powerOf_1 7 rfl rfl)
theorem dX16_powerOf_32 : decode cX16_powerOf 32 = .ok (.iinc 3 1, 3) := dk_132 3 1 (dk_at dksX16_powerOf_1 8 rfl rfl)
theorem dX16_powerOf_35 : decode cX16_powerOf 35 = .ok (.goto (-26), 3) := dk_167 255 230 (dk_at dksX16_powerOf_1 11 rfl rfl)
theorem dX16_powerOf_38 : decode cX16_powerOf 38 = .ok (.iinc 2 1, 3) := dk_132 2 1 (dk_at dksX16_powerOf_1 14 rfl rfl)
theorem dX16_powerOf_41 : decode cX16_powerOf 41 = .ok (.goto (-39), 3) := dk_167 255 217 (dk_at dksX16_powerOf_1 17 rfl rfl)
theorem dX16_powerOf_44 : decode cX16_powerOf 44 = .ok (.iconst (-1), 1) := dk_2 (dk_at dksX16_powerOf_1 20 rfl rfl)
theorem dX16_powerOf_45 : decode cX16_powerOf 45 = .ok (.ireturn, 1) := dk_172 (dk_at dksX16_powerOf_1 21 rfl rfl)
abbrev cX16_member : ByteArray := prog_21_method_73_code
def yX16_member : MethodName := ⟨RX16, "member", "(I)I"⟩
def dkwX16_member_12 : List UInt8 := [154, 0, 7, 4, 167, 0, 4, 3, 172]
abbrev dktX16_member_12 : List UInt8 := dkwX16_member_12 ++ []
def dkwX16_member_11 : List UInt8 := [162, 0, 16, 42, 45, 21, 4, 182, 2, 75, 132, 4, 1, 167, 255, 237, 42, 180, 0, 222, 180, 0, 162]
abbrev dktX16_member_11 : List UInt8 := dkwX16_member_11 ++ dktX16_member_12
def dkwX16_member_10 : List UInt8 := [154, 0, 10, 42, 180, 2, 42, 167, 0, 4, 3, 181, 2, 7, 3, 54, 4, 21, 4, 42, 180, 2, 7]
abbrev dktX16_member_10 : List UInt8 := dkwX16_member_10 ++ dktX16_member_11
def dkwX16_member_9 : List UInt8 := [180, 0, 230, 42, 180, 0, 222, 182, 1, 154, 42, 4, 181, 2, 3, 42, 42, 180, 0, 222, 180, 0, 162]
abbrev dktX16_member_9 : List UInt8 := dkwX16_member_9 ++ dktX16_member_10
def dkwX16_member_8 : List UInt8 := [180, 0, 171, 21, 6, 50, 2, 182, 0, 172, 87, 132, 6, 1, 167, 255, 165, 132, 4, 1, 167, 255, 135, 42]
abbrev dktX16_member_8 : List UInt8 := dkwX16_member_8 ++ dktX16_member_9
def dkwX16_member_7 : List UInt8 := [42, 180, 1, 46, 21, 4, 50, 180, 0, 167, 21, 6, 46, 42, 180, 0, 246, 42, 180, 1, 46, 21, 4, 50]
abbrev dktX16_member_7 : List UInt8 := dkwX16_member_7 ++ dktX16_member_8
def dkwX16_member_6 : List UInt8 := [21, 5, 50, 42, 180, 1, 46, 21, 4, 50, 180, 0, 170, 21, 6, 50, 182, 0, 105, 42, 42, 180, 0, 230]
abbrev dktX16_member_6 : List UInt8 := dkwX16_member_6 ++ dktX16_member_7
def dkwX16_member_5 : List UInt8 := [21, 4, 50, 180, 0, 162, 162, 0, 82, 21, 5, 155, 0, 77, 42, 42, 180, 0, 246, 45, 180, 0, 170]
abbrev dktX16_member_5 : List UInt8 := dkwX16_member_5 ++ dktX16_member_6
def dkwX16_member_4 : List UInt8 := [162, 0, 118, 45, 42, 21, 4, 182, 2, 55, 184, 2, 71, 54, 5, 3, 54, 6, 21, 6, 42, 180, 1, 46]
abbrev dktX16_member_4 : List UInt8 := dkwX16_member_4 ++ dktX16_member_5
def dkwX16_member_3 : List UInt8 := [182, 1, 167, 42, 42, 180, 0, 230, 45, 4, 182, 1, 170, 87, 3, 54, 4, 21, 4, 42, 180, 2, 32]
abbrev dktX16_member_3 : List UInt8 := dkwX16_member_3 ++ dktX16_member_4
def dkwX16_member_2 : List UInt8 := [163, 0, 13, 45, 17, 3, 231, 182, 2, 10, 154, 0, 10, 42, 16, 250, 182, 1, 151, 172, 42, 180, 0, 230]
abbrev dktX16_member_2 : List UInt8 := dkwX16_member_2 ++ dktX16_member_3
def dkwX16_member_1 : List UInt8 := [167, 0, 5, 16, 249, 182, 1, 151, 172, 42, 180, 0, 184, 27, 50, 78, 45, 182, 1, 185, 42, 180, 2, 20]
abbrev dktX16_member_1 : List UInt8 := dkwX16_member_1 ++ dktX16_member_2
def dkwX16_member_0 : List UInt8 := [42, 27, 4, 182, 1, 164, 61, 28, 155, 0, 10, 42, 180, 2, 39, 154, 0, 18, 42, 28, 156, 0, 7, 28]
abbrev dktX16_member_0 : List UInt8 := dkwX16_member_0 ++ dktX16_member_1
theorem dksX16_member_0 : cX16_member.data.toList.drop 0 = dktX16_member_0 := by decide +kernel
theorem dksX16_member_1 : cX16_member.data.toList.drop 24 = dktX16_member_1 := dk_seg dksX16_member_0 24 rfl rfl
theorem dksX16_member_2 : cX16_member.data.toList.drop 48 = dktX16_member_2 := dk_seg dksX16_member_1 24 rfl rfl
theorem dksX16_member_3 : cX16_member.data.toList.drop 72 = dktX16_member_3 := dk_seg dksX16_member_2 24 rfl rfl
theorem dksX16_member_4 : cX16_member.data.toList.drop 95 = dktX16_member_4 := dk_seg dksX16_member_3 23 rfl rfl
theorem dksX16_member_5 : cX16_member.data.toList.drop 119 = dktX16_member_5 := dk_seg dksX16_member_4 24 rfl rfl
theorem dksX16_member_6 : cX16_member.data.toList.drop 142 = dktX16_member_6 := dk_seg dksX16_member_5 23 rfl rfl
theorem dksX16_member_7 : cX16_member.data.toList.drop 166 = dktX16_member_7 := dk_seg dksX16_member_6 24 rfl rfl
theorem dksX16_member_8 : cX16_member.data.toList.drop 190 = dktX16_member_8 := dk_seg dksX16_member_7 24 rfl rfl
theorem dksX16_member_9 : cX16_member.data.toList.drop 214 = dktX16_member_9 := dk_seg dksX16_member_8 24 rfl rfl
theorem dksX16_member_10 : cX16_member.data.toList.drop 237 = dktX16_member_10 := dk_seg dksX16_member_9 23 rfl rfl
theorem dksX16_member_11 : cX16_member.data.toList.drop 260 = dktX16_member_11 := dk_seg dksX16_member_10 23 rfl rfl
theorem dksX16_member_12 : cX16_member.data.toList.drop 283 = dktX16_member_12 := dk_seg dksX16_member_11 23 rfl rfl
theorem dX16_member_0 : decode cX16_member 0 = .ok (.aload_n 0, 1) := dk_42 (dk_at dksX16_member_0 0 rfl rfl)
theorem dX16_member_1 : decode cX16_member 1 = .ok (.iload_n 1, 1) := dk_27 (dk_at dksX16_member_0 1 rfl rfl)
theorem dX16_member_2 : decode cX16_member 2 = .ok (.iconst 1, 1) := dk_4 (dk_at dksX16_member_0 2 rfl rfl)
theorem dX16_member_3 : decode cX16_member 3 = .ok (.invokevirtual 420, 3) := dk_182 1 164 (dk_at dksX16_member_0 3 rfl rfl)
theorem dX16_member_6 : decode cX16_member 6 = .ok (.istore_n 2, 1) := dk_61 (dk_at dksX16_member_0 6 rfl rfl)
theorem dX16_member_7 : decode cX16_member 7 = .ok (.iload_n 2, 1) := dk_28 (dk_at dksX16_member_0 7 rfl rfl)
theorem dX16_member_8 : decode cX16_member 8 = .ok (.ifCond .lt 10, 3) := dk_155 0 10 (dk_at dksX16_member_0 8 rfl rfl)
theorem dX16_member_11 : decode cX16_member 11 = .ok (.aload_n 0, 1) := dk_42 (dk_at dksX16_member_0 11 rfl rfl)
theorem dX16_member_12 : decode cX16_member 12 = .ok (.getfield 551, 3) := dk_180 2 39 (dk_at dksX16_member_0 12 rfl rfl)
theorem dX16_member_15 : decode cX16_member 15 = .ok (.ifCond .ne 18, 3) := dk_154 0 18 (dk_at dksX16_member_0 15 rfl rfl)
theorem dX16_member_18 : decode cX16_member 18 = .ok (.aload_n 0, 1) := dk_42 (dk_at dksX16_member_0 18 rfl rfl)
theorem dX16_member_19 : decode cX16_member 19 = .ok (.iload_n 2, 1) := dk_28 (dk_at dksX16_member_0 19 rfl rfl)
theorem dX16_member_20 : decode cX16_member 20 = .ok (.ifCond .ge 7, 3) := dk_156 0 7 (dk_at dksX16_member_0 20 rfl rfl)
theorem dX16_member_23 : decode cX16_member 23 = .ok (.iload_n 2, 1) := dk_28 (dk_at dksX16_member_0 23 rfl rfl)
theorem dX16_member_24 : decode cX16_member 24 = .ok (.goto 5, 3) := dk_167 0 5 (dk_at dksX16_member_1 0 rfl rfl)
theorem dX16_member_27 : decode cX16_member 27 = .ok (.bipush (-7), 2) := dk_16 249 (dk_at dksX16_member_1 3 rfl rfl)
theorem dX16_member_29 : decode cX16_member 29 = .ok (.invokevirtual 407, 3) := dk_182 1 151 (dk_at dksX16_member_1 5 rfl rfl)
theorem dX16_member_32 : decode cX16_member 32 = .ok (.ireturn, 1) := dk_172 (dk_at dksX16_member_1 8 rfl rfl)
theorem dX16_member_33 : decode cX16_member 33 = .ok (.aload_n 0, 1) := dk_42 (dk_at dksX16_member_1 9 rfl rfl)
theorem dX16_member_34 : decode cX16_member 34 = .ok (.getfield 184, 3) := dk_180 0 184 (dk_at dksX16_member_1 10 rfl rfl)
theorem dX16_member_37 : decode cX16_member 37 = .ok (.iload_n 1, 1) := dk_27 (dk_at dksX16_member_1 13 rfl rfl)
theorem dX16_member_38 : decode cX16_member 38 = .ok (.aaload, 1) := dk_50 (dk_at dksX16_member_1 14 rfl rfl)
theorem dX16_member_39 : decode cX16_member 39 = .ok (.astore_n 3, 1) := dk_78 (dk_at dksX16_member_1 15 rfl rfl)
theorem dX16_member_40 : decode cX16_member 40 = .ok (.aload_n 3, 1) := dk_45 (dk_at dksX16_member_1 16 rfl rfl)
theorem dX16_member_41 : decode cX16_member 41 = .ok (.invokevirtual 441, 3) := dk_182 1 185 (dk_at dksX16_member_1 17 rfl rfl)
theorem dX16_member_44 : decode cX16_member 44 = .ok (.aload_n 0, 1) := dk_42 (dk_at dksX16_member_1 20 rfl rfl)
theorem dX16_member_45 : decode cX16_member 45 = .ok (.getfield 532, 3) := dk_180 2 20 (dk_at dksX16_member_1 21 rfl rfl)
theorem dX16_member_48 : decode cX16_member 48 = .ok (.if_icmp .gt 13, 3) := dk_163 0 13 (dk_at dksX16_member_2 0 rfl rfl)
theorem dX16_member_51 : decode cX16_member 51 = .ok (.aload_n 3, 1) := dk_45 (dk_at dksX16_member_2 3 rfl rfl)
theorem dX16_member_52 : decode cX16_member 52 = .ok (.sipush 999, 3) := dk_17 3 231 (dk_at dksX16_member_2 4 rfl rfl)
theorem dX16_member_55 : decode cX16_member 55 = .ok (.invokevirtual 522, 3) := dk_182 2 10 (dk_at dksX16_member_2 7 rfl rfl)
theorem dX16_member_58 : decode cX16_member 58 = .ok (.ifCond .ne 10, 3) := dk_154 0 10 (dk_at dksX16_member_2 10 rfl rfl)
theorem dX16_member_61 : decode cX16_member 61 = .ok (.aload_n 0, 1) := dk_42 (dk_at dksX16_member_2 13 rfl rfl)
theorem dX16_member_62 : decode cX16_member 62 = .ok (.bipush (-6), 2) := dk_16 250 (dk_at dksX16_member_2 14 rfl rfl)
theorem dX16_member_64 : decode cX16_member 64 = .ok (.invokevirtual 407, 3) := dk_182 1 151 (dk_at dksX16_member_2 16 rfl rfl)
theorem dX16_member_67 : decode cX16_member 67 = .ok (.ireturn, 1) := dk_172 (dk_at dksX16_member_2 19 rfl rfl)
theorem dX16_member_68 : decode cX16_member 68 = .ok (.aload_n 0, 1) := dk_42 (dk_at dksX16_member_2 20 rfl rfl)
theorem dX16_member_69 : decode cX16_member 69 = .ok (.getfield 230, 3) := dk_180 0 230 (dk_at dksX16_member_2 21 rfl rfl)
theorem dX16_member_72 : decode cX16_member 72 = .ok (.invokevirtual 423, 3) := dk_182 1 167 (dk_at dksX16_member_3 0 rfl rfl)
theorem dX16_member_75 : decode cX16_member 75 = .ok (.aload_n 0, 1) := dk_42 (dk_at dksX16_member_3 3 rfl rfl)
theorem dX16_member_76 : decode cX16_member 76 = .ok (.aload_n 0, 1) := dk_42 (dk_at dksX16_member_3 4 rfl rfl)
theorem dX16_member_77 : decode cX16_member 77 = .ok (.getfield 230, 3) := dk_180 0 230 (dk_at dksX16_member_3 5 rfl rfl)
theorem dX16_member_80 : decode cX16_member 80 = .ok (.aload_n 3, 1) := dk_45 (dk_at dksX16_member_3 8 rfl rfl)
theorem dX16_member_81 : decode cX16_member 81 = .ok (.iconst 1, 1) := dk_4 (dk_at dksX16_member_3 9 rfl rfl)
theorem dX16_member_82 : decode cX16_member 82 = .ok (.invokevirtual 426, 3) := dk_182 1 170 (dk_at dksX16_member_3 10 rfl rfl)
theorem dX16_member_85 : decode cX16_member 85 = .ok (.pop, 1) := dk_87 (dk_at dksX16_member_3 13 rfl rfl)
theorem dX16_member_86 : decode cX16_member 86 = .ok (.iconst 0, 1) := dk_3 (dk_at dksX16_member_3 14 rfl rfl)
theorem dX16_member_87 : decode cX16_member 87 = .ok (.istore 4, 2) := dk_54 4 (dk_at dksX16_member_3 15 rfl rfl)
theorem dX16_member_89 : decode cX16_member 89 = .ok (.iload 4, 2) := dk_21 4 (dk_at dksX16_member_3 17 rfl rfl)
theorem dX16_member_91 : decode cX16_member 91 = .ok (.aload_n 0, 1) := dk_42 (dk_at dksX16_member_3 19 rfl rfl)
theorem dX16_member_92 : decode cX16_member 92 = .ok (.getfield 544, 3) := dk_180 2 32 (dk_at dksX16_member_3 20 rfl rfl)
theorem dX16_member_95 : decode cX16_member 95 = .ok (.if_icmp .ge 118, 3) := dk_162 0 118 (dk_at dksX16_member_4 0 rfl rfl)
theorem dX16_member_98 : decode cX16_member 98 = .ok (.aload_n 3, 1) := dk_45 (dk_at dksX16_member_4 3 rfl rfl)
theorem dX16_member_99 : decode cX16_member 99 = .ok (.aload_n 0, 1) := dk_42 (dk_at dksX16_member_4 4 rfl rfl)
theorem dX16_member_100 : decode cX16_member 100 = .ok (.iload 4, 2) := dk_21 4 (dk_at dksX16_member_4 5 rfl rfl)
theorem dX16_member_102 : decode cX16_member 102 = .ok (.invokevirtual 567, 3) := dk_182 2 55 (dk_at dksX16_member_4 7 rfl rfl)
theorem dX16_member_105 : decode cX16_member 105 = .ok (.invokestatic 583, 3) := dk_184 2 71 (dk_at dksX16_member_4 10 rfl rfl)
theorem dX16_member_108 : decode cX16_member 108 = .ok (.istore 5, 2) := dk_54 5 (dk_at dksX16_member_4 13 rfl rfl)
theorem dX16_member_110 : decode cX16_member 110 = .ok (.iconst 0, 1) := dk_3 (dk_at dksX16_member_4 15 rfl rfl)
theorem dX16_member_111 : decode cX16_member 111 = .ok (.istore 6, 2) := dk_54 6 (dk_at dksX16_member_4 16 rfl rfl)
theorem dX16_member_113 : decode cX16_member 113 = .ok (.iload 6, 2) := dk_21 6 (dk_at dksX16_member_4 18 rfl rfl)
theorem dX16_member_115 : decode cX16_member 115 = .ok (.aload_n 0, 1) := dk_42 (dk_at dksX16_member_4 20 rfl rfl)
theorem dX16_member_116 : decode cX16_member 116 = .ok (.getfield 302, 3) := dk_180 1 46 (dk_at dksX16_member_4 21 rfl rfl)
theorem dX16_member_119 : decode cX16_member 119 = .ok (.iload 4, 2) := dk_21 4 (dk_at dksX16_member_5 0 rfl rfl)
theorem dX16_member_121 : decode cX16_member 121 = .ok (.aaload, 1) := dk_50 (dk_at dksX16_member_5 2 rfl rfl)
theorem dX16_member_122 : decode cX16_member 122 = .ok (.getfield 162, 3) := dk_180 0 162 (dk_at dksX16_member_5 3 rfl rfl)
theorem dX16_member_125 : decode cX16_member 125 = .ok (.if_icmp .ge 82, 3) := dk_162 0 82 (dk_at dksX16_member_5 6 rfl rfl)
theorem dX16_member_128 : decode cX16_member 128 = .ok (.iload 5, 2) := dk_21 5 (dk_at dksX16_member_5 9 rfl rfl)
theorem dX16_member_130 : decode cX16_member 130 = .ok (.ifCond .lt 77, 3) := dk_155 0 77 (dk_at dksX16_member_5 11 rfl rfl)
theorem dX16_member_133 : decode cX16_member 133 = .ok (.aload_n 0, 1) := dk_42 (dk_at dksX16_member_5 14 rfl rfl)
theorem dX16_member_134 : decode cX16_member 134 = .ok (.aload_n 0, 1) := dk_42 (dk_at dksX16_member_5 15 rfl rfl)
theorem dX16_member_135 : decode cX16_member 135 = .ok (.getfield 246, 3) := dk_180 0 246 (dk_at dksX16_member_5 16 rfl rfl)
theorem dX16_member_138 : decode cX16_member 138 = .ok (.aload_n 3, 1) := dk_45 (dk_at dksX16_member_5 19 rfl rfl)
theorem dX16_member_139 : decode cX16_member 139 = .ok (.getfield 170, 3) := dk_180 0 170 (dk_at dksX16_member_5 20 rfl rfl)
theorem dX16_member_142 : decode cX16_member 142 = .ok (.iload 5, 2) := dk_21 5 (dk_at dksX16_member_6 0 rfl rfl)
theorem dX16_member_144 : decode cX16_member 144 = .ok (.aaload, 1) := dk_50 (dk_at dksX16_member_6 2 rfl rfl)
theorem dX16_member_145 : decode cX16_member 145 = .ok (.aload_n 0, 1) := dk_42 (dk_at dksX16_member_6 3 rfl rfl)
theorem dX16_member_146 : decode cX16_member 146 = .ok (.getfield 302, 3) := dk_180 1 46 (dk_at dksX16_member_6 4 rfl rfl)
theorem dX16_member_149 : decode cX16_member 149 = .ok (.iload 4, 2) := dk_21 4 (dk_at dksX16_member_6 7 rfl rfl)
theorem dX16_member_151 : decode cX16_member 151 = .ok (.aaload, 1) := dk_50 (dk_at dksX16_member_6 9 rfl rfl)
theorem dX16_member_152 : decode cX16_member 152 = .ok (.getfield 170, 3) := dk_180 0 170 (dk_at dksX16_member_6 10 rfl rfl)
theorem dX16_member_155 : decode cX16_member 155 = .ok (.iload 6, 2) := dk_21 6 (dk_at dksX16_member_6 13 rfl rfl)
theorem dX16_member_157 : decode cX16_member 157 = .ok (.aaload, 1) := dk_50 (dk_at dksX16_member_6 15 rfl rfl)
theorem dX16_member_158 : decode cX16_member 158 = .ok (.invokevirtual 105, 3) := dk_182 0 105 (dk_at dksX16_member_6 16 rfl rfl)
theorem dX16_member_161 : decode cX16_member 161 = .ok (.aload_n 0, 1) := dk_42 (dk_at dksX16_member_6 19 rfl rfl)
theorem dX16_member_162 : decode cX16_member 162 = .ok (.aload_n 0, 1) := dk_42 (dk_at dksX16_member_6 20 rfl rfl)
theorem dX16_member_163 : decode cX16_member 163 = .ok (.getfield 230, 3) := dk_180 0 230 (dk_at dksX16_member_6 21 rfl rfl)
theorem dX16_member_166 : decode cX16_member 166 = .ok (.aload_n 0, 1) := dk_42 (dk_at dksX16_member_7 0 rfl rfl)
theorem dX16_member_167 : decode cX16_member 167 = .ok (.getfield 302, 3) := dk_180 1 46 (dk_at dksX16_member_7 1 rfl rfl)
theorem dX16_member_170 : decode cX16_member 170 = .ok (.iload 4, 2) := dk_21 4 (dk_at dksX16_member_7 4 rfl rfl)
theorem dX16_member_172 : decode cX16_member 172 = .ok (.aaload, 1) := dk_50 (dk_at dksX16_member_7 6 rfl rfl)
theorem dX16_member_173 : decode cX16_member 173 = .ok (.getfield 167, 3) := dk_180 0 167 (dk_at dksX16_member_7 7 rfl rfl)
theorem dX16_member_176 : decode cX16_member 176 = .ok (.iload 6, 2) := dk_21 6 (dk_at dksX16_member_7 10 rfl rfl)
theorem dX16_member_178 : decode cX16_member 178 = .ok (.iaload, 1) := dk_46 (dk_at dksX16_member_7 12 rfl rfl)
theorem dX16_member_179 : decode cX16_member 179 = .ok (.aload_n 0, 1) := dk_42 (dk_at dksX16_member_7 13 rfl rfl)
theorem dX16_member_180 : decode cX16_member 180 = .ok (.getfield 246, 3) := dk_180 0 246 (dk_at dksX16_member_7 14 rfl rfl)
theorem dX16_member_183 : decode cX16_member 183 = .ok (.aload_n 0, 1) := dk_42 (dk_at dksX16_member_7 17 rfl rfl)
theorem dX16_member_184 : decode cX16_member 184 = .ok (.getfield 302, 3) := dk_180 1 46 (dk_at dksX16_member_7 18 rfl rfl)
theorem dX16_member_187 : decode cX16_member 187 = .ok (.iload 4, 2) := dk_21 4 (dk_at dksX16_member_7 21 rfl rfl)
theorem dX16_member_189 : decode cX16_member 189 = .ok (.aaload, 1) := dk_50 (dk_at dksX16_member_7 23 rfl rfl)
theorem dX16_member_190 : decode cX16_member 190 = .ok (.getfield 171, 3) := dk_180 0 171 (dk_at dksX16_member_8 0 rfl rfl)
theorem dX16_member_193 : decode cX16_member 193 = .ok (.iload 6, 2) := dk_21 6 (dk_at dksX16_member_8 3 rfl rfl)
theorem dX16_member_195 : decode cX16_member 195 = .ok (.aaload, 1) := dk_50 (dk_at dksX16_member_8 5 rfl rfl)
theorem dX16_member_196 : decode cX16_member 196 = .ok (.iconst (-1), 1) := dk_2 (dk_at dksX16_member_8 6 rfl rfl)
theorem dX16_member_197 : decode cX16_member 197 = .ok (.invokevirtual 172, 3) := dk_182 0 172 (dk_at dksX16_member_8 7 rfl rfl)
theorem dX16_member_200 : decode cX16_member 200 = .ok (.pop, 1) := dk_87 (dk_at dksX16_member_8 10 rfl rfl)
theorem dX16_member_201 : decode cX16_member 201 = .ok (.iinc 6 1, 3) := dk_132 6 1 (dk_at dksX16_member_8 11 rfl rfl)
theorem dX16_member_204 : decode cX16_member 204 = .ok (.goto (-91), 3) := dk_167 255 165 (dk_at dksX16_member_8 14 rfl rfl)
theorem dX16_member_207 : decode cX16_member 207 = .ok (.iinc 4 1, 3) := dk_132 4 1 (dk_at dksX16_member_8 17 rfl rfl)
theorem dX16_member_210 : decode cX16_member 210 = .ok (.goto (-121), 3) := dk_167 255 135 (dk_at dksX16_member_8 20 rfl rfl)
theorem dX16_member_213 : decode cX16_member 213 = .ok (.aload_n 0, 1) := dk_42 (dk_at dksX16_member_8 23 rfl rfl)
theorem dX16_member_214 : decode cX16_member 214 = .ok (.getfield 230, 3) := dk_180 0 230 (dk_at dksX16_member_9 0 rfl rfl)
theorem dX16_member_217 : decode cX16_member 217 = .ok (.aload_n 0, 1) := dk_42 (dk_at dksX16_member_9 3 rfl rfl)
theorem dX16_member_218 : decode cX16_member 218 = .ok (.getfield 222, 3) := dk_180 0 222 (dk_at dksX16_member_9 4 rfl rfl)
theorem dX16_member_221 : decode cX16_member 221 = .ok (.invokevirtual 410, 3) := dk_182 1 154 (dk_at dksX16_member_9 7 rfl rfl)
theorem dX16_member_224 : decode cX16_member 224 = .ok (.aload_n 0, 1) := dk_42 (dk_at dksX16_member_9 10 rfl rfl)
theorem dX16_member_225 : decode cX16_member 225 = .ok (.iconst 1, 1) := dk_4 (dk_at dksX16_member_9 11 rfl rfl)
theorem dX16_member_226 : decode cX16_member 226 = .ok (.putfield 515, 3) := dk_181 2 3 (dk_at dksX16_member_9 12 rfl rfl)
theorem dX16_member_229 : decode cX16_member 229 = .ok (.aload_n 0, 1) := dk_42 (dk_at dksX16_member_9 15 rfl rfl)
theorem dX16_member_230 : decode cX16_member 230 = .ok (.aload_n 0, 1) := dk_42 (dk_at dksX16_member_9 16 rfl rfl)
theorem dX16_member_231 : decode cX16_member 231 = .ok (.getfield 222, 3) := dk_180 0 222 (dk_at dksX16_member_9 17 rfl rfl)
theorem dX16_member_234 : decode cX16_member 234 = .ok (.getfield 162, 3) := dk_180 0 162 (dk_at dksX16_member_9 20 rfl rfl)
theorem dX16_member_237 : decode cX16_member 237 = .ok (.ifCond .ne 10, 3) := dk_154 0 10 (dk_at dksX16_member_10 0 rfl rfl)
theorem dX16_member_240 : decode cX16_member 240 = .ok (.aload_n 0, 1) := dk_42 (dk_at dksX16_member_10 3 rfl rfl)
theorem dX16_member_241 : decode cX16_member 241 = .ok (.getfield 554, 3) := dk_180 2 42 (dk_at dksX16_member_10 4 rfl rfl)
theorem dX16_member_244 : decode cX16_member 244 = .ok (.goto 4, 3) := dk_167 0 4 (dk_at dksX16_member_10 7 rfl rfl)
theorem dX16_member_247 : decode cX16_member 247 = .ok (.iconst 0, 1) := dk_3 (dk_at dksX16_member_10 10 rfl rfl)
theorem dX16_member_248 : decode cX16_member 248 = .ok (.putfield 519, 3) := dk_181 2 7 (dk_at dksX16_member_10 11 rfl rfl)
theorem dX16_member_251 : decode cX16_member 251 = .ok (.iconst 0, 1) := dk_3 (dk_at dksX16_member_10 14 rfl rfl)
theorem dX16_member_252 : decode cX16_member 252 = .ok (.istore 4, 2) := dk_54 4 (dk_at dksX16_member_10 15 rfl rfl)
theorem dX16_member_254 : decode cX16_member 254 = .ok (.iload 4, 2) := dk_21 4 (dk_at dksX16_member_10 17 rfl rfl)
theorem dX16_member_256 : decode cX16_member 256 = .ok (.aload_n 0, 1) := dk_42 (dk_at dksX16_member_10 19 rfl rfl)
theorem dX16_member_257 : decode cX16_member 257 = .ok (.getfield 519, 3) := dk_180 2 7 (dk_at dksX16_member_10 20 rfl rfl)
theorem dX16_member_260 : decode cX16_member 260 = .ok (.if_icmp .ge 16, 3) := dk_162 0 16 (dk_at dksX16_member_11 0 rfl rfl)
theorem dX16_member_263 : decode cX16_member 263 = .ok (.aload_n 0, 1) := dk_42 (dk_at dksX16_member_11 3 rfl rfl)
theorem dX16_member_264 : decode cX16_member 264 = .ok (.aload_n 3, 1) := dk_45 (dk_at dksX16_member_11 4 rfl rfl)
theorem dX16_member_265 : decode cX16_member 265 = .ok (.iload 4, 2) := dk_21 4 (dk_at dksX16_member_11 5 rfl rfl)
theorem dX16_member_267 : decode cX16_member 267 = .ok (.invokevirtual 587, 3) := dk_182 2 75 (dk_at dksX16_member_11 7 rfl rfl)
theorem dX16_member_270 : decode cX16_member 270 = .ok (.iinc 4 1, 3) := dk_132 4 1 (dk_at dksX16_member_11 10 rfl rfl)
theorem dX16_member_273 : decode cX16_member 273 = .ok (.goto (-19), 3) := dk_167 255 237 (dk_at dksX16_member_11 13 rfl rfl)
theorem dX16_member_276 : decode cX16_member 276 = .ok (.aload_n 0, 1) := dk_42 (dk_at dksX16_member_11 16 rfl rfl)
theorem dX16_member_277 : decode cX16_member 277 = .ok (.getfield 222, 3) := dk_180 0 222 (dk_at dksX16_member_11 17 rfl rfl)
theorem dX16_member_280 : decode cX16_member 280 = .ok (.getfield 162, 3) := dk_180 0 162 (dk_at dksX16_member_11 20 rfl rfl)
theorem dX16_member_283 : decode cX16_member 283 = .ok (.ifCond .ne 7, 3) := dk_154 0 7 (dk_at dksX16_member_12 0 rfl rfl)
theorem dX16_member_286 : decode cX16_member 286 = .ok (.iconst 1, 1) := dk_4 (dk_at dksX16_member_12 3 rfl rfl)
theorem dX16_member_287 : decode cX16_member 287 = .ok (.goto 4, 3) := dk_167 0 4 (dk_at dksX16_member_12 4 rfl rfl)
theorem dX16_member_290 : decode cX16_member 290 = .ok (.iconst 0, 1) := dk_3 (dk_at dksX16_member_12 7 rfl rfl)
theorem dX16_member_291 : decode cX16_member 291 = .ok (.ireturn, 1) := dk_172 (dk_at dksX16_member_12 8 rfl rfl)
abbrev cX16_find : ByteArray := prog_21_method_72_code
def yX16_find : MethodName := ⟨RX16, "find", "(LIdealCourtModel$Poly;I)I"⟩
def dkwX16_find_1 : List UInt8 := [132, 2, 1, 167, 255, 233, 2, 172]
abbrev dktX16_find_1 : List UInt8 := dkwX16_find_1 ++ []
def dkwX16_find_0 : List UInt8 := [3, 61, 28, 42, 180, 0, 162, 162, 0, 21, 42, 180, 0, 167, 28, 46, 27, 160, 0, 5, 28, 172]
abbrev dktX16_find_0 : List UInt8 := dkwX16_find_0 ++ dktX16_find_1
theorem dksX16_find_0 : cX16_find.data.toList.drop 0 = dktX16_find_0 := by decide +kernel
theorem dksX16_find_1 : cX16_find.data.toList.drop 22 = dktX16_find_1 := dk_seg dksX16_find_0 22 rfl rfl
theorem dX16_find_0 : decode cX16_find 0 = .ok (.iconst 0, 1) := dk_3 (dk_at dksX16_find_0 0 rfl rfl)
theorem dX16_find_1 : decode cX16_find 1 = .ok (.istore_n 2, 1) := dk_61 (dk_at dksX16_find_0 1 rfl rfl)
theorem dX16_find_2 : decode cX16_find 2 = .ok (.iload_n 2, 1) := dk_28 (dk_at dksX16_find_0 2 rfl rfl)
theorem dX16_find_3 : decode cX16_find 3 = .ok (.aload_n 0, 1) := dk_42 (dk_at dksX16_find_0 3 rfl rfl)
theorem dX16_find_4 : decode cX16_find 4 = .ok (.getfield 162, 3) := dk_180 0 162 (dk_at dksX16_find_0 4 rfl rfl)
theorem dX16_find_7 : decode cX16_find 7 = .ok (.if_icmp .ge 21, 3) := dk_162 0 21 (dk_at dksX16_find_0 7 rfl rfl)
theorem dX16_find_10 : decode cX16_find 10 = .ok (.aload_n 0, 1) := dk_42 (dk_at dksX16_find_0 10 rfl rfl)
theorem dX16_find_11 : decode cX16_find 11 = .ok (.getfield 167, 3) := dk_180 0 167 (dk_at dksX16_find_0 11 rfl rfl)
theorem dX16_find_14 : decode cX16_find 14 = .ok (.iload_n 2, 1) := dk_28 (dk_at dksX16_find_0 14 rfl rfl)
theorem dX16_find_15 : decode cX16_find 15 = .ok (.iaload, 1) := dk_46 (dk_at dksX16_find_0 15 rfl rfl)
theorem dX16_find_16 : decode cX16_find 16 = .ok (.iload_n 1, 1) := dk_27 (dk_at dksX16_find_0 16 rfl rfl)
theorem dX16_find_17 : decode cX16_find 17 = .ok (.if_icmp .ne 5, 3) := dk_160 0 5 (dk_at dksX16_find_0 17 rfl rfl)
theorem dX16_find_20 : decode cX16_find 20 = .ok (.iload_n 2, 1) := dk_28 (dk_at dksX16_find_0 20 rfl rfl)
theorem dX16_find_21 : decode cX16_find 21 = .ok (.ireturn, 1) := dk_172 (dk_at dksX16_find_0 21 rfl rfl)
theorem dX16_find_22 : decode cX16_find 22 = .ok (.iinc 2 1, 3) := dk_132 2 1 (dk_at dksX16_find_1 0 rfl rfl)
theorem dX16_find_25 : decode cX16_find 25 = .ok (.goto (-23), 3) := dk_167 255 233 (dk_at dksX16_find_1 3 rfl rfl)
theorem dX16_find_28 : decode cX16_find 28 = .ok (.iconst (-1), 1) := dk_2 (dk_at dksX16_find_1 6 rfl rfl)
theorem dX16_find_29 : decode cX16_find 29 = .ok (.ireturn, 1) := dk_172 (dk_at dksX16_find_1 7 rfl rfl)
abbrev cX16_tellWay : ByteArray := prog_21_method_74_code
def yX16_tellWay : MethodName := ⟨RX16, "tellWay", "(LIdealCourtModel$Poly;I)V"⟩
def dkwX16_tellWay_7 : List UInt8 := [180, 0, 218, 28, 50, 182, 1, 154, 177]
abbrev dktX16_tellWay_7 : List UInt8 := dkwX16_tellWay_7 ++ []
def dkwX16_tellWay_6 : List UInt8 := [4, 182, 0, 172, 87, 132, 4, 1, 167, 255, 143, 132, 3, 1, 167, 255, 113, 42, 180, 0, 230, 42]
abbrev dktX16_tellWay_6 : List UInt8 := dkwX16_tellWay_6 ++ dktX16_tellWay_7
def dkwX16_tellWay_5 : List UInt8 := [180, 1, 32, 29, 46, 42, 180, 0, 246, 25, 6, 42, 180, 1, 43, 42, 180, 1, 49, 21, 4, 46, 46, 50]
abbrev dktX16_tellWay_5 : List UInt8 := dkwX16_tellWay_5 ++ dktX16_tellWay_6
def dkwX16_tellWay_4 : List UInt8 := [180, 0, 170, 21, 5, 50, 25, 6, 16, 35, 29, 96, 50, 182, 0, 105, 42, 42, 180, 0, 230, 42]
abbrev dktX16_tellWay_4 : List UInt8 := dkwX16_tellWay_4 ++ dktX16_tellWay_5
def dkwX16_tellWay_3 : List UInt8 := [155, 0, 73, 25, 6, 16, 35, 29, 96, 50, 180, 0, 15, 153, 0, 60, 42, 42, 180, 0, 246, 43]
abbrev dktX16_tellWay_3 : List UInt8 := dkwX16_tellWay_3 ++ dktX16_tellWay_4
def dkwX16_tellWay_2 : List UInt8 := [182, 2, 55, 184, 2, 71, 54, 5, 42, 180, 1, 39, 42, 180, 1, 49, 21, 4, 46, 50, 58, 6, 21, 5]
abbrev dktX16_tellWay_2 : List UInt8 := dkwX16_tellWay_2 ++ dktX16_tellWay_3
def dkwX16_tellWay_1 : List UInt8 := [159, 0, 6, 167, 0, 122, 3, 54, 4, 21, 4, 42, 180, 2, 32, 162, 0, 110, 43, 42, 21, 4]
abbrev dktX16_tellWay_1 : List UInt8 := dkwX16_tellWay_1 ++ dktX16_tellWay_2
def dkwX16_tellWay_0 : List UInt8 := [42, 180, 0, 230, 182, 1, 167, 3, 62, 29, 42, 180, 2, 29, 162, 0, 141, 42, 180, 1, 29, 29, 46, 28]
abbrev dktX16_tellWay_0 : List UInt8 := dkwX16_tellWay_0 ++ dktX16_tellWay_1
theorem dksX16_tellWay_0 : cX16_tellWay.data.toList.drop 0 = dktX16_tellWay_0 := by decide +kernel
theorem dksX16_tellWay_1 : cX16_tellWay.data.toList.drop 24 = dktX16_tellWay_1 := dk_seg dksX16_tellWay_0 24 rfl rfl
theorem dksX16_tellWay_2 : cX16_tellWay.data.toList.drop 46 = dktX16_tellWay_2 := dk_seg dksX16_tellWay_1 22 rfl rfl
theorem dksX16_tellWay_3 : cX16_tellWay.data.toList.drop 70 = dktX16_tellWay_3 := dk_seg dksX16_tellWay_2 24 rfl rfl
theorem dksX16_tellWay_4 : cX16_tellWay.data.toList.drop 92 = dktX16_tellWay_4 := dk_seg dksX16_tellWay_3 22 rfl rfl
theorem dksX16_tellWay_5 : cX16_tellWay.data.toList.drop 114 = dktX16_tellWay_5 := dk_seg dksX16_tellWay_4 22 rfl rfl
theorem dksX16_tellWay_6 : cX16_tellWay.data.toList.drop 138 = dktX16_tellWay_6 := dk_seg dksX16_tellWay_5 24 rfl rfl
theorem dksX16_tellWay_7 : cX16_tellWay.data.toList.drop 160 = dktX16_tellWay_7 := dk_seg dksX16_tellWay_6 22 rfl rfl
theorem dX16_tellWay_0 : decode cX16_tellWay 0 = .ok (.aload_n 0, 1) := dk_42 (dk_at dksX16_tellWay_0 0 rfl rfl)
theorem dX16_tellWay_1 : decode cX16_tellWay 1 = .ok (.getfield 230, 3) := dk_180 0 230 (dk_at dksX16_tellWay_0 1 rfl rfl)
theorem dX16_tellWay_4 : decode cX16_tellWay 4 = .ok (.invokevirtual 423, 3) := dk_182 1 167 (dk_at dksX16_tellWay_0 4 rfl rfl)
theorem dX16_tellWay_7 : decode cX16_tellWay 7 = .ok (.iconst 0, 1) := dk_3 (dk_at dksX16_tellWay_0 7 rfl rfl)
theorem dX16_tellWay_8 : decode cX16_tellWay 8 = .ok (.istore_n 3, 1) := dk_62 (dk_at dksX16_tellWay_0 8 rfl rfl)
theorem dX16_tellWay_9 : decode cX16_tellWay 9 = .ok (.iload_n 3, 1) := dk_29 (dk_at dksX16_tellWay_0 9 rfl rfl)
theorem dX16_tellWay_10 : decode cX16_tellWay 10 = .ok (.aload_n 0, 1) := dk_42 (dk_at dksX16_tellWay_0 10 rfl rfl)
theorem dX16_tellWay_11 : decode cX16_tellWay 11 = .ok (.getfield 541, 3) := dk_180 2 29 (dk_at dksX16_tellWay_0 11 rfl rfl)
theorem dX16_tellWay_14 : decode cX16_tellWay 14 = .ok (.if_icmp .ge 141, 3) := dk_162 0 141 (dk_at dksX16_tellWay_0 14 rfl rfl)
theorem dX16_tellWay_17 : decode cX16_tellWay 17 = .ok (.aload_n 0, 1) := dk_42 (dk_at dksX16_tellWay_0 17 rfl rfl)
theorem dX16_tellWay_18 : decode cX16_tellWay 18 = .ok (.getfield 285, 3) := dk_180 1 29 (dk_at dksX16_tellWay_0 18 rfl rfl)
theorem dX16_tellWay_21 : decode cX16_tellWay 21 = .ok (.iload_n 3, 1) := dk_29 (dk_at dksX16_tellWay_0 21 rfl rfl)
theorem dX16_tellWay_22 : decode cX16_tellWay 22 = .ok (.iaload, 1) := dk_46 (dk_at dksX16_tellWay_0 22 rfl rfl)
theorem dX16_tellWay_23 : decode cX16_tellWay 23 = .ok (.iload_n 2, 1) := dk_28 (dk_at dksX16_tellWay_0 23 rfl rfl)
theorem dX16_tellWay_24 : decode cX16_tellWay 24 = .ok (.if_icmp .eq 6, 3) := dk_159 0 6 (dk_at dksX16_tellWay_1 0 rfl rfl)
theorem dX16_tellWay_27 : decode cX16_tellWay 27 = .ok (.goto 122, 3) := dk_167 0 122 (dk_at dksX16_tellWay_1 3 rfl rfl)
theorem dX16_tellWay_30 : decode cX16_tellWay 30 = .ok (.iconst 0, 1) := dk_3 (dk_at dksX16_tellWay_1 6 rfl rfl)
theorem dX16_tellWay_31 : decode cX16_tellWay 31 = .ok (.istore 4, 2) := dk_54 4 (dk_at dksX16_tellWay_1 7 rfl rfl)
theorem dX16_tellWay_33 : decode cX16_tellWay 33 = .ok (.iload 4, 2) := dk_21 4 (dk_at dksX16_tellWay_1 9 rfl rfl)
theorem dX16_tellWay_35 : decode cX16_tellWay 35 = .ok (.aload_n 0, 1) := dk_42 (dk_at dksX16_tellWay_1 11 rfl rfl)
theorem dX16_tellWay_36 : decode cX16_tellWay 36 = .ok (.getfield 544, 3) := dk_180 2 32 (dk_at dksX16_tellWay_1 12 rfl rfl)
theorem dX16_tellWay_39 : decode cX16_tellWay 39 = .ok (.if_icmp .ge 110, 3) := dk_162 0 110 (dk_at dksX16_tellWay_1 15 rfl rfl)
theorem dX16_tellWay_42 : decode cX16_tellWay 42 = .ok (.aload_n 1, 1) := dk_43 (dk_at dksX16_tellWay_1 18 rfl rfl)
theorem dX16_tellWay_43 : decode cX16_tellWay 43 = .ok (.aload_n 0, 1) := dk_42 (dk_at dksX16_tellWay_1 19 rfl rfl)
theorem dX16_tellWay_44 : decode cX16_tellWay 44 = .ok (.iload 4, 2) := dk_21 4 (dk_at dksX16_tellWay_1 20 rfl rfl)
theorem dX16_tellWay_46 : decode cX16_tellWay 46 = .ok (.invokevirtual 567, 3) := dk_182 2 55 (dk_at dksX16_tellWay_2 0 rfl rfl)
theorem dX16_tellWay_49 : decode cX16_tellWay 49 = .ok (.invokestatic 583, 3) := dk_184 2 71 (dk_at dksX16_tellWay_2 3 rfl rfl)
theorem dX16_tellWay_52 : decode cX16_tellWay 52 = .ok (.istore 5, 2) := dk_54 5 (dk_at dksX16_tellWay_2 6 rfl rfl)
theorem dX16_tellWay_54 : decode cX16_tellWay 54 = .ok (.aload_n 0, 1) := dk_42 (dk_at dksX16_tellWay_2 8 rfl rfl)
theorem dX16_tellWay_55 : decode cX16_tellWay 55 = .ok (.getfield 295, 3) := dk_180 1 39 (dk_at dksX16_tellWay_2 9 rfl rfl)
theorem dX16_tellWay_58 : decode cX16_tellWay 58 = .ok (.aload_n 0, 1) := dk_42 (dk_at dksX16_tellWay_2 12 rfl rfl)
theorem dX16_tellWay_59 : decode cX16_tellWay 59 = .ok (.getfield 305, 3) := dk_180 1 49 (dk_at dksX16_tellWay_2 13 rfl rfl)
theorem dX16_tellWay_62 : decode cX16_tellWay 62 = .ok (.iload 4, 2) := dk_21 4 (dk_at dksX16_tellWay_2 16 rfl rfl)
theorem dX16_tellWay_64 : decode cX16_tellWay 64 = .ok (.iaload, 1) := dk_46 (dk_at dksX16_tellWay_2 18 rfl rfl)
theorem dX16_tellWay_65 : decode cX16_tellWay 65 = .ok (.aaload, 1) := dk_50 (dk_at dksX16_tellWay_2 19 rfl rfl)
theorem dX16_tellWay_66 : decode cX16_tellWay 66 = .ok (.astore 6, 2) := dk_58 6 (dk_at dksX16_tellWay_2 20 rfl rfl)
theorem dX16_tellWay_68 : decode cX16_tellWay 68 = .ok (.iload 5, 2) := dk_21 5 (dk_at dksX16_tellWay_2 22 rfl rfl)
theorem dX16_tellWay_70 : decode cX16_tellWay 70 = .ok (.ifCond .lt 73, 3) := dk_155 0 73 (dk_at dksX16_tellWay_3 0 rfl rfl)
theorem dX16_tellWay_73 : decode cX16_tellWay 73 = .ok (.aload 6, 2) := dk_25 6 (dk_at dksX16_tellWay_3 3 rfl rfl)
theorem dX16_tellWay_75 : decode cX16_tellWay 75 = .ok (.bipush 35, 2) := dk_16 35 (dk_at dksX16_tellWay_3 5 rfl rfl)
theorem dX16_tellWay_77 : decode cX16_tellWay 77 = .ok (.iload_n 3, 1) := dk_29 (dk_at dksX16_tellWay_3 7 rfl rfl)
theorem dX16_tellWay_78 : decode cX16_tellWay 78 = .ok (.iadd, 1) := dk_96 (dk_at dksX16_tellWay_3 8 rfl rfl)
theorem dX16_tellWay_79 : decode cX16_tellWay 79 = .ok (.aaload, 1) := dk_50 (dk_at dksX16_tellWay_3 9 rfl rfl)
theorem dX16_tellWay_80 : decode cX16_tellWay 80 = .ok (.getfield 15, 3) := dk_180 0 15 (dk_at dksX16_tellWay_3 10 rfl rfl)
theorem dX16_tellWay_83 : decode cX16_tellWay 83 = .ok (.ifCond .eq 60, 3) := dk_153 0 60 (dk_at dksX16_tellWay_3 13 rfl rfl)
theorem dX16_tellWay_86 : decode cX16_tellWay 86 = .ok (.aload_n 0, 1) := dk_42 (dk_at dksX16_tellWay_3 16 rfl rfl)
theorem dX16_tellWay_87 : decode cX16_tellWay 87 = .ok (.aload_n 0, 1) := dk_42 (dk_at dksX16_tellWay_3 17 rfl rfl)
theorem dX16_tellWay_88 : decode cX16_tellWay 88 = .ok (.getfield 246, 3) := dk_180 0 246 (dk_at dksX16_tellWay_3 18 rfl rfl)
theorem dX16_tellWay_91 : decode cX16_tellWay 91 = .ok (.aload_n 1, 1) := dk_43 (dk_at dksX16_tellWay_3 21 rfl rfl)
theorem dX16_tellWay_92 : decode cX16_tellWay 92 = .ok (.getfield 170, 3) := dk_180 0 170 (dk_at dksX16_tellWay_4 0 rfl rfl)
theorem dX16_tellWay_95 : decode cX16_tellWay 95 = .ok (.iload 5, 2) := dk_21 5 (dk_at dksX16_tellWay_4 3 rfl rfl)
theorem dX16_tellWay_97 : decode cX16_tellWay 97 = .ok (.aaload, 1) := dk_50 (dk_at dksX16_tellWay_4 5 rfl rfl)
theorem dX16_tellWay_98 : decode cX16_tellWay 98 = .ok (.aload 6, 2) := dk_25 6 (dk_at dksX16_tellWay_4 6 rfl rfl)
theorem dX16_tellWay_100 : decode cX16_tellWay 100 = .ok (.bipush 35, 2) := dk_16 35 (dk_at dksX16_tellWay_4 8 rfl rfl)
theorem dX16_tellWay_102 : decode cX16_tellWay 102 = .ok (.iload_n 3, 1) := dk_29 (dk_at dksX16_tellWay_4 10 rfl rfl)
theorem dX16_tellWay_103 : decode cX16_tellWay 103 = .ok (.iadd, 1) := dk_96 (dk_at dksX16_tellWay_4 11 rfl rfl)
theorem dX16_tellWay_104 : decode cX16_tellWay 104 = .ok (.aaload, 1) := dk_50 (dk_at dksX16_tellWay_4 12 rfl rfl)
theorem dX16_tellWay_105 : decode cX16_tellWay 105 = .ok (.invokevirtual 105, 3) := dk_182 0 105 (dk_at dksX16_tellWay_4 13 rfl rfl)
theorem dX16_tellWay_108 : decode cX16_tellWay 108 = .ok (.aload_n 0, 1) := dk_42 (dk_at dksX16_tellWay_4 16 rfl rfl)
theorem dX16_tellWay_109 : decode cX16_tellWay 109 = .ok (.aload_n 0, 1) := dk_42 (dk_at dksX16_tellWay_4 17 rfl rfl)
theorem dX16_tellWay_110 : decode cX16_tellWay 110 = .ok (.getfield 230, 3) := dk_180 0 230 (dk_at dksX16_tellWay_4 18 rfl rfl)
theorem dX16_tellWay_113 : decode cX16_tellWay 113 = .ok (.aload_n 0, 1) := dk_42 (dk_at dksX16_tellWay_4 21 rfl rfl)
theorem dX16_tellWay_114 : decode cX16_tellWay 114 = .ok (.getfield 288, 3) := dk_180 1 32 (dk_at dksX16_tellWay_5 0 rfl rfl)
theorem dX16_tellWay_117 : decode cX16_tellWay 117 = .ok (.iload_n 3, 1) := dk_29 (dk_at dksX16_tellWay_5 3 rfl rfl)
theorem dX16_tellWay_118 : decode cX16_tellWay 118 = .ok (.iaload, 1) := dk_46 (dk_at dksX16_tellWay_5 4 rfl rfl)
theorem dX16_tellWay_119 : decode cX16_tellWay 119 = .ok (.aload_n 0, 1) := dk_42 (dk_at dksX16_tellWay_5 5 rfl rfl)
theorem dX16_tellWay_120 : decode cX16_tellWay 120 = .ok (.getfield 246, 3) := dk_180 0 246 (dk_at dksX16_tellWay_5 6 rfl rfl)
theorem dX16_tellWay_123 : decode cX16_tellWay 123 = .ok (.aload 6, 2) := dk_25 6 (dk_at dksX16_tellWay_5 9 rfl rfl)
theorem dX16_tellWay_125 : decode cX16_tellWay 125 = .ok (.aload_n 0, 1) := dk_42 (dk_at dksX16_tellWay_5 11 rfl rfl)
theorem dX16_tellWay_126 : decode cX16_tellWay 126 = .ok (.getfield 299, 3) := dk_180 1 43 (dk_at dksX16_tellWay_5 12 rfl rfl)
theorem dX16_tellWay_129 : decode cX16_tellWay 129 = .ok (.aload_n 0, 1) := dk_42 (dk_at dksX16_tellWay_5 15 rfl rfl)
theorem dX16_tellWay_130 : decode cX16_tellWay 130 = .ok (.getfield 305, 3) := dk_180 1 49 (dk_at dksX16_tellWay_5 16 rfl rfl)
theorem dX16_tellWay_133 : decode cX16_tellWay 133 = .ok (.iload 4, 2) := dk_21 4 (dk_at dksX16_tellWay_5 19 rfl rfl)
theorem dX16_tellWay_135 : decode cX16_tellWay 135 = .ok (.iaload, 1) := dk_46 (dk_at dksX16_tellWay_5 21 rfl rfl)
theorem dX16_tellWay_136 : decode cX16_tellWay 136 = .ok (.iaload, 1) := dk_46 (dk_at dksX16_tellWay_5 22 rfl rfl)
theorem dX16_tellWay_137 : decode cX16_tellWay 137 = .ok (.aaload, 1) := dk_50 (dk_at dksX16_tellWay_5 23 rfl rfl)
theorem dX16_tellWay_138 : decode cX16_tellWay 138 = .ok (.iconst 1, 1) := dk_4 (dk_at dksX16_tellWay_6 0 rfl rfl)
theorem dX16_tellWay_139 : decode cX16_tellWay 139 = .ok (.invokevirtual 172, 3) := dk_182 0 172 (dk_at dksX16_tellWay_6 1 rfl rfl)
theorem dX16_tellWay_142 : decode cX16_tellWay 142 = .ok (.pop, 1) := dk_87 (dk_at dksX16_tellWay_6 4 rfl rfl)
theorem dX16_tellWay_143 : decode cX16_tellWay 143 = .ok (.iinc 4 1, 3) := dk_132 4 1 (dk_at dksX16_tellWay_6 5 rfl rfl)
theorem dX16_tellWay_146 : decode cX16_tellWay 146 = .ok (.goto (-113), 3) := dk_167 255 143 (dk_at dksX16_tellWay_6 8 rfl rfl)
theorem dX16_tellWay_149 : decode cX16_tellWay 149 = .ok (.iinc 3 1, 3) := dk_132 3 1 (dk_at dksX16_tellWay_6 11 rfl rfl)
theorem dX16_tellWay_152 : decode cX16_tellWay 152 = .ok (.goto (-143), 3) := dk_167 255 113 (dk_at dksX16_tellWay_6 14 rfl rfl)
theorem dX16_tellWay_155 : decode cX16_tellWay 155 = .ok (.aload_n 0, 1) := dk_42 (dk_at dksX16_tellWay_6 17 rfl rfl)
theorem dX16_tellWay_156 : decode cX16_tellWay 156 = .ok (.getfield 230, 3) := dk_180 0 230 (dk_at dksX16_tellWay_6 18 rfl rfl)
theorem dX16_tellWay_159 : decode cX16_tellWay 159 = .ok (.aload_n 0, 1) := dk_42 (dk_at dksX16_tellWay_6 21 rfl rfl)
theorem dX16_tellWay_160 : decode cX16_tellWay 160 = .ok (.getfield 218, 3) := dk_180 0 218 (dk_at dksX16_tellWay_7 0 rfl rfl)
theorem dX16_tellWay_163 : decode cX16_tellWay 163 = .ok (.iload_n 2, 1) := dk_28 (dk_at dksX16_tellWay_7 3 rfl rfl)
theorem dX16_tellWay_164 : decode cX16_tellWay 164 = .ok (.aaload, 1) := dk_50 (dk_at dksX16_tellWay_7 4 rfl rfl)
theorem dX16_tellWay_165 : decode cX16_tellWay 165 = .ok (.invokevirtual 410, 3) := dk_182 1 154 (dk_at dksX16_tellWay_7 5 rfl rfl)
theorem dX16_tellWay_168 : decode cX16_tellWay 168 = .ok (.return_, 1) := dk_177 (dk_at dksX16_tellWay_7 8 rfl rfl)
abbrev cX16_roots : ByteArray := prog_21_method_85_code
def yX16_roots : MethodName := ⟨RX16, "roots", "(I)I"⟩
def dkwX16_roots_15 : List UInt8 := [21, 5, 4, 96, 79, 132, 3, 2, 167, 255, 48, 42, 180, 2, 113, 172]
abbrev dktX16_roots_15 : List UInt8 := dkwX16_roots_15 ++ []
def dkwX16_roots_14 : List UInt8 := [180, 1, 73, 4, 184, 0, 111, 42, 180, 1, 119, 29, 21, 5, 4, 96, 79, 42, 180, 1, 119, 29, 4, 96]
abbrev dktX16_roots_14 : List UInt8 := dkwX16_roots_14 ++ dktX16_roots_15
def dkwX16_roots_13 : List UInt8 := [180, 1, 73, 20, 1, 240, 182, 0, 83, 42, 180, 1, 116, 29, 50, 42, 180, 1, 116, 29, 4, 96, 50, 42]
abbrev dktX16_roots_13 : List UInt8 := dkwX16_roots_13 ++ dktX16_roots_14
def dkwX16_roots_12 : List UInt8 := [25, 4, 4, 184, 0, 111, 42, 180, 1, 116, 29, 4, 96, 50, 42, 180, 1, 73, 182, 0, 18, 42]
abbrev dktX16_roots_12 : List UInt8 := dkwX16_roots_12 ++ dktX16_roots_13
def dkwX16_roots_11 : List UInt8 := [180, 2, 113, 4, 96, 181, 2, 113, 21, 6, 5, 162, 0, 6, 167, 255, 135, 42, 180, 1, 73, 25, 4]
abbrev dktX16_roots_11 : List UInt8 := dkwX16_roots_11 ++ dktX16_roots_12
def dkwX16_roots_10 : List UInt8 := [180, 2, 113, 50, 25, 4, 182, 0, 18, 42, 180, 1, 92, 42, 180, 2, 113, 21, 5, 79, 42, 89]
abbrev dktX16_roots_10 : List UInt8 := dkwX16_roots_10 ++ dktX16_roots_11
def dkwX16_roots_9 : List UInt8 := [16, 7, 21, 5, 100, 182, 2, 124, 100, 54, 6, 21, 6, 4, 160, 0, 38, 42, 180, 1, 89, 42]
abbrev dktX16_roots_9 : List UInt8 := dkwX16_roots_9 ++ dktX16_roots_10
def dkwX16_roots_8 : List UInt8 := [180, 1, 73, 4, 184, 0, 111, 42, 25, 4, 16, 7, 21, 5, 100, 182, 2, 124, 42, 42, 180, 1, 73]
abbrev dktX16_roots_8 : List UInt8 := dkwX16_roots_8 ++ dktX16_roots_9
def dkwX16_roots_7 : List UInt8 := [180, 1, 119, 29, 46, 54, 5, 42, 180, 1, 73, 20, 1, 240, 182, 0, 83, 42, 180, 1, 73, 25, 4, 42]
abbrev dktX16_roots_7 : List UInt8 := dkwX16_roots_7 ++ dktX16_roots_8
def dkwX16_roots_6 : List UInt8 := [42, 180, 1, 119, 3, 3, 79, 29, 158, 0, 210, 132, 3, 255, 42, 180, 1, 116, 29, 50, 58, 4, 42]
abbrev dktX16_roots_6 : List UInt8 := dkwX16_roots_6 ++ dktX16_roots_7
def dkwX16_roots_5 : List UInt8 := [180, 1, 114, 42, 180, 2, 99, 182, 2, 102, 4, 62, 42, 180, 1, 116, 3, 50, 20, 2, 122, 182, 0, 83]
abbrev dktX16_roots_5 : List UInt8 := dkwX16_roots_5 ++ dktX16_roots_6
def dkwX16_roots_4 : List UInt8 := [180, 1, 114, 29, 47, 80, 132, 3, 1, 167, 255, 235, 42, 42, 180, 2, 99, 181, 2, 119, 42, 42]
abbrev dktX16_roots_4 : List UInt8 := dkwX16_roots_4 ++ dktX16_roots_5
def dkwX16_roots_3 : List UInt8 := [154, 0, 5, 3, 172, 42, 182, 2, 116, 3, 62, 29, 16, 8, 163, 0, 21, 42, 180, 1, 95, 29, 42]
abbrev dktX16_roots_3 : List UInt8 := dkwX16_roots_3 ++ dktX16_roots_4
def dkwX16_roots_2 : List UInt8 := [154, 0, 10, 42, 16, 250, 182, 1, 151, 172, 42, 4, 181, 2, 110, 42, 3, 181, 2, 113, 42, 180, 2, 99]
abbrev dktX16_roots_2 : List UInt8 := dkwX16_roots_2 ++ dktX16_roots_3
def dkwX16_roots_1 : List UInt8 := [180, 0, 162, 154, 0, 10, 42, 16, 251, 182, 1, 151, 172, 42, 42, 180, 0, 184, 27, 50, 182, 2, 106]
abbrev dktX16_roots_1 : List UInt8 := dkwX16_roots_1 ++ dktX16_roots_2
def dkwX16_roots_0 : List UInt8 := [42, 27, 4, 182, 1, 164, 61, 28, 156, 0, 9, 42, 28, 182, 1, 151, 172, 42, 180, 0, 184, 27, 50]
abbrev dktX16_roots_0 : List UInt8 := dkwX16_roots_0 ++ dktX16_roots_1
theorem dksX16_roots_0 : cX16_roots.data.toList.drop 0 = dktX16_roots_0 := by decide +kernel
theorem dksX16_roots_1 : cX16_roots.data.toList.drop 23 = dktX16_roots_1 := dk_seg dksX16_roots_0 23 rfl rfl
theorem dksX16_roots_2 : cX16_roots.data.toList.drop 46 = dktX16_roots_2 := dk_seg dksX16_roots_1 23 rfl rfl
theorem dksX16_roots_3 : cX16_roots.data.toList.drop 70 = dktX16_roots_3 := dk_seg dksX16_roots_2 24 rfl rfl
theorem dksX16_roots_4 : cX16_roots.data.toList.drop 93 = dktX16_roots_4 := dk_seg dksX16_roots_3 23 rfl rfl
theorem dksX16_roots_5 : cX16_roots.data.toList.drop 115 = dktX16_roots_5 := dk_seg dksX16_roots_4 22 rfl rfl
theorem dksX16_roots_6 : cX16_roots.data.toList.drop 139 = dktX16_roots_6 := dk_seg dksX16_roots_5 24 rfl rfl
theorem dksX16_roots_7 : cX16_roots.data.toList.drop 162 = dktX16_roots_7 := dk_seg dksX16_roots_6 23 rfl rfl
theorem dksX16_roots_8 : cX16_roots.data.toList.drop 186 = dktX16_roots_8 := dk_seg dksX16_roots_7 24 rfl rfl
theorem dksX16_roots_9 : cX16_roots.data.toList.drop 209 = dktX16_roots_9 := dk_seg dksX16_roots_8 23 rfl rfl
theorem dksX16_roots_10 : cX16_roots.data.toList.drop 231 = dktX16_roots_10 := dk_seg dksX16_roots_9 22 rfl rfl
theorem dksX16_roots_11 : cX16_roots.data.toList.drop 253 = dktX16_roots_11 := dk_seg dksX16_roots_10 22 rfl rfl
theorem dksX16_roots_12 : cX16_roots.data.toList.drop 276 = dktX16_roots_12 := dk_seg dksX16_roots_11 23 rfl rfl
theorem dksX16_roots_13 : cX16_roots.data.toList.drop 298 = dktX16_roots_13 := dk_seg dksX16_roots_12 22 rfl rfl
theorem dksX16_roots_14 : cX16_roots.data.toList.drop 322 = dktX16_roots_14 := dk_seg dksX16_roots_13 24 rfl rfl
theorem dksX16_roots_15 : cX16_roots.data.toList.drop 346 = dktX16_roots_15 := dk_seg dksX16_roots_14 24 rfl rfl
theorem dX16_roots_0 : decode cX16_roots 0 = .ok (.aload_n 0, 1) := dk_42 (dk_at dksX16_roots_0 0 rfl rfl)
theorem dX16_roots_1 : decode cX16_roots 1 = .ok (.iload_n 1, 1) := dk_27 (dk_at dksX16_roots_0 1 rfl rfl)
theorem dX16_roots_2 : decode cX16_roots 2 = .ok (.iconst 1, 1) := dk_4 (dk_at dksX16_roots_0 2 rfl rfl)
theorem dX16_roots_3 : decode cX16_roots 3 = .ok (.invokevirtual 420, 3) := dk_182 1 164 (dk_at dksX16_roots_0 3 rfl rfl)
theorem dX16_roots_6 : decode cX16_roots 6 = .ok (.istore_n 2, 1) := dk_61 (dk_at dksX16_roots_0 6 rfl rfl)
theorem dX16_roots_7 : decode cX16_roots 7 = .ok (.iload_n 2, 1) := dk_28 (dk_at dksX16_roots_0 7 rfl rfl)
theorem dX16_roots_8 : decode cX16_roots 8 = .ok (.ifCond .ge 9, 3) := dk_156 0 9 (dk_at dksX16_roots_0 8 rfl rfl)
theorem dX16_roots_11 : decode cX16_roots 11 = .ok (.aload_n 0, 1) := dk_42 (dk_at dksX16_roots_0 11 rfl rfl)
theorem dX16_roots_12 : decode cX16_roots 12 = .ok (.iload_n 2, 1) := dk_28 (dk_at dksX16_roots_0 12 rfl rfl)
theorem dX16_roots_13 : decode cX16_roots 13 = .ok (.invokevirtual 407, 3) := dk_182 1 151 (dk_at dksX16_roots_0 13 rfl rfl)
theorem dX16_roots_16 : decode cX16_roots 16 = .ok (.ireturn, 1) := dk_172 (dk_at dksX16_roots_0 16 rfl rfl)
theorem dX16_roots_17 : decode cX16_roots 17 = .ok (.aload_n 0, 1) := dk_42 (dk_at dksX16_roots_0 17 rfl rfl)
theorem dX16_roots_18 : decode cX16_roots 18 = .ok (.getfield 184, 3) := dk_180 0 184 (dk_at dksX16_roots_0 18 rfl rfl)
theorem dX16_roots_21 : decode cX16_roots 21 = .ok (.iload_n 1, 1) := dk_27 (dk_at dksX16_roots_0 21 rfl rfl)
theorem dX16_roots_22 : decode cX16_roots 22 = .ok (.aaload, 1) := dk_50 (dk_at dksX16_roots_0 22 rfl rfl)
theorem dX16_roots_23 : decode cX16_roots 23 = .ok (.getfield 162, 3) := dk_180 0 162 (dk_at dksX16_roots_1 0 rfl rfl)
theorem dX16_roots_26 : decode cX16_roots 26 = .ok (.ifCond .ne 10, 3) := dk_154 0 10 (dk_at dksX16_roots_1 3 rfl rfl)
theorem dX16_roots_29 : decode cX16_roots 29 = .ok (.aload_n 0, 1) := dk_42 (dk_at dksX16_roots_1 6 rfl rfl)
theorem dX16_roots_30 : decode cX16_roots 30 = .ok (.bipush (-5), 2) := dk_16 251 (dk_at dksX16_roots_1 7 rfl rfl)
theorem dX16_roots_32 : decode cX16_roots 32 = .ok (.invokevirtual 407, 3) := dk_182 1 151 (dk_at dksX16_roots_1 9 rfl rfl)
theorem dX16_roots_35 : decode cX16_roots 35 = .ok (.ireturn, 1) := dk_172 (dk_at dksX16_roots_1 12 rfl rfl)
theorem dX16_roots_36 : decode cX16_roots 36 = .ok (.aload_n 0, 1) := dk_42 (dk_at dksX16_roots_1 13 rfl rfl)
theorem dX16_roots_37 : decode cX16_roots 37 = .ok (.aload_n 0, 1) := dk_42 (dk_at dksX16_roots_1 14 rfl rfl)
theorem dX16_roots_38 : decode cX16_roots 38 = .ok (.getfield 184, 3) := dk_180 0 184 (dk_at dksX16_roots_1 15 rfl rfl)
theorem dX16_roots_41 : decode cX16_roots 41 = .ok (.iload_n 1, 1) := dk_27 (dk_at dksX16_roots_1 18 rfl rfl)
theorem dX16_roots_42 : decode cX16_roots 42 = .ok (.aaload, 1) := dk_50 (dk_at dksX16_roots_1 19 rfl rfl)
theorem dX16_roots_43 : decode cX16_roots 43 = .ok (.invokevirtual 618, 3) := dk_182 2 106 (dk_at dksX16_roots_1 20 rfl rfl)
theorem dX16_roots_46 : decode cX16_roots 46 = .ok (.ifCond .ne 10, 3) := dk_154 0 10 (dk_at dksX16_roots_2 0 rfl rfl)
theorem dX16_roots_49 : decode cX16_roots 49 = .ok (.aload_n 0, 1) := dk_42 (dk_at dksX16_roots_2 3 rfl rfl)
theorem dX16_roots_50 : decode cX16_roots 50 = .ok (.bipush (-6), 2) := dk_16 250 (dk_at dksX16_roots_2 4 rfl rfl)
theorem dX16_roots_52 : decode cX16_roots 52 = .ok (.invokevirtual 407, 3) := dk_182 1 151 (dk_at dksX16_roots_2 6 rfl rfl)
theorem dX16_roots_55 : decode cX16_roots 55 = .ok (.ireturn, 1) := dk_172 (dk_at dksX16_roots_2 9 rfl rfl)
theorem dX16_roots_56 : decode cX16_roots 56 = .ok (.aload_n 0, 1) := dk_42 (dk_at dksX16_roots_2 10 rfl rfl)
theorem dX16_roots_57 : decode cX16_roots 57 = .ok (.iconst 1, 1) := dk_4 (dk_at dksX16_roots_2 11 rfl rfl)
theorem dX16_roots_58 : decode cX16_roots 58 = .ok (.putfield 622, 3) := dk_181 2 110 (dk_at dksX16_roots_2 12 rfl rfl)
theorem dX16_roots_61 : decode cX16_roots 61 = .ok (.aload_n 0, 1) := dk_42 (dk_at dksX16_roots_2 15 rfl rfl)
theorem dX16_roots_62 : decode cX16_roots 62 = .ok (.iconst 0, 1) := dk_3 (dk_at dksX16_roots_2 16 rfl rfl)
theorem dX16_roots_63 : decode cX16_roots 63 = .ok (.putfield 625, 3) := dk_181 2 113 (dk_at dksX16_roots_2 17 rfl rfl)
theorem dX16_roots_66 : decode cX16_roots 66 = .ok (.aload_n 0, 1) := dk_42 (dk_at dksX16_roots_2 20 rfl rfl)
theorem dX16_roots_67 : decode cX16_roots 67 = .ok (.getfield 611, 3) := dk_180 2 99 (dk_at dksX16_roots_2 21 rfl rfl)
theorem dX16_roots_70 : decode cX16_roots 70 = .ok (.ifCond .ne 5, 3) := dk_154 0 5 (dk_at dksX16_roots_3 0 rfl rfl)
theorem dX16_roots_73 : decode cX16_roots 73 = .ok (.iconst 0, 1) := dk_3 (dk_at dksX16_roots_3 3 rfl rfl)
theorem dX16_roots_74 : decode cX16_roots 74 = .ok (.ireturn, 1) := dk_172 (dk_at dksX16_roots_3 4 rfl rfl)
theorem dX16_roots_75 : decode cX16_roots 75 = .ok (.aload_n 0, 1) := dk_42 (dk_at dksX16_roots_3 5 rfl rfl)
theorem dX16_roots_76 : decode cX16_roots 76 = .ok (.invokevirtual 628, 3) := dk_182 2 116 (dk_at dksX16_roots_3 6 rfl rfl)
theorem dX16_roots_79 : decode cX16_roots 79 = .ok (.iconst 0, 1) := dk_3 (dk_at dksX16_roots_3 9 rfl rfl)
theorem dX16_roots_80 : decode cX16_roots 80 = .ok (.istore_n 3, 1) := dk_62 (dk_at dksX16_roots_3 10 rfl rfl)
theorem dX16_roots_81 : decode cX16_roots 81 = .ok (.iload_n 3, 1) := dk_29 (dk_at dksX16_roots_3 11 rfl rfl)
theorem dX16_roots_82 : decode cX16_roots 82 = .ok (.bipush 8, 2) := dk_16 8 (dk_at dksX16_roots_3 12 rfl rfl)
theorem dX16_roots_84 : decode cX16_roots 84 = .ok (.if_icmp .gt 21, 3) := dk_163 0 21 (dk_at dksX16_roots_3 14 rfl rfl)
theorem dX16_roots_87 : decode cX16_roots 87 = .ok (.aload_n 0, 1) := dk_42 (dk_at dksX16_roots_3 17 rfl rfl)
theorem dX16_roots_88 : decode cX16_roots 88 = .ok (.getfield 351, 3) := dk_180 1 95 (dk_at dksX16_roots_3 18 rfl rfl)
theorem dX16_roots_91 : decode cX16_roots 91 = .ok (.iload_n 3, 1) := dk_29 (dk_at dksX16_roots_3 21 rfl rfl)
theorem dX16_roots_92 : decode cX16_roots 92 = .ok (.aload_n 0, 1) := dk_42 (dk_at dksX16_roots_3 22 rfl rfl)
theorem dX16_roots_93 : decode cX16_roots 93 = .ok (.getfield 370, 3) := dk_180 1 114 (dk_at dksX16_roots_4 0 rfl rfl)
theorem dX16_roots_96 : decode cX16_roots 96 = .ok (.iload_n 3, 1) := dk_29 (dk_at dksX16_roots_4 3 rfl rfl)
theorem dX16_roots_97 : decode cX16_roots 97 = .ok (.laload, 1) := dk_47 (dk_at dksX16_roots_4 4 rfl rfl)
theorem dX16_roots_98 : decode cX16_roots 98 = .ok (.lastore, 1) := dk_80 (dk_at dksX16_roots_4 5 rfl rfl)
theorem dX16_roots_99 : decode cX16_roots 99 = .ok (.iinc 3 1, 3) := dk_132 3 1 (dk_at dksX16_roots_4 6 rfl rfl)
theorem dX16_roots_102 : decode cX16_roots 102 = .ok (.goto (-21), 3) := dk_167 255 235 (dk_at dksX16_roots_4 9 rfl rfl)
theorem dX16_roots_105 : decode cX16_roots 105 = .ok (.aload_n 0, 1) := dk_42 (dk_at dksX16_roots_4 12 rfl rfl)
theorem dX16_roots_106 : decode cX16_roots 106 = .ok (.aload_n 0, 1) := dk_42 (dk_at dksX16_roots_4 13 rfl rfl)
theorem dX16_roots_107 : decode cX16_roots 107 = .ok (.getfield 611, 3) := dk_180 2 99 (dk_at dksX16_roots_4 14 rfl rfl)
theorem dX16_roots_110 : decode cX16_roots 110 = .ok (.putfield 631, 3) := dk_181 2 119 (dk_at dksX16_roots_4 17 rfl rfl)
theorem dX16_roots_113 : decode cX16_roots 113 = .ok (.aload_n 0, 1) := dk_42 (dk_at dksX16_roots_4 20 rfl rfl)
theorem dX16_roots_114 : decode cX16_roots 114 = .ok (.aload_n 0, 1) := dk_42 (dk_at dksX16_roots_4 21 rfl rfl)
theorem dX16_roots_115 : decode cX16_roots 115 = .ok (.getfield 370, 3) := dk_180 1 114 (dk_at dksX16_roots_5 0 rfl rfl)
theorem dX16_roots_118 : decode cX16_roots 118 = .ok (.aload_n 0, 1) := dk_42 (dk_at dksX16_roots_5 3 rfl rfl)
theorem dX16_roots_119 : decode cX16_roots 119 = .ok (.getfield 611, 3) := dk_180 2 99 (dk_at dksX16_roots_5 4 rfl rfl)
theorem dX16_roots_122 : decode cX16_roots 122 = .ok (.invokevirtual 614, 3) := dk_182 2 102 (dk_at dksX16_roots_5 7 rfl rfl)
theorem dX16_roots_125 : decode cX16_roots 125 = .ok (.iconst 1, 1) := dk_4 (dk_at dksX16_roots_5 10 rfl rfl)
theorem dX16_roots_126 : decode cX16_roots 126 = .ok (.istore_n 3, 1) := dk_62 (dk_at dksX16_roots_5 11 rfl rfl)
theorem dX16_roots_127 : decode cX16_roots 127 = .ok (.aload_n 0, 1) := dk_42 (dk_at dksX16_roots_5 12 rfl rfl)
theorem dX16_roots_128 : decode cX16_roots 128 = .ok (.getfield 372, 3) := dk_180 1 116 (dk_at dksX16_roots_5 13 rfl rfl)
theorem dX16_roots_131 : decode cX16_roots 131 = .ok (.iconst 0, 1) := dk_3 (dk_at dksX16_roots_5 16 rfl rfl)
theorem dX16_roots_132 : decode cX16_roots 132 = .ok (.aaload, 1) := dk_50 (dk_at dksX16_roots_5 17 rfl rfl)
theorem dX16_roots_133 : decode cX16_roots 133 = .ok (.ldc2_w 634, 3) := dk_20 2 122 (dk_at dksX16_roots_5 18 rfl rfl)
theorem dX16_roots_136 : decode cX16_roots 136 = .ok (.invokevirtual 83, 3) := dk_182 0 83 (dk_at dksX16_roots_5 21 rfl rfl)
theorem dX16_roots_139 : decode cX16_roots 139 = .ok (.aload_n 0, 1) := dk_42 (dk_at dksX16_roots_6 0 rfl rfl)
theorem dX16_roots_140 : decode cX16_roots 140 = .ok (.getfield 375, 3) := dk_180 1 119 (dk_at dksX16_roots_6 1 rfl rfl)
theorem dX16_roots_143 : decode cX16_roots 143 = .ok (.iconst 0, 1) := dk_3 (dk_at dksX16_roots_6 4 rfl rfl)
theorem dX16_roots_144 : decode cX16_roots 144 = .ok (.iconst 0, 1) := dk_3 (dk_at dksX16_roots_6 5 rfl rfl)
theorem dX16_roots_145 : decode cX16_roots 145 = .ok (.iastore, 1) := dk_79 (dk_at dksX16_roots_6 6 rfl rfl)
theorem dX16_roots_146 : decode cX16_roots 146 = .ok (.iload_n 3, 1) := dk_29 (dk_at dksX16_roots_6 7 rfl rfl)
theorem dX16_roots_147 : decode cX16_roots 147 = .ok (.ifCond .le 210, 3) := dk_158 0 210 (dk_at dksX16_roots_6 8 rfl rfl)
theorem dX16_roots_150 : decode cX16_roots 150 = .ok (.iinc 3 (-1), 3) := dk_132 3 255 (dk_at dksX16_roots_6 11 rfl rfl)
theorem dX16_roots_153 : decode cX16_roots 153 = .ok (.aload_n 0, 1) := dk_42 (dk_at dksX16_roots_6 14 rfl rfl)
theorem dX16_roots_154 : decode cX16_roots 154 = .ok (.getfield 372, 3) := dk_180 1 116 (dk_at dksX16_roots_6 15 rfl rfl)
theorem dX16_roots_157 : decode cX16_roots 157 = .ok (.iload_n 3, 1) := dk_29 (dk_at dksX16_roots_6 18 rfl rfl)
theorem dX16_roots_158 : decode cX16_roots 158 = .ok (.aaload, 1) := dk_50 (dk_at dksX16_roots_6 19 rfl rfl)
theorem dX16_roots_159 : decode cX16_roots 159 = .ok (.astore 4, 2) := dk_58 4 (dk_at dksX16_roots_6 20 rfl rfl)
theorem dX16_roots_161 : decode cX16_roots 161 = .ok (.aload_n 0, 1) := dk_42 (dk_at dksX16_roots_6 22 rfl rfl)
theorem dX16_roots_162 : decode cX16_roots 162 = .ok (.getfield 375, 3) := dk_180 1 119 (dk_at dksX16_roots_7 0 rfl rfl)
theorem dX16_roots_165 : decode cX16_roots 165 = .ok (.iload_n 3, 1) := dk_29 (dk_at dksX16_roots_7 3 rfl rfl)
theorem dX16_roots_166 : decode cX16_roots 166 = .ok (.iaload, 1) := dk_46 (dk_at dksX16_roots_7 4 rfl rfl)
theorem dX16_roots_167 : decode cX16_roots 167 = .ok (.istore 5, 2) := dk_54 5 (dk_at dksX16_roots_7 5 rfl rfl)
theorem dX16_roots_169 : decode cX16_roots 169 = .ok (.aload_n 0, 1) := dk_42 (dk_at dksX16_roots_7 7 rfl rfl)
theorem dX16_roots_170 : decode cX16_roots 170 = .ok (.getfield 329, 3) := dk_180 1 73 (dk_at dksX16_roots_7 8 rfl rfl)
theorem dX16_roots_173 : decode cX16_roots 173 = .ok (.ldc2_w 496, 3) := dk_20 1 240 (dk_at dksX16_roots_7 11 rfl rfl)
theorem dX16_roots_176 : decode cX16_roots 176 = .ok (.invokevirtual 83, 3) := dk_182 0 83 (dk_at dksX16_roots_7 14 rfl rfl)
theorem dX16_roots_179 : decode cX16_roots 179 = .ok (.aload_n 0, 1) := dk_42 (dk_at dksX16_roots_7 17 rfl rfl)
theorem dX16_roots_180 : decode cX16_roots 180 = .ok (.getfield 329, 3) := dk_180 1 73 (dk_at dksX16_roots_7 18 rfl rfl)
theorem dX16_roots_183 : decode cX16_roots 183 = .ok (.aload 4, 2) := dk_25 4 (dk_at dksX16_roots_7 21 rfl rfl)
theorem dX16_roots_185 : decode cX16_roots 185 = .ok (.aload_n 0, 1) := dk_42 (dk_at dksX16_roots_7 23 rfl rfl)
theorem dX16_roots_186 : decode cX16_roots 186 = .ok (.getfield 329, 3) := dk_180 1 73 (dk_at dksX16_roots_8 0 rfl rfl)
theorem dX16_roots_189 : decode cX16_roots 189 = .ok (.iconst 1, 1) := dk_4 (dk_at dksX16_roots_8 3 rfl rfl)
theorem dX16_roots_190 : decode cX16_roots 190 = .ok (.invokestatic 111, 3) := dk_184 0 111 (dk_at dksX16_roots_8 4 rfl rfl)
theorem dX16_roots_193 : decode cX16_roots 193 = .ok (.aload_n 0, 1) := dk_42 (dk_at dksX16_roots_8 7 rfl rfl)
theorem dX16_roots_194 : decode cX16_roots 194 = .ok (.aload 4, 2) := dk_25 4 (dk_at dksX16_roots_8 8 rfl rfl)
theorem dX16_roots_196 : decode cX16_roots 196 = .ok (.bipush 7, 2) := dk_16 7 (dk_at dksX16_roots_8 10 rfl rfl)
theorem dX16_roots_198 : decode cX16_roots 198 = .ok (.iload 5, 2) := dk_21 5 (dk_at dksX16_roots_8 12 rfl rfl)
theorem dX16_roots_200 : decode cX16_roots 200 = .ok (.isub, 1) := dk_100 (dk_at dksX16_roots_8 14 rfl rfl)
theorem dX16_roots_201 : decode cX16_roots 201 = .ok (.invokevirtual 636, 3) := dk_182 2 124 (dk_at dksX16_roots_8 15 rfl rfl)
theorem dX16_roots_204 : decode cX16_roots 204 = .ok (.aload_n 0, 1) := dk_42 (dk_at dksX16_roots_8 18 rfl rfl)
theorem dX16_roots_205 : decode cX16_roots 205 = .ok (.aload_n 0, 1) := dk_42 (dk_at dksX16_roots_8 19 rfl rfl)
theorem dX16_roots_206 : decode cX16_roots 206 = .ok (.getfield 329, 3) := dk_180 1 73 (dk_at dksX16_roots_8 20 rfl rfl)
theorem dX16_roots_209 : decode cX16_roots 209 = .ok (.bipush 7, 2) := dk_16 7 (dk_at dksX16_roots_9 0 rfl rfl)
theorem dX16_roots_211 : decode cX16_roots 211 = .ok (.iload 5, 2) := dk_21 5 (dk_at dksX16_roots_9 2 rfl rfl)
theorem dX16_roots_213 : decode cX16_roots 213 = .ok (.isub, 1) := dk_100 (dk_at dksX16_roots_9 4 rfl rfl)
theorem dX16_roots_214 : decode cX16_roots 214 = .ok (.invokevirtual 636, 3) := dk_182 2 124 (dk_at dksX16_roots_9 5 rfl rfl)
theorem dX16_roots_217 : decode cX16_roots 217 = .ok (.isub, 1) := dk_100 (dk_at dksX16_roots_9 8 rfl rfl)
theorem dX16_roots_218 : decode cX16_roots 218 = .ok (.istore 6, 2) := dk_54 6 (dk_at dksX16_roots_9 9 rfl rfl)
theorem dX16_roots_220 : decode cX16_roots 220 = .ok (.iload 6, 2) := dk_21 6 (dk_at dksX16_roots_9 11 rfl rfl)
theorem dX16_roots_222 : decode cX16_roots 222 = .ok (.iconst 1, 1) := dk_4 (dk_at dksX16_roots_9 13 rfl rfl)
theorem dX16_roots_223 : decode cX16_roots 223 = .ok (.if_icmp .ne 38, 3) := dk_160 0 38 (dk_at dksX16_roots_9 14 rfl rfl)
theorem dX16_roots_226 : decode cX16_roots 226 = .ok (.aload_n 0, 1) := dk_42 (dk_at dksX16_roots_9 17 rfl rfl)
theorem dX16_roots_227 : decode cX16_roots 227 = .ok (.getfield 345, 3) := dk_180 1 89 (dk_at dksX16_roots_9 18 rfl rfl)
theorem dX16_roots_230 : decode cX16_roots 230 = .ok (.aload_n 0, 1) := dk_42 (dk_at dksX16_roots_9 21 rfl rfl)
theorem dX16_roots_231 : decode cX16_roots 231 = .ok (.getfield 625, 3) := dk_180 2 113 (dk_at dksX16_roots_10 0 rfl rfl)
theorem dX16_roots_234 : decode cX16_roots 234 = .ok (.aaload, 1) := dk_50 (dk_at dksX16_roots_10 3 rfl rfl)
theorem dX16_roots_235 : decode cX16_roots 235 = .ok (.aload 4, 2) := dk_25 4 (dk_at dksX16_roots_10 4 rfl rfl)
theorem dX16_roots_237 : decode cX16_roots 237 = .ok (.invokevirtual 18, 3) := dk_182 0 18 (dk_at dksX16_roots_10 6 rfl rfl)
theorem dX16_roots_240 : decode cX16_roots 240 = .ok (.aload_n 0, 1) := dk_42 (dk_at dksX16_roots_10 9 rfl rfl)
theorem dX16_roots_241 : decode cX16_roots 241 = .ok (.getfield 348, 3) := dk_180 1 92 (dk_at dksX16_roots_10 10 rfl rfl)
theorem dX16_roots_244 : decode cX16_roots 244 = .ok (.aload_n 0, 1) := dk_42 (dk_at dksX16_roots_10 13 rfl rfl)
theorem dX16_roots_245 : decode cX16_roots 245 = .ok (.getfield 625, 3) := dk_180 2 113 (dk_at dksX16_roots_10 14 rfl rfl)
theorem dX16_roots_248 : decode cX16_roots 248 = .ok (.iload 5, 2) := dk_21 5 (dk_at dksX16_roots_10 17 rfl rfl)
theorem dX16_roots_250 : decode cX16_roots 250 = .ok (.iastore, 1) := dk_79 (dk_at dksX16_roots_10 19 rfl rfl)
theorem dX16_roots_251 : decode cX16_roots 251 = .ok (.aload_n 0, 1) := dk_42 (dk_at dksX16_roots_10 20 rfl rfl)
theorem dX16_roots_252 : decode cX16_roots 252 = .ok (.dup, 1) := dk_89 (dk_at dksX16_roots_10 21 rfl rfl)
theorem dX16_roots_253 : decode cX16_roots 253 = .ok (.getfield 625, 3) := dk_180 2 113 (dk_at dksX16_roots_11 0 rfl rfl)
theorem dX16_roots_256 : decode cX16_roots 256 = .ok (.iconst 1, 1) := dk_4 (dk_at dksX16_roots_11 3 rfl rfl)
theorem dX16_roots_257 : decode cX16_roots 257 = .ok (.iadd, 1) := dk_96 (dk_at dksX16_roots_11 4 rfl rfl)
theorem dX16_roots_258 : decode cX16_roots 258 = .ok (.putfield 625, 3) := dk_181 2 113 (dk_at dksX16_roots_11 5 rfl rfl)
theorem dX16_roots_261 : decode cX16_roots 261 = .ok (.iload 6, 2) := dk_21 6 (dk_at dksX16_roots_11 8 rfl rfl)
theorem dX16_roots_263 : decode cX16_roots 263 = .ok (.iconst 2, 1) := dk_5 (dk_at dksX16_roots_11 10 rfl rfl)
theorem dX16_roots_264 : decode cX16_roots 264 = .ok (.if_icmp .ge 6, 3) := dk_162 0 6 (dk_at dksX16_roots_11 11 rfl rfl)
theorem dX16_roots_267 : decode cX16_roots 267 = .ok (.goto (-121), 3) := dk_167 255 135 (dk_at dksX16_roots_11 14 rfl rfl)
theorem dX16_roots_270 : decode cX16_roots 270 = .ok (.aload_n 0, 1) := dk_42 (dk_at dksX16_roots_11 17 rfl rfl)
theorem dX16_roots_271 : decode cX16_roots 271 = .ok (.getfield 329, 3) := dk_180 1 73 (dk_at dksX16_roots_11 18 rfl rfl)
theorem dX16_roots_274 : decode cX16_roots 274 = .ok (.aload 4, 2) := dk_25 4 (dk_at dksX16_roots_11 21 rfl rfl)
theorem dX16_roots_276 : decode cX16_roots 276 = .ok (.aload 4, 2) := dk_25 4 (dk_at dksX16_roots_12 0 rfl rfl)
theorem dX16_roots_278 : decode cX16_roots 278 = .ok (.iconst 1, 1) := dk_4 (dk_at dksX16_roots_12 2 rfl rfl)
theorem dX16_roots_279 : decode cX16_roots 279 = .ok (.invokestatic 111, 3) := dk_184 0 111 (dk_at dksX16_roots_12 3 rfl rfl)
theorem dX16_roots_282 : decode cX16_roots 282 = .ok (.aload_n 0, 1) := dk_42 (dk_at dksX16_roots_12 6 rfl rfl)
theorem dX16_roots_283 : decode cX16_roots 283 = .ok (.getfield 372, 3) := dk_180 1 116 (dk_at dksX16_roots_12 7 rfl rfl)
theorem dX16_roots_286 : decode cX16_roots 286 = .ok (.iload_n 3, 1) := dk_29 (dk_at dksX16_roots_12 10 rfl rfl)
theorem dX16_roots_287 : decode cX16_roots 287 = .ok (.iconst 1, 1) := dk_4 (dk_at dksX16_roots_12 11 rfl rfl)
theorem dX16_roots_288 : decode cX16_roots 288 = .ok (.iadd, 1) := dk_96 (dk_at dksX16_roots_12 12 rfl rfl)
theorem dX16_roots_289 : decode cX16_roots 289 = .ok (.aaload, 1) := dk_50 (dk_at dksX16_roots_12 13 rfl rfl)
theorem dX16_roots_290 : decode cX16_roots 290 = .ok (.aload_n 0, 1) := dk_42 (dk_at dksX16_roots_12 14 rfl rfl)
theorem dX16_roots_291 : decode cX16_roots 291 = .ok (.getfield 329, 3) := dk_180 1 73 (dk_at dksX16_roots_12 15 rfl rfl)
theorem dX16_roots_294 : decode cX16_roots 294 = .ok (.invokevirtual 18, 3) := dk_182 0 18 (dk_at dksX16_roots_12 18 rfl rfl)
theorem dX16_roots_297 : decode cX16_roots 297 = .ok (.aload_n 0, 1) := dk_42 (dk_at dksX16_roots_12 21 rfl rfl)
theorem dX16_roots_298 : decode cX16_roots 298 = .ok (.getfield 329, 3) := dk_180 1 73 (dk_at dksX16_roots_13 0 rfl rfl)
theorem dX16_roots_301 : decode cX16_roots 301 = .ok (.ldc2_w 496, 3) := dk_20 1 240 (dk_at dksX16_roots_13 3 rfl rfl)
theorem dX16_roots_304 : decode cX16_roots 304 = .ok (.invokevirtual 83, 3) := dk_182 0 83 (dk_at dksX16_roots_13 6 rfl rfl)
theorem dX16_roots_307 : decode cX16_roots 307 = .ok (.aload_n 0, 1) := dk_42 (dk_at dksX16_roots_13 9 rfl rfl)
theorem dX16_roots_308 : decode cX16_roots 308 = .ok (.getfield 372, 3) := dk_180 1 116 (dk_at dksX16_roots_13 10 rfl rfl)
theorem dX16_roots_311 : decode cX16_roots 311 = .ok (.iload_n 3, 1) := dk_29 (dk_at dksX16_roots_13 13 rfl rfl)
theorem dX16_roots_312 : decode cX16_roots 312 = .ok (.aaload, 1) := dk_50 (dk_at dksX16_roots_13 14 rfl rfl)
theorem dX16_roots_313 : decode cX16_roots 313 = .ok (.aload_n 0, 1) := dk_42 (dk_at dksX16_roots_13 15 rfl rfl)
theorem dX16_roots_314 : decode cX16_roots 314 = .ok (.getfield 372, 3) := dk_180 1 116 (dk_at dksX16_roots_13 16 rfl rfl)
theorem dX16_roots_317 : decode cX16_roots 317 = .ok (.iload_n 3, 1) := dk_29 (dk_at dksX16_roots_13 19 rfl rfl)
theorem dX16_roots_318 : decode cX16_roots 318 = .ok (.iconst 1, 1) := dk_4 (dk_at dksX16_roots_13 20 rfl rfl)
theorem dX16_roots_319 : decode cX16_roots 319 = .ok (.iadd, 1) := dk_96 (dk_at dksX16_roots_13 21 rfl rfl)
theorem dX16_roots_320 : decode cX16_roots 320 = .ok (.aaload, 1) := dk_50 (dk_at dksX16_roots_13 22 rfl rfl)
theorem dX16_roots_321 : decode cX16_roots 321 = .ok (.aload_n 0, 1) := dk_42 (dk_at dksX16_roots_13 23 rfl rfl)
theorem dX16_roots_322 : decode cX16_roots 322 = .ok (.getfield 329, 3) := dk_180 1 73 (dk_at dksX16_roots_14 0 rfl rfl)
theorem dX16_roots_325 : decode cX16_roots 325 = .ok (.iconst 1, 1) := dk_4 (dk_at dksX16_roots_14 3 rfl rfl)
theorem dX16_roots_326 : decode cX16_roots 326 = .ok (.invokestatic 111, 3) := dk_184 0 111 (dk_at dksX16_roots_14 4 rfl rfl)
theorem dX16_roots_329 : decode cX16_roots 329 = .ok (.aload_n 0, 1) := dk_42 (dk_at dksX16_roots_14 7 rfl rfl)
theorem dX16_roots_330 : decode cX16_roots 330 = .ok (.getfield 375, 3) := dk_180 1 119 (dk_at dksX16_roots_14 8 rfl rfl)
theorem dX16_roots_333 : decode cX16_roots 333 = .ok (.iload_n 3, 1) := dk_29 (dk_at dksX16_roots_14 11 rfl rfl)
theorem dX16_roots_334 : decode cX16_roots 334 = .ok (.iload 5, 2) := dk_21 5 (dk_at dksX16_roots_14 12 rfl rfl)
theorem dX16_roots_336 : decode cX16_roots 336 = .ok (.iconst 1, 1) := dk_4 (dk_at dksX16_roots_14 14 rfl rfl)
theorem dX16_roots_337 : decode cX16_roots 337 = .ok (.iadd, 1) := dk_96 (dk_at dksX16_roots_14 15 rfl rfl)
theorem dX16_roots_338 : decode cX16_roots 338 = .ok (.iastore, 1) := dk_79 (dk_at dksX16_roots_14 16 rfl rfl)
theorem dX16_roots_339 : decode cX16_roots 339 = .ok (.aload_n 0, 1) := dk_42 (dk_at dksX16_roots_14 17 rfl rfl)
theorem dX16_roots_340 : decode cX16_roots 340 = .ok (.getfield 375, 3) := dk_180 1 119 (dk_at dksX16_roots_14 18 rfl rfl)
theorem dX16_roots_343 : decode cX16_roots 343 = .ok (.iload_n 3, 1) := dk_29 (dk_at dksX16_roots_14 21 rfl rfl)
theorem dX16_roots_344 : decode cX16_roots 344 = .ok (.iconst 1, 1) := dk_4 (dk_at dksX16_roots_14 22 rfl rfl)
theorem dX16_roots_345 : decode cX16_roots 345 = .ok (.iadd, 1) := dk_96 (dk_at dksX16_roots_14 23 rfl rfl)
theorem dX16_roots_346 : decode cX16_roots 346 = .ok (.iload 5, 2) := dk_21 5 (dk_at dksX16_roots_15 0 rfl rfl)
theorem dX16_roots_348 : decode cX16_roots 348 = .ok (.iconst 1, 1) := dk_4 (dk_at dksX16_roots_15 2 rfl rfl)
theorem dX16_roots_349 : decode cX16_roots 349 = .ok (.iadd, 1) := dk_96 (dk_at dksX16_roots_15 3 rfl rfl)
theorem dX16_roots_350 : decode cX16_roots 350 = .ok (.iastore, 1) := dk_79 (dk_at dksX16_roots_15 4 rfl rfl)
theorem dX16_roots_351 : decode cX16_roots 351 = .ok (.iinc 3 2, 3) := dk_132 3 2 (dk_at dksX16_roots_15 5 rfl rfl)
theorem dX16_roots_354 : decode cX16_roots 354 = .ok (.goto (-208), 3) := dk_167 255 48 (dk_at dksX16_roots_15 8 rfl rfl)
theorem dX16_roots_357 : decode cX16_roots 357 = .ok (.aload_n 0, 1) := dk_42 (dk_at dksX16_roots_15 11 rfl rfl)
theorem dX16_roots_358 : decode cX16_roots 358 = .ok (.getfield 625, 3) := dk_180 2 113 (dk_at dksX16_roots_15 12 rfl rfl)
theorem dX16_roots_361 : decode cX16_roots 361 = .ok (.ireturn, 1) := dk_172 (dk_at dksX16_roots_15 15 rfl rfl)
abbrev cX16_isUni : ByteArray := prog_21_method_83_code
def yX16_isUni : MethodName := ⟨RX16, "isUni", "(LIdealCourtModel$Poly;)Z"⟩
def dkwX16_isUni_5 : List UInt8 := [182, 0, 75, 80, 132, 3, 1, 167, 255, 178, 42, 43, 182, 1, 185, 181, 2, 99, 4, 172]
abbrev dktX16_isUni_5 : List UInt8 := dkwX16_isUni_5 ++ []
def dkwX16_isUni_4 : List UInt8 := [167, 255, 218, 42, 180, 1, 114, 43, 180, 0, 167, 29, 46, 184, 0, 125, 43, 180, 0, 170, 29, 50]
abbrev dktX16_isUni_4 : List UInt8 := dkwX16_isUni_4 ++ dktX16_isUni_5
def dkwX16_isUni_3 : List UInt8 := [184, 0, 119, 158, 0, 18, 28, 155, 0, 11, 28, 21, 4, 159, 0, 5, 3, 172, 21, 4, 61, 132, 4, 1]
abbrev dktX16_isUni_3 : List UInt8 := dkwX16_isUni_3 ++ dktX16_isUni_4
def dkwX16_isUni_2 : List UInt8 := [180, 0, 162, 162, 0, 76, 3, 54, 4, 21, 4, 6, 162, 0, 38, 43, 180, 0, 167, 29, 46, 21, 4]
abbrev dktX16_isUni_2 : List UInt8 := dkwX16_isUni_2 ++ dktX16_isUni_3
def dkwX16_isUni_1 : List UInt8 := [29, 16, 8, 163, 0, 16, 42, 180, 1, 114, 29, 9, 80, 132, 3, 1, 167, 255, 240, 3, 62, 29, 43]
abbrev dktX16_isUni_1 : List UInt8 := dkwX16_isUni_1 ++ dktX16_isUni_2
def dkwX16_isUni_0 : List UInt8 := [43, 182, 1, 185, 16, 8, 163, 0, 12, 43, 16, 99, 182, 2, 10, 154, 0, 5, 3, 172, 2, 61, 3, 62]
abbrev dktX16_isUni_0 : List UInt8 := dkwX16_isUni_0 ++ dktX16_isUni_1
theorem dksX16_isUni_0 : cX16_isUni.data.toList.drop 0 = dktX16_isUni_0 := by decide +kernel
theorem dksX16_isUni_1 : cX16_isUni.data.toList.drop 24 = dktX16_isUni_1 := dk_seg dksX16_isUni_0 24 rfl rfl
theorem dksX16_isUni_2 : cX16_isUni.data.toList.drop 47 = dktX16_isUni_2 := dk_seg dksX16_isUni_1 23 rfl rfl
theorem dksX16_isUni_3 : cX16_isUni.data.toList.drop 70 = dktX16_isUni_3 := dk_seg dksX16_isUni_2 23 rfl rfl
theorem dksX16_isUni_4 : cX16_isUni.data.toList.drop 94 = dktX16_isUni_4 := dk_seg dksX16_isUni_3 24 rfl rfl
theorem dksX16_isUni_5 : cX16_isUni.data.toList.drop 116 = dktX16_isUni_5 := dk_seg dksX16_isUni_4 22 rfl rfl
theorem dX16_isUni_0 : decode cX16_isUni 0 = .ok (.aload_n 1, 1) := dk_43 (dk_at dksX16_isUni_0 0 rfl rfl)
theorem dX16_isUni_1 : decode cX16_isUni 1 = .ok (.invokevirtual 441, 3) := dk_182 1 185 (dk_at dksX16_isUni_0 1 rfl rfl)
theorem dX16_isUni_4 : decode cX16_isUni 4 = .ok (.bipush 8, 2) := dk_16 8 (dk_at dksX16_isUni_0 4 rfl rfl)
theorem dX16_isUni_6 : decode cX16_isUni 6 = .ok (.if_icmp .gt 12, 3) := dk_163 0 12 (dk_at dksX16_isUni_0 6 rfl rfl)
theorem dX16_isUni_9 : decode cX16_isUni 9 = .ok (.aload_n 1, 1) := dk_43 (dk_at dksX16_isUni_0 9 rfl rfl)
theorem dX16_isUni_10 : decode cX16_isUni 10 = .ok (.bipush 99, 2) := dk_16 99 (dk_at dksX16_isUni_0 10 rfl rfl)
theorem dX16_isUni_12 : decode cX16_isUni 12 = .ok (.invokevirtual 522, 3) := dk_182 2 10 (dk_at dksX16_isUni_0 12 rfl rfl)
theorem dX16_isUni_15 : decode cX16_isUni 15 = .ok (.ifCond .ne 5, 3) := dk_154 0 5 (dk_at dksX16_isUni_0 15 rfl rfl)
theorem dX16_isUni_18 : decode cX16_isUni 18 = .ok (.iconst 0, 1) := dk_3 (dk_at dksX16_isUni_0 18 rfl rfl)
theorem dX16_isUni_19 : decode cX16_isUni 19 = .ok (.ireturn, 1) := dk_172 (dk_at dksX16_isUni_0 19 rfl rfl)
theorem dX16_isUni_20 : decode cX16_isUni 20 = .ok (.iconst (-1), 1) := dk_2 (dk_at dksX16_isUni_0 20 rfl rfl)
theorem dX16_isUni_21 : decode cX16_isUni 21 = .ok (.istore_n 2, 1) := dk_61 (dk_at dksX16_isUni_0 21 rfl rfl)
theorem dX16_isUni_22 : decode cX16_isUni 22 = .ok (.iconst 0, 1) := dk_3 (dk_at dksX16_isUni_0 22 rfl rfl)
theorem dX16_isUni_23 : decode cX16_isUni 23 = .ok (.istore_n 3, 1) := dk_62 (dk_at dksX16_isUni_0 23 rfl rfl)
theorem dX16_isUni_24 : decode cX16_isUni 24 = .ok (.iload_n 3, 1) := dk_29 (dk_at dksX16_isUni_1 0 rfl rfl)
theorem dX16_isUni_25 : decode cX16_isUni 25 = .ok (.bipush 8, 2) := dk_16 8 (dk_at dksX16_isUni_1 1 rfl rfl)
theorem dX16_isUni_27 : decode cX16_isUni 27 = .ok (.if_icmp .gt 16, 3) := dk_163 0 16 (dk_at dksX16_isUni_1 3 rfl rfl)
theorem dX16_isUni_30 : decode cX16_isUni 30 = .ok (.aload_n 0, 1) := dk_42 (dk_at dksX16_isUni_1 6 rfl rfl)
theorem dX16_isUni_31 : decode cX16_isUni 31 = .ok (.getfield 370, 3) := dk_180 1 114 (dk_at dksX16_isUni_1 7 rfl rfl)
theorem dX16_isUni_34 : decode cX16_isUni 34 = .ok (.iload_n 3, 1) := dk_29 (dk_at dksX16_isUni_1 10 rfl rfl)
theorem dX16_isUni_35 : decode cX16_isUni 35 = .ok (.lconst 0, 1) := dk_9 (dk_at dksX16_isUni_1 11 rfl rfl)
theorem dX16_isUni_36 : decode cX16_isUni 36 = .ok (.lastore, 1) := dk_80 (dk_at dksX16_isUni_1 12 rfl rfl)
theorem dX16_isUni_37 : decode cX16_isUni 37 = .ok (.iinc 3 1, 3) := dk_132 3 1 (dk_at dksX16_isUni_1 13 rfl rfl)
theorem dX16_isUni_40 : decode cX16_isUni 40 = .ok (.goto (-16), 3) := dk_167 255 240 (dk_at dksX16_isUni_1 16 rfl rfl)
theorem dX16_isUni_43 : decode cX16_isUni 43 = .ok (.iconst 0, 1) := dk_3 (dk_at dksX16_isUni_1 19 rfl rfl)
theorem dX16_isUni_44 : decode cX16_isUni 44 = .ok (.istore_n 3, 1) := dk_62 (dk_at dksX16_isUni_1 20 rfl rfl)
theorem dX16_isUni_45 : decode cX16_isUni 45 = .ok (.iload_n 3, 1) := dk_29 (dk_at dksX16_isUni_1 21 rfl rfl)
theorem dX16_isUni_46 : decode cX16_isUni 46 = .ok (.aload_n 1, 1) := dk_43 (dk_at dksX16_isUni_1 22 rfl rfl)
theorem dX16_isUni_47 : decode cX16_isUni 47 = .ok (.getfield 162, 3) := dk_180 0 162 (dk_at dksX16_isUni_2 0 rfl rfl)
theorem dX16_isUni_50 : decode cX16_isUni 50 = .ok (.if_icmp .ge 76, 3) := dk_162 0 76 (dk_at dksX16_isUni_2 3 rfl rfl)
theorem dX16_isUni_53 : decode cX16_isUni 53 = .ok (.iconst 0, 1) := dk_3 (dk_at dksX16_isUni_2 6 rfl rfl)
theorem dX16_isUni_54 : decode cX16_isUni 54 = .ok (.istore 4, 2) := dk_54 4 (dk_at dksX16_isUni_2 7 rfl rfl)
theorem dX16_isUni_56 : decode cX16_isUni 56 = .ok (.iload 4, 2) := dk_21 4 (dk_at dksX16_isUni_2 9 rfl rfl)
theorem dX16_isUni_58 : decode cX16_isUni 58 = .ok (.iconst 3, 1) := dk_6 (dk_at dksX16_isUni_2 11 rfl rfl)
theorem dX16_isUni_59 : decode cX16_isUni 59 = .ok (.if_icmp .ge 38, 3) := dk_162 0 38 (dk_at dksX16_isUni_2 12 rfl rfl)
theorem dX16_isUni_62 : decode cX16_isUni 62 = .ok (.aload_n 1, 1) := dk_43 (dk_at dksX16_isUni_2 15 rfl rfl)
theorem dX16_isUni_63 : decode cX16_isUni 63 = .ok (.getfield 167, 3) := dk_180 0 167 (dk_at dksX16_isUni_2 16 rfl rfl)
theorem dX16_isUni_66 : decode cX16_isUni 66 = .ok (.iload_n 3, 1) := dk_29 (dk_at dksX16_isUni_2 19 rfl rfl)
theorem dX16_isUni_67 : decode cX16_isUni 67 = .ok (.iaload, 1) := dk_46 (dk_at dksX16_isUni_2 20 rfl rfl)
theorem dX16_isUni_68 : decode cX16_isUni 68 = .ok (.iload 4, 2) := dk_21 4 (dk_at dksX16_isUni_2 21 rfl rfl)
theorem dX16_isUni_70 : decode cX16_isUni 70 = .ok (.invokestatic 119, 3) := dk_184 0 119 (dk_at dksX16_isUni_3 0 rfl rfl)
theorem dX16_isUni_73 : decode cX16_isUni 73 = .ok (.ifCond .le 18, 3) := dk_158 0 18 (dk_at dksX16_isUni_3 3 rfl rfl)
theorem dX16_isUni_76 : decode cX16_isUni 76 = .ok (.iload_n 2, 1) := dk_28 (dk_at dksX16_isUni_3 6 rfl rfl)
theorem dX16_isUni_77 : decode cX16_isUni 77 = .ok (.ifCond .lt 11, 3) := dk_155 0 11 (dk_at dksX16_isUni_3 7 rfl rfl)
theorem dX16_isUni_80 : decode cX16_isUni 80 = .ok (.iload_n 2, 1) := dk_28 (dk_at dksX16_isUni_3 10 rfl rfl)
theorem dX16_isUni_81 : decode cX16_isUni 81 = .ok (.iload 4, 2) := dk_21 4 (dk_at dksX16_isUni_3 11 rfl rfl)
theorem dX16_isUni_83 : decode cX16_isUni 83 = .ok (.if_icmp .eq 5, 3) := dk_159 0 5 (dk_at dksX16_isUni_3 13 rfl rfl)
theorem dX16_isUni_86 : decode cX16_isUni 86 = .ok (.iconst 0, 1) := dk_3 (dk_at dksX16_isUni_3 16 rfl rfl)
theorem dX16_isUni_87 : decode cX16_isUni 87 = .ok (.ireturn, 1) := dk_172 (dk_at dksX16_isUni_3 17 rfl rfl)
theorem dX16_isUni_88 : decode cX16_isUni 88 = .ok (.iload 4, 2) := dk_21 4 (dk_at dksX16_isUni_3 18 rfl rfl)
theorem dX16_isUni_90 : decode cX16_isUni 90 = .ok (.istore_n 2, 1) := dk_61 (dk_at dksX16_isUni_3 20 rfl rfl)
theorem dX16_isUni_91 : decode cX16_isUni 91 = .ok (.iinc 4 1, 3) := dk_132 4 1 (dk_at dksX16_isUni_3 21 rfl rfl)
theorem dX16_isUni_94 : decode cX16_isUni 94 = .ok (.goto (-38), 3) := dk_167 255 218 (dk_at dksX16_isUni_4 0 rfl rfl)
theorem dX16_isUni_97 : decode cX16_isUni 97 = .ok (.aload_n 0, 1) := dk_42 (dk_at dksX16_isUni_4 3 rfl rfl)
theorem dX16_isUni_98 : decode cX16_isUni 98 = .ok (.getfield 370, 3) := dk_180 1 114 (dk_at dksX16_isUni_4 4 rfl rfl)
theorem dX16_isUni_101 : decode cX16_isUni 101 = .ok (.aload_n 1, 1) := dk_43 (dk_at dksX16_isUni_4 7 rfl rfl)
theorem dX16_isUni_102 : decode cX16_isUni 102 = .ok (.getfield 167, 3) := dk_180 0 167 (dk_at dksX16_isUni_4 8 rfl rfl)
theorem dX16_isUni_105 : decode cX16_isUni 105 = .ok (.iload_n 3, 1) := dk_29 (dk_at dksX16_isUni_4 11 rfl rfl)
theorem dX16_isUni_106 : decode cX16_isUni 106 = .ok (.iaload, 1) := dk_46 (dk_at dksX16_isUni_4 12 rfl rfl)
theorem dX16_isUni_107 : decode cX16_isUni 107 = .ok (.invokestatic 125, 3) := dk_184 0 125 (dk_at dksX16_isUni_4 13 rfl rfl)
theorem dX16_isUni_110 : decode cX16_isUni 110 = .ok (.aload_n 1, 1) := dk_43 (dk_at dksX16_isUni_4 16 rfl rfl)
theorem dX16_isUni_111 : decode cX16_isUni 111 = .ok (.getfield 170, 3) := dk_180 0 170 (dk_at dksX16_isUni_4 17 rfl rfl)
theorem dX16_isUni_114 : decode cX16_isUni 114 = .ok (.iload_n 3, 1) := dk_29 (dk_at dksX16_isUni_4 20 rfl rfl)
theorem dX16_isUni_115 : decode cX16_isUni 115 = .ok (.aaload, 1) := dk_50 (dk_at dksX16_isUni_4 21 rfl rfl)
theorem dX16_isUni_116 : decode cX16_isUni 116 = .ok (.invokevirtual 75, 3) := dk_182 0 75 (dk_at dksX16_isUni_5 0 rfl rfl)
theorem dX16_isUni_119 : decode cX16_isUni 119 = .ok (.lastore, 1) := dk_80 (dk_at dksX16_isUni_5 3 rfl rfl)
theorem dX16_isUni_120 : decode cX16_isUni 120 = .ok (.iinc 3 1, 3) := dk_132 3 1 (dk_at dksX16_isUni_5 4 rfl rfl)
theorem dX16_isUni_123 : decode cX16_isUni 123 = .ok (.goto (-78), 3) := dk_167 255 178 (dk_at dksX16_isUni_5 7 rfl rfl)
theorem dX16_isUni_126 : decode cX16_isUni 126 = .ok (.aload_n 0, 1) := dk_42 (dk_at dksX16_isUni_5 10 rfl rfl)
theorem dX16_isUni_127 : decode cX16_isUni 127 = .ok (.aload_n 1, 1) := dk_43 (dk_at dksX16_isUni_5 11 rfl rfl)
theorem dX16_isUni_128 : decode cX16_isUni 128 = .ok (.invokevirtual 441, 3) := dk_182 1 185 (dk_at dksX16_isUni_5 12 rfl rfl)
theorem dX16_isUni_131 : decode cX16_isUni 131 = .ok (.putfield 611, 3) := dk_181 2 99 (dk_at dksX16_isUni_5 15 rfl rfl)
theorem dX16_isUni_134 : decode cX16_isUni 134 = .ok (.iconst 1, 1) := dk_4 (dk_at dksX16_isUni_5 18 rfl rfl)
theorem dX16_isUni_135 : decode cX16_isUni 135 = .ok (.ireturn, 1) := dk_172 (dk_at dksX16_isUni_5 19 rfl rfl)
abbrev cX16_makeSimple : ByteArray := prog_21_method_84_code
def yX16_makeSimple : MethodName := ⟨RX16, "makeSimple", "()V"⟩
def dkwX16_makeSimple_9 : List UInt8 := [96, 62, 29, 16, 8, 163, 0, 16, 42, 180, 1, 114, 29, 9, 80, 132, 3, 1, 167, 255, 240, 177]
abbrev dktX16_makeSimple_9 : List UInt8 := dkwX16_makeSimple_9 ++ []
def dkwX16_makeSimple_8 : List UInt8 := [167, 255, 205, 132, 3, 255, 167, 255, 159, 42, 89, 180, 2, 99, 28, 100, 181, 2, 99, 42, 180, 2, 99, 4]
abbrev dktX16_makeSimple_8 : List UInt8 := dkwX16_makeSimple_8 ++ dktX16_makeSimple_9
def dkwX16_makeSimple_7 : List UInt8 := [21, 4, 96, 50, 42, 180, 1, 86, 29, 21, 4, 96, 50, 42, 180, 1, 52, 2, 184, 0, 111, 132, 4, 1]
abbrev dktX16_makeSimple_7 : List UInt8 := dkwX16_makeSimple_7 ++ dktX16_makeSimple_8
def dkwX16_makeSimple_6 : List UInt8 := [163, 0, 51, 42, 42, 180, 1, 52, 42, 180, 1, 58, 43, 21, 4, 50, 182, 0, 105, 42, 180, 1, 86, 29]
abbrev dktX16_makeSimple_6 : List UInt8 := dkwX16_makeSimple_6 ++ dktX16_makeSimple_7
def dkwX16_makeSimple_5 : List UInt8 := [182, 0, 87, 42, 180, 1, 114, 29, 42, 180, 1, 58, 182, 0, 75, 80, 3, 54, 4, 21, 4, 28]
abbrev dktX16_makeSimple_5 : List UInt8 := dkwX16_makeSimple_5 ++ dktX16_makeSimple_6
def dkwX16_makeSimple_4 : List UInt8 := [62, 29, 155, 0, 99, 42, 42, 180, 1, 58, 1, 42, 180, 1, 86, 29, 28, 96, 50, 43, 28, 50]
abbrev dktX16_makeSimple_4 : List UInt8 := dkwX16_makeSimple_4 ++ dktX16_makeSimple_5
def dkwX16_makeSimple_3 : List UInt8 := [132, 3, 1, 167, 255, 230, 42, 42, 180, 1, 86, 42, 180, 2, 99, 182, 2, 88, 42, 180, 2, 99, 28, 100]
abbrev dktX16_makeSimple_3 : List UInt8 := dkwX16_makeSimple_3 ++ dktX16_makeSimple_4
def dkwX16_makeSimple_2 : List UInt8 := [29, 42, 180, 2, 99, 163, 0, 24, 42, 180, 1, 86, 29, 50, 42, 180, 1, 114, 29, 47, 182, 0, 83]
abbrev dktX16_makeSimple_2 : List UInt8 := dkwX16_makeSimple_2 ++ dktX16_makeSimple_3
def dkwX16_makeSimple_1 : List UInt8 := [42, 180, 1, 83, 42, 180, 2, 81, 4, 100, 46, 61, 28, 158, 0, 169, 42, 43, 28, 182, 2, 88, 3, 62]
abbrev dktX16_makeSimple_1 : List UInt8 := dkwX16_makeSimple_1 ++ dktX16_makeSimple_2
def dkwX16_makeSimple_0 : List UInt8 := [42, 42, 180, 1, 114, 42, 180, 2, 99, 182, 2, 102, 42, 180, 1, 80, 42, 180, 2, 81, 4, 100, 50, 76]
abbrev dktX16_makeSimple_0 : List UInt8 := dkwX16_makeSimple_0 ++ dktX16_makeSimple_1
theorem dksX16_makeSimple_0 : cX16_makeSimple.data.toList.drop 0 = dktX16_makeSimple_0 := by decide +kernel
theorem dksX16_makeSimple_1 : cX16_makeSimple.data.toList.drop 24 = dktX16_makeSimple_1 := dk_seg dksX16_makeSimple_0 24 rfl rfl
theorem dksX16_makeSimple_2 : cX16_makeSimple.data.toList.drop 48 = dktX16_makeSimple_2 := dk_seg dksX16_makeSimple_1 24 rfl rfl
theorem dksX16_makeSimple_3 : cX16_makeSimple.data.toList.drop 71 = dktX16_makeSimple_3 := dk_seg dksX16_makeSimple_2 23 rfl rfl
theorem dksX16_makeSimple_4 : cX16_makeSimple.data.toList.drop 95 = dktX16_makeSimple_4 := dk_seg dksX16_makeSimple_3 24 rfl rfl
theorem dksX16_makeSimple_5 : cX16_makeSimple.data.toList.drop 117 = dktX16_makeSimple_5 := dk_seg dksX16_makeSimple_4 22 rfl rfl
theorem dksX16_makeSimple_6 : cX16_makeSimple.data.toList.drop 139 = dktX16_makeSimple_6 := dk_seg dksX16_makeSimple_5 22 rfl rfl
theorem dksX16_makeSimple_7 : cX16_makeSimple.data.toList.drop 163 = dktX16_makeSimple_7 := dk_seg dksX16_makeSimple_6 24 rfl rfl
theorem dksX16_makeSimple_8 : cX16_makeSimple.data.toList.drop 187 = dktX16_makeSimple_8 := dk_seg dksX16_makeSimple_7 24 rfl rfl
theorem dksX16_makeSimple_9 : cX16_makeSimple.data.toList.drop 211 = dktX16_makeSimple_9 := dk_seg dksX16_makeSimple_8 24 rfl rfl
theorem dX16_makeSimple_0 : decode cX16_makeSimple 0 = .ok (.aload_n 0, 1) := dk_42 (dk_at dksX16_makeSimple_0 0 rfl rfl)
theorem dX16_makeSimple_1 : decode cX16_makeSimple 1 = .ok (.aload_n 0, 1) := dk_42 (dk_at dksX16_makeSimple_0 1 rfl rfl)
theorem dX16_makeSimple_2 : decode cX16_makeSimple 2 = .ok (.getfield 370, 3) := dk_180 1 114 (dk_at dksX16_makeSimple_0 2 rfl rfl)
theorem dX16_makeSimple_5 : decode cX16_makeSimple 5 = .ok (.aload_n 0, 1) := dk_42 (dk_at dksX16_makeSimple_0 5 rfl rfl)
theorem dX16_makeSimple_6 : decode cX16_makeSimple 6 = .ok (.getfield 611, 3) := dk_180 2 99 (dk_at dksX16_makeSimple_0 6 rfl rfl)
theorem dX16_makeSimple_9 : decode cX16_makeSimple 9 = .ok (.invokevirtual 614, 3) := dk_182 2 102 (dk_at dksX16_makeSimple_0 9 rfl rfl)
theorem dX16_makeSimple_12 : decode cX16_makeSimple 12 = .ok (.aload_n 0, 1) := dk_42 (dk_at dksX16_makeSimple_0 12 rfl rfl)
theorem dX16_makeSimple_13 : decode cX16_makeSimple 13 = .ok (.getfield 336, 3) := dk_180 1 80 (dk_at dksX16_makeSimple_0 13 rfl rfl)
theorem dX16_makeSimple_16 : decode cX16_makeSimple 16 = .ok (.aload_n 0, 1) := dk_42 (dk_at dksX16_makeSimple_0 16 rfl rfl)
theorem dX16_makeSimple_17 : decode cX16_makeSimple 17 = .ok (.getfield 593, 3) := dk_180 2 81 (dk_at dksX16_makeSimple_0 17 rfl rfl)
theorem dX16_makeSimple_20 : decode cX16_makeSimple 20 = .ok (.iconst 1, 1) := dk_4 (dk_at dksX16_makeSimple_0 20 rfl rfl)
theorem dX16_makeSimple_21 : decode cX16_makeSimple 21 = .ok (.isub, 1) := dk_100 (dk_at dksX16_makeSimple_0 21 rfl rfl)
theorem dX16_makeSimple_22 : decode cX16_makeSimple 22 = .ok (.aaload, 1) := dk_50 (dk_at dksX16_makeSimple_0 22 rfl rfl)
theorem dX16_makeSimple_23 : decode cX16_makeSimple 23 = .ok (.astore_n 1, 1) := dk_76 (dk_at dksX16_makeSimple_0 23 rfl rfl)
theorem dX16_makeSimple_24 : decode cX16_makeSimple 24 = .ok (.aload_n 0, 1) := dk_42 (dk_at dksX16_makeSimple_1 0 rfl rfl)
theorem dX16_makeSimple_25 : decode cX16_makeSimple 25 = .ok (.getfield 339, 3) := dk_180 1 83 (dk_at dksX16_makeSimple_1 1 rfl rfl)
theorem dX16_makeSimple_28 : decode cX16_makeSimple 28 = .ok (.aload_n 0, 1) := dk_42 (dk_at dksX16_makeSimple_1 4 rfl rfl)
theorem dX16_makeSimple_29 : decode cX16_makeSimple 29 = .ok (.getfield 593, 3) := dk_180 2 81 (dk_at dksX16_makeSimple_1 5 rfl rfl)
theorem dX16_makeSimple_32 : decode cX16_makeSimple 32 = .ok (.iconst 1, 1) := dk_4 (dk_at dksX16_makeSimple_1 8 rfl rfl)
theorem dX16_makeSimple_33 : decode cX16_makeSimple 33 = .ok (.isub, 1) := dk_100 (dk_at dksX16_makeSimple_1 9 rfl rfl)
theorem dX16_makeSimple_34 : decode cX16_makeSimple 34 = .ok (.iaload, 1) := dk_46 (dk_at dksX16_makeSimple_1 10 rfl rfl)
theorem dX16_makeSimple_35 : decode cX16_makeSimple 35 = .ok (.istore_n 2, 1) := dk_61 (dk_at dksX16_makeSimple_1 11 rfl rfl)
theorem dX16_makeSimple_36 : decode cX16_makeSimple 36 = .ok (.iload_n 2, 1) := dk_28 (dk_at dksX16_makeSimple_1 12 rfl rfl)
theorem dX16_makeSimple_37 : decode cX16_makeSimple 37 = .ok (.ifCond .le 169, 3) := dk_158 0 169 (dk_at dksX16_makeSimple_1 13 rfl rfl)
theorem dX16_makeSimple_40 : decode cX16_makeSimple 40 = .ok (.aload_n 0, 1) := dk_42 (dk_at dksX16_makeSimple_1 16 rfl rfl)
theorem dX16_makeSimple_41 : decode cX16_makeSimple 41 = .ok (.aload_n 1, 1) := dk_43 (dk_at dksX16_makeSimple_1 17 rfl rfl)
theorem dX16_makeSimple_42 : decode cX16_makeSimple 42 = .ok (.iload_n 2, 1) := dk_28 (dk_at dksX16_makeSimple_1 18 rfl rfl)
theorem dX16_makeSimple_43 : decode cX16_makeSimple 43 = .ok (.invokevirtual 600, 3) := dk_182 2 88 (dk_at dksX16_makeSimple_1 19 rfl rfl)
theorem dX16_makeSimple_46 : decode cX16_makeSimple 46 = .ok (.iconst 0, 1) := dk_3 (dk_at dksX16_makeSimple_1 22 rfl rfl)
theorem dX16_makeSimple_47 : decode cX16_makeSimple 47 = .ok (.istore_n 3, 1) := dk_62 (dk_at dksX16_makeSimple_1 23 rfl rfl)
theorem dX16_makeSimple_48 : decode cX16_makeSimple 48 = .ok (.iload_n 3, 1) := dk_29 (dk_at dksX16_makeSimple_2 0 rfl rfl)
theorem dX16_makeSimple_49 : decode cX16_makeSimple 49 = .ok (.aload_n 0, 1) := dk_42 (dk_at dksX16_makeSimple_2 1 rfl rfl)
theorem dX16_makeSimple_50 : decode cX16_makeSimple 50 = .ok (.getfield 611, 3) := dk_180 2 99 (dk_at dksX16_makeSimple_2 2 rfl rfl)
theorem dX16_makeSimple_53 : decode cX16_makeSimple 53 = .ok (.if_icmp .gt 24, 3) := dk_163 0 24 (dk_at dksX16_makeSimple_2 5 rfl rfl)
theorem dX16_makeSimple_56 : decode cX16_makeSimple 56 = .ok (.aload_n 0, 1) := dk_42 (dk_at dksX16_makeSimple_2 8 rfl rfl)
theorem dX16_makeSimple_57 : decode cX16_makeSimple 57 = .ok (.getfield 342, 3) := dk_180 1 86 (dk_at dksX16_makeSimple_2 9 rfl rfl)
theorem dX16_makeSimple_60 : decode cX16_makeSimple 60 = .ok (.iload_n 3, 1) := dk_29 (dk_at dksX16_makeSimple_2 12 rfl rfl)
theorem dX16_makeSimple_61 : decode cX16_makeSimple 61 = .ok (.aaload, 1) := dk_50 (dk_at dksX16_makeSimple_2 13 rfl rfl)
theorem dX16_makeSimple_62 : decode cX16_makeSimple 62 = .ok (.aload_n 0, 1) := dk_42 (dk_at dksX16_makeSimple_2 14 rfl rfl)
theorem dX16_makeSimple_63 : decode cX16_makeSimple 63 = .ok (.getfield 370, 3) := dk_180 1 114 (dk_at dksX16_makeSimple_2 15 rfl rfl)
theorem dX16_makeSimple_66 : decode cX16_makeSimple 66 = .ok (.iload_n 3, 1) := dk_29 (dk_at dksX16_makeSimple_2 18 rfl rfl)
theorem dX16_makeSimple_67 : decode cX16_makeSimple 67 = .ok (.laload, 1) := dk_47 (dk_at dksX16_makeSimple_2 19 rfl rfl)
theorem dX16_makeSimple_68 : decode cX16_makeSimple 68 = .ok (.invokevirtual 83, 3) := dk_182 0 83 (dk_at dksX16_makeSimple_2 20 rfl rfl)
theorem dX16_makeSimple_71 : decode cX16_makeSimple 71 = .ok (.iinc 3 1, 3) := dk_132 3 1 (dk_at dksX16_makeSimple_3 0 rfl rfl)
theorem dX16_makeSimple_74 : decode cX16_makeSimple 74 = .ok (.goto (-26), 3) := dk_167 255 230 (dk_at dksX16_makeSimple_3 3 rfl rfl)
theorem dX16_makeSimple_77 : decode cX16_makeSimple 77 = .ok (.aload_n 0, 1) := dk_42 (dk_at dksX16_makeSimple_3 6 rfl rfl)
theorem dX16_makeSimple_78 : decode cX16_makeSimple 78 = .ok (.aload_n 0, 1) := dk_42 (dk_at dksX16_makeSimple_3 7 rfl rfl)
theorem dX16_makeSimple_79 : decode cX16_makeSimple 79 = .ok (.getfield 342, 3) := dk_180 1 86 (dk_at dksX16_makeSimple_3 8 rfl rfl)
theorem dX16_makeSimple_82 : decode cX16_makeSimple 82 = .ok (.aload_n 0, 1) := dk_42 (dk_at dksX16_makeSimple_3 11 rfl rfl)
theorem dX16_makeSimple_83 : decode cX16_makeSimple 83 = .ok (.getfield 611, 3) := dk_180 2 99 (dk_at dksX16_makeSimple_3 12 rfl rfl)
theorem dX16_makeSimple_86 : decode cX16_makeSimple 86 = .ok (.invokevirtual 600, 3) := dk_182 2 88 (dk_at dksX16_makeSimple_3 15 rfl rfl)
theorem dX16_makeSimple_89 : decode cX16_makeSimple 89 = .ok (.aload_n 0, 1) := dk_42 (dk_at dksX16_makeSimple_3 18 rfl rfl)
theorem dX16_makeSimple_90 : decode cX16_makeSimple 90 = .ok (.getfield 611, 3) := dk_180 2 99 (dk_at dksX16_makeSimple_3 19 rfl rfl)
theorem dX16_makeSimple_93 : decode cX16_makeSimple 93 = .ok (.iload_n 2, 1) := dk_28 (dk_at dksX16_makeSimple_3 22 rfl rfl)
theorem dX16_makeSimple_94 : decode cX16_makeSimple 94 = .ok (.isub, 1) := dk_100 (dk_at dksX16_makeSimple_3 23 rfl rfl)
theorem dX16_makeSimple_95 : decode cX16_makeSimple 95 = .ok (.istore_n 3, 1) := dk_62 (dk_at dksX16_makeSimple_4 0 rfl rfl)
theorem dX16_makeSimple_96 : decode cX16_makeSimple 96 = .ok (.iload_n 3, 1) := dk_29 (dk_at dksX16_makeSimple_4 1 rfl rfl)
theorem dX16_makeSimple_97 : decode cX16_makeSimple 97 = .ok (.ifCond .lt 99, 3) := dk_155 0 99 (dk_at dksX16_makeSimple_4 2 rfl rfl)
theorem dX16_makeSimple_100 : decode cX16_makeSimple 100 = .ok (.aload_n 0, 1) := dk_42 (dk_at dksX16_makeSimple_4 5 rfl rfl)
theorem dX16_makeSimple_101 : decode cX16_makeSimple 101 = .ok (.aload_n 0, 1) := dk_42 (dk_at dksX16_makeSimple_4 6 rfl rfl)
theorem dX16_makeSimple_102 : decode cX16_makeSimple 102 = .ok (.getfield 314, 3) := dk_180 1 58 (dk_at dksX16_makeSimple_4 7 rfl rfl)
theorem dX16_makeSimple_105 : decode cX16_makeSimple 105 = .ok (.aconst_null, 1) := dk_1 (dk_at dksX16_makeSimple_4 10 rfl rfl)
theorem dX16_makeSimple_106 : decode cX16_makeSimple 106 = .ok (.aload_n 0, 1) := dk_42 (dk_at dksX16_makeSimple_4 11 rfl rfl)
theorem dX16_makeSimple_107 : decode cX16_makeSimple 107 = .ok (.getfield 342, 3) := dk_180 1 86 (dk_at dksX16_makeSimple_4 12 rfl rfl)
theorem dX16_makeSimple_110 : decode cX16_makeSimple 110 = .ok (.iload_n 3, 1) := dk_29 (dk_at dksX16_makeSimple_4 15 rfl rfl)
theorem dX16_makeSimple_111 : decode cX16_makeSimple 111 = .ok (.iload_n 2, 1) := dk_28 (dk_at dksX16_makeSimple_4 16 rfl rfl)
theorem dX16_makeSimple_112 : decode cX16_makeSimple 112 = .ok (.iadd, 1) := dk_96 (dk_at dksX16_makeSimple_4 17 rfl rfl)
theorem dX16_makeSimple_113 : decode cX16_makeSimple 113 = .ok (.aaload, 1) := dk_50 (dk_at dksX16_makeSimple_4 18 rfl rfl)
theorem dX16_makeSimple_114 : decode cX16_makeSimple 114 = .ok (.aload_n 1, 1) := dk_43 (dk_at dksX16_makeSimple_4 19 rfl rfl)
theorem dX16_makeSimple_115 : decode cX16_makeSimple 115 = .ok (.iload_n 2, 1) := dk_28 (dk_at dksX16_makeSimple_4 20 rfl rfl)
theorem dX16_makeSimple_116 : decode cX16_makeSimple 116 = .ok (.aaload, 1) := dk_50 (dk_at dksX16_makeSimple_4 21 rfl rfl)
theorem dX16_makeSimple_117 : decode cX16_makeSimple 117 = .ok (.invokevirtual 87, 3) := dk_182 0 87 (dk_at dksX16_makeSimple_5 0 rfl rfl)
theorem dX16_makeSimple_120 : decode cX16_makeSimple 120 = .ok (.aload_n 0, 1) := dk_42 (dk_at dksX16_makeSimple_5 3 rfl rfl)
theorem dX16_makeSimple_121 : decode cX16_makeSimple 121 = .ok (.getfield 370, 3) := dk_180 1 114 (dk_at dksX16_makeSimple_5 4 rfl rfl)
theorem dX16_makeSimple_124 : decode cX16_makeSimple 124 = .ok (.iload_n 3, 1) := dk_29 (dk_at dksX16_makeSimple_5 7 rfl rfl)
theorem dX16_makeSimple_125 : decode cX16_makeSimple 125 = .ok (.aload_n 0, 1) := dk_42 (dk_at dksX16_makeSimple_5 8 rfl rfl)
theorem dX16_makeSimple_126 : decode cX16_makeSimple 126 = .ok (.getfield 314, 3) := dk_180 1 58 (dk_at dksX16_makeSimple_5 9 rfl rfl)
theorem dX16_makeSimple_129 : decode cX16_makeSimple 129 = .ok (.invokevirtual 75, 3) := dk_182 0 75 (dk_at dksX16_makeSimple_5 12 rfl rfl)
theorem dX16_makeSimple_132 : decode cX16_makeSimple 132 = .ok (.lastore, 1) := dk_80 (dk_at dksX16_makeSimple_5 15 rfl rfl)
theorem dX16_makeSimple_133 : decode cX16_makeSimple 133 = .ok (.iconst 0, 1) := dk_3 (dk_at dksX16_makeSimple_5 16 rfl rfl)
theorem dX16_makeSimple_134 : decode cX16_makeSimple 134 = .ok (.istore 4, 2) := dk_54 4 (dk_at dksX16_makeSimple_5 17 rfl rfl)
theorem dX16_makeSimple_136 : decode cX16_makeSimple 136 = .ok (.iload 4, 2) := dk_21 4 (dk_at dksX16_makeSimple_5 19 rfl rfl)
theorem dX16_makeSimple_138 : decode cX16_makeSimple 138 = .ok (.iload_n 2, 1) := dk_28 (dk_at dksX16_makeSimple_5 21 rfl rfl)
theorem dX16_makeSimple_139 : decode cX16_makeSimple 139 = .ok (.if_icmp .gt 51, 3) := dk_163 0 51 (dk_at dksX16_makeSimple_6 0 rfl rfl)
theorem dX16_makeSimple_142 : decode cX16_makeSimple 142 = .ok (.aload_n 0, 1) := dk_42 (dk_at dksX16_makeSimple_6 3 rfl rfl)
theorem dX16_makeSimple_143 : decode cX16_makeSimple 143 = .ok (.aload_n 0, 1) := dk_42 (dk_at dksX16_makeSimple_6 4 rfl rfl)
theorem dX16_makeSimple_144 : decode cX16_makeSimple 144 = .ok (.getfield 308, 3) := dk_180 1 52 (dk_at dksX16_makeSimple_6 5 rfl rfl)
theorem dX16_makeSimple_147 : decode cX16_makeSimple 147 = .ok (.aload_n 0, 1) := dk_42 (dk_at dksX16_makeSimple_6 8 rfl rfl)
theorem dX16_makeSimple_148 : decode cX16_makeSimple 148 = .ok (.getfield 314, 3) := dk_180 1 58 (dk_at dksX16_makeSimple_6 9 rfl rfl)
theorem dX16_makeSimple_151 : decode cX16_makeSimple 151 = .ok (.aload_n 1, 1) := dk_43 (dk_at dksX16_makeSimple_6 12 rfl rfl)
theorem dX16_makeSimple_152 : decode cX16_makeSimple 152 = .ok (.iload 4, 2) := dk_21 4 (dk_at dksX16_makeSimple_6 13 rfl rfl)
theorem dX16_makeSimple_154 : decode cX16_makeSimple 154 = .ok (.aaload, 1) := dk_50 (dk_at dksX16_makeSimple_6 15 rfl rfl)
theorem dX16_makeSimple_155 : decode cX16_makeSimple 155 = .ok (.invokevirtual 105, 3) := dk_182 0 105 (dk_at dksX16_makeSimple_6 16 rfl rfl)
theorem dX16_makeSimple_158 : decode cX16_makeSimple 158 = .ok (.aload_n 0, 1) := dk_42 (dk_at dksX16_makeSimple_6 19 rfl rfl)
theorem dX16_makeSimple_159 : decode cX16_makeSimple 159 = .ok (.getfield 342, 3) := dk_180 1 86 (dk_at dksX16_makeSimple_6 20 rfl rfl)
theorem dX16_makeSimple_162 : decode cX16_makeSimple 162 = .ok (.iload_n 3, 1) := dk_29 (dk_at dksX16_makeSimple_6 23 rfl rfl)
theorem dX16_makeSimple_163 : decode cX16_makeSimple 163 = .ok (.iload 4, 2) := dk_21 4 (dk_at dksX16_makeSimple_7 0 rfl rfl)
theorem dX16_makeSimple_165 : decode cX16_makeSimple 165 = .ok (.iadd, 1) := dk_96 (dk_at dksX16_makeSimple_7 2 rfl rfl)
theorem dX16_makeSimple_166 : decode cX16_makeSimple 166 = .ok (.aaload, 1) := dk_50 (dk_at dksX16_makeSimple_7 3 rfl rfl)
theorem dX16_makeSimple_167 : decode cX16_makeSimple 167 = .ok (.aload_n 0, 1) := dk_42 (dk_at dksX16_makeSimple_7 4 rfl rfl)
theorem dX16_makeSimple_168 : decode cX16_makeSimple 168 = .ok (.getfield 342, 3) := dk_180 1 86 (dk_at dksX16_makeSimple_7 5 rfl rfl)
theorem dX16_makeSimple_171 : decode cX16_makeSimple 171 = .ok (.iload_n 3, 1) := dk_29 (dk_at dksX16_makeSimple_7 8 rfl rfl)
theorem dX16_makeSimple_172 : decode cX16_makeSimple 172 = .ok (.iload 4, 2) := dk_21 4 (dk_at dksX16_makeSimple_7 9 rfl rfl)
theorem dX16_makeSimple_174 : decode cX16_makeSimple 174 = .ok (.iadd, 1) := dk_96 (dk_at dksX16_makeSimple_7 11 rfl rfl)
theorem dX16_makeSimple_175 : decode cX16_makeSimple 175 = .ok (.aaload, 1) := dk_50 (dk_at dksX16_makeSimple_7 12 rfl rfl)
theorem dX16_makeSimple_176 : decode cX16_makeSimple 176 = .ok (.aload_n 0, 1) := dk_42 (dk_at dksX16_makeSimple_7 13 rfl rfl)
theorem dX16_makeSimple_177 : decode cX16_makeSimple 177 = .ok (.getfield 308, 3) := dk_180 1 52 (dk_at dksX16_makeSimple_7 14 rfl rfl)
theorem dX16_makeSimple_180 : decode cX16_makeSimple 180 = .ok (.iconst (-1), 1) := dk_2 (dk_at dksX16_makeSimple_7 17 rfl rfl)
theorem dX16_makeSimple_181 : decode cX16_makeSimple 181 = .ok (.invokestatic 111, 3) := dk_184 0 111 (dk_at dksX16_makeSimple_7 18 rfl rfl)
theorem dX16_makeSimple_184 : decode cX16_makeSimple 184 = .ok (.iinc 4 1, 3) := dk_132 4 1 (dk_at dksX16_makeSimple_7 21 rfl rfl)
theorem dX16_makeSimple_187 : decode cX16_makeSimple 187 = .ok (.goto (-51), 3) := dk_167 255 205 (dk_at dksX16_makeSimple_8 0 rfl rfl)
theorem dX16_makeSimple_190 : decode cX16_makeSimple 190 = .ok (.iinc 3 (-1), 3) := dk_132 3 255 (dk_at dksX16_makeSimple_8 3 rfl rfl)
theorem dX16_makeSimple_193 : decode cX16_makeSimple 193 = .ok (.goto (-97), 3) := dk_167 255 159 (dk_at dksX16_makeSimple_8 6 rfl rfl)
theorem dX16_makeSimple_196 : decode cX16_makeSimple 196 = .ok (.aload_n 0, 1) := dk_42 (dk_at dksX16_makeSimple_8 9 rfl rfl)
theorem dX16_makeSimple_197 : decode cX16_makeSimple 197 = .ok (.dup, 1) := dk_89 (dk_at dksX16_makeSimple_8 10 rfl rfl)
theorem dX16_makeSimple_198 : decode cX16_makeSimple 198 = .ok (.getfield 611, 3) := dk_180 2 99 (dk_at dksX16_makeSimple_8 11 rfl rfl)
theorem dX16_makeSimple_201 : decode cX16_makeSimple 201 = .ok (.iload_n 2, 1) := dk_28 (dk_at dksX16_makeSimple_8 14 rfl rfl)
theorem dX16_makeSimple_202 : decode cX16_makeSimple 202 = .ok (.isub, 1) := dk_100 (dk_at dksX16_makeSimple_8 15 rfl rfl)
theorem dX16_makeSimple_203 : decode cX16_makeSimple 203 = .ok (.putfield 611, 3) := dk_181 2 99 (dk_at dksX16_makeSimple_8 16 rfl rfl)
theorem dX16_makeSimple_206 : decode cX16_makeSimple 206 = .ok (.aload_n 0, 1) := dk_42 (dk_at dksX16_makeSimple_8 19 rfl rfl)
theorem dX16_makeSimple_207 : decode cX16_makeSimple 207 = .ok (.getfield 611, 3) := dk_180 2 99 (dk_at dksX16_makeSimple_8 20 rfl rfl)
theorem dX16_makeSimple_210 : decode cX16_makeSimple 210 = .ok (.iconst 1, 1) := dk_4 (dk_at dksX16_makeSimple_8 23 rfl rfl)
theorem dX16_makeSimple_211 : decode cX16_makeSimple 211 = .ok (.iadd, 1) := dk_96 (dk_at dksX16_makeSimple_9 0 rfl rfl)
theorem dX16_makeSimple_212 : decode cX16_makeSimple 212 = .ok (.istore_n 3, 1) := dk_62 (dk_at dksX16_makeSimple_9 1 rfl rfl)
theorem dX16_makeSimple_213 : decode cX16_makeSimple 213 = .ok (.iload_n 3, 1) := dk_29 (dk_at dksX16_makeSimple_9 2 rfl rfl)
theorem dX16_makeSimple_214 : decode cX16_makeSimple 214 = .ok (.bipush 8, 2) := dk_16 8 (dk_at dksX16_makeSimple_9 3 rfl rfl)
theorem dX16_makeSimple_216 : decode cX16_makeSimple 216 = .ok (.if_icmp .gt 16, 3) := dk_163 0 16 (dk_at dksX16_makeSimple_9 5 rfl rfl)
theorem dX16_makeSimple_219 : decode cX16_makeSimple 219 = .ok (.aload_n 0, 1) := dk_42 (dk_at dksX16_makeSimple_9 8 rfl rfl)
theorem dX16_makeSimple_220 : decode cX16_makeSimple 220 = .ok (.getfield 370, 3) := dk_180 1 114 (dk_at dksX16_makeSimple_9 9 rfl rfl)
theorem dX16_makeSimple_223 : decode cX16_makeSimple 223 = .ok (.iload_n 3, 1) := dk_29 (dk_at dksX16_makeSimple_9 12 rfl rfl)
theorem dX16_makeSimple_224 : decode cX16_makeSimple 224 = .ok (.lconst 0, 1) := dk_9 (dk_at dksX16_makeSimple_9 13 rfl rfl)
theorem dX16_makeSimple_225 : decode cX16_makeSimple 225 = .ok (.lastore, 1) := dk_80 (dk_at dksX16_makeSimple_9 14 rfl rfl)
theorem dX16_makeSimple_226 : decode cX16_makeSimple 226 = .ok (.iinc 3 1, 3) := dk_132 3 1 (dk_at dksX16_makeSimple_9 15 rfl rfl)
theorem dX16_makeSimple_229 : decode cX16_makeSimple 229 = .ok (.goto (-16), 3) := dk_167 255 240 (dk_at dksX16_makeSimple_9 18 rfl rfl)
theorem dX16_makeSimple_232 : decode cX16_makeSimple 232 = .ok (.return_, 1) := dk_177 (dk_at dksX16_makeSimple_9 21 rfl rfl)
abbrev cX16_plainChain : ByteArray := prog_21_method_82_code
def yX16_plainChain : MethodName := ⟨RX16, "plainChain", "([JI)V"⟩
def dkwX16_plainChain_3 : List UInt8 := [4, 100, 79, 42, 42, 180, 1, 80, 4, 50, 28, 4, 100, 182, 2, 88, 42, 182, 2, 96, 177]
abbrev dktX16_plainChain_3 : List UInt8 := dkwX16_plainChain_3 ++ []
def dkwX16_plainChain_2 : List UInt8 := [47, 105, 182, 0, 83, 132, 3, 1, 167, 255, 229, 42, 180, 1, 83, 3, 28, 79, 42, 180, 1, 83, 4, 28]
abbrev dktX16_plainChain_2 : List UInt8 := dkwX16_plainChain_2 ++ dktX16_plainChain_3
def dkwX16_plainChain_1 : List UInt8 := [167, 255, 234, 4, 62, 29, 28, 163, 0, 28, 42, 180, 1, 80, 4, 50, 29, 4, 100, 50, 29, 133, 43, 29]
abbrev dktX16_plainChain_1 : List UInt8 := dkwX16_plainChain_1 ++ dktX16_plainChain_2
def dkwX16_plainChain_0 : List UInt8 := [3, 62, 29, 28, 163, 0, 23, 42, 180, 1, 80, 3, 50, 29, 50, 43, 29, 47, 182, 0, 83, 132, 3, 1]
abbrev dktX16_plainChain_0 : List UInt8 := dkwX16_plainChain_0 ++ dktX16_plainChain_1
theorem dksX16_plainChain_0 : cX16_plainChain.data.toList.drop 0 = dktX16_plainChain_0 := by decide +kernel
theorem dksX16_plainChain_1 : cX16_plainChain.data.toList.drop 24 = dktX16_plainChain_1 := dk_seg dksX16_plainChain_0 24 rfl rfl
theorem dksX16_plainChain_2 : cX16_plainChain.data.toList.drop 48 = dktX16_plainChain_2 := dk_seg dksX16_plainChain_1 24 rfl rfl
theorem dksX16_plainChain_3 : cX16_plainChain.data.toList.drop 72 = dktX16_plainChain_3 := dk_seg dksX16_plainChain_2 24 rfl rfl
theorem dX16_plainChain_0 : decode cX16_plainChain 0 = .ok (.iconst 0, 1) := dk_3 (dk_at dksX16_plainChain_0 0 rfl rfl)
theorem dX16_plainChain_1 : decode cX16_plainChain 1 = .ok (.istore_n 3, 1) := dk_62 (dk_at dksX16_plainChain_0 1 rfl rfl)
theorem dX16_plainChain_2 : decode cX16_plainChain 2 = .ok (.iload_n 3, 1) := dk_29 (dk_at dksX16_plainChain_0 2 rfl rfl)
theorem dX16_plainChain_3 : decode cX16_plainChain 3 = .ok (.iload_n 2, 1) := dk_28 (dk_at dksX16_plainChain_0 3 rfl rfl)
theorem dX16_plainChain_4 : decode cX16_plainChain 4 = .ok (.if_icmp .gt 23, 3) := dk_163 0 23 (dk_at dksX16_plainChain_0 4 rfl rfl)
theorem dX16_plainChain_7 : decode cX16_plainChain 7 = .ok (.aload_n 0, 1) := dk_42 (dk_at dksX16_plainChain_0 7 rfl rfl)
theorem dX16_plainChain_8 : decode cX16_plainChain 8 = .ok (.getfield 336, 3) := dk_180 1 80 (dk_at dksX16_plainChain_0 8 rfl rfl)
theorem dX16_plainChain_11 : decode cX16_plainChain 11 = .ok (.iconst 0, 1) := dk_3 (dk_at dksX16_plainChain_0 11 rfl rfl)
theorem dX16_plainChain_12 : decode cX16_plainChain 12 = .ok (.aaload, 1) := dk_50 (dk_at dksX16_plainChain_0 12 rfl rfl)
theorem dX16_plainChain_13 : decode cX16_plainChain 13 = .ok (.iload_n 3, 1) := dk_29 (dk_at dksX16_plainChain_0 13 rfl rfl)
theorem dX16_plainChain_14 : decode cX16_plainChain 14 = .ok (.aaload, 1) := dk_50 (dk_at dksX16_plainChain_0 14 rfl rfl)
theorem dX16_plainChain_15 : decode cX16_plainChain 15 = .ok (.aload_n 1, 1) := dk_43 (dk_at dksX16_plainChain_0 15 rfl rfl)
theorem dX16_plainChain_16 : decode cX16_plainChain 16 = .ok (.iload_n 3, 1) := dk_29 (dk_at dksX16_plainChain_0 16 rfl rfl)
theorem dX16_plainChain_17 : decode cX16_plainChain 17 = .ok (.laload, 1) := dk_47 (dk_at dksX16_plainChain_0 17 rfl rfl)
theorem dX16_plainChain_18 : decode cX16_plainChain 18 = .ok (.invokevirtual 83, 3) := dk_182 0 83 (dk_at dksX16_plainChain_0 18 rfl rfl)
theorem dX16_plainChain_21 : decode cX16_plainChain 21 = .ok (.iinc 3 1, 3) := dk_132 3 1 (dk_at dksX16_plainChain_0 21 rfl rfl)
theorem dX16_plainChain_24 : decode cX16_plainChain 24 = .ok (.goto (-22), 3) := dk_167 255 234 (dk_at dksX16_plainChain_1 0 rfl rfl)
theorem dX16_plainChain_27 : decode cX16_plainChain 27 = .ok (.iconst 1, 1) := dk_4 (dk_at dksX16_plainChain_1 3 rfl rfl)
theorem dX16_plainChain_28 : decode cX16_plainChain 28 = .ok (.istore_n 3, 1) := dk_62 (dk_at dksX16_plainChain_1 4 rfl rfl)
theorem dX16_plainChain_29 : decode cX16_plainChain 29 = .ok (.iload_n 3, 1) := dk_29 (dk_at dksX16_plainChain_1 5 rfl rfl)
theorem dX16_plainChain_30 : decode cX16_plainChain 30 = .ok (.iload_n 2, 1) := dk_28 (dk_at dksX16_plainChain_1 6 rfl rfl)
theorem dX16_plainChain_31 : decode cX16_plainChain 31 = .ok (.if_icmp .gt 28, 3) := dk_163 0 28 (dk_at dksX16_plainChain_1 7 rfl rfl)
theorem dX16_plainChain_34 : decode cX16_plainChain 34 = .ok (.aload_n 0, 1) := dk_42 (dk_at dksX16_plainChain_1 10 rfl rfl)
theorem dX16_plainChain_35 : decode cX16_plainChain 35 = .ok (.getfield 336, 3) := dk_180 1 80 (dk_at dksX16_plainChain_1 11 rfl rfl)
theorem dX16_plainChain_38 : decode cX16_plainChain 38 = .ok (.iconst 1, 1) := dk_4 (dk_at dksX16_plainChain_1 14 rfl rfl)
theorem dX16_plainChain_39 : decode cX16_plainChain 39 = .ok (.aaload, 1) := dk_50 (dk_at dksX16_plainChain_1 15 rfl rfl)
theorem dX16_plainChain_40 : decode cX16_plainChain 40 = .ok (.iload_n 3, 1) := dk_29 (dk_at dksX16_plainChain_1 16 rfl rfl)
theorem dX16_plainChain_41 : decode cX16_plainChain 41 = .ok (.iconst 1, 1) := dk_4 (dk_at dksX16_plainChain_1 17 rfl rfl)
theorem dX16_plainChain_42 : decode cX16_plainChain 42 = .ok (.isub, 1) := dk_100 (dk_at dksX16_plainChain_1 18 rfl rfl)
theorem dX16_plainChain_43 : decode cX16_plainChain 43 = .ok (.aaload, 1) := dk_50 (dk_at dksX16_plainChain_1 19 rfl rfl)
theorem dX16_plainChain_44 : decode cX16_plainChain 44 = .ok (.iload_n 3, 1) := dk_29 (dk_at dksX16_plainChain_1 20 rfl rfl)
theorem dX16_plainChain_45 : decode cX16_plainChain 45 = .ok (.i2l, 1) := dk_133 (dk_at dksX16_plainChain_1 21 rfl rfl)
theorem dX16_plainChain_46 : decode cX16_plainChain 46 = .ok (.aload_n 1, 1) := dk_43 (dk_at dksX16_plainChain_1 22 rfl rfl)
theorem dX16_plainChain_47 : decode cX16_plainChain 47 = .ok (.iload_n 3, 1) := dk_29 (dk_at dksX16_plainChain_1 23 rfl rfl)
theorem dX16_plainChain_48 : decode cX16_plainChain 48 = .ok (.laload, 1) := dk_47 (dk_at dksX16_plainChain_2 0 rfl rfl)
theorem dX16_plainChain_49 : decode cX16_plainChain 49 = .ok (.lmul, 1) := dk_105 (dk_at dksX16_plainChain_2 1 rfl rfl)
theorem dX16_plainChain_50 : decode cX16_plainChain 50 = .ok (.invokevirtual 83, 3) := dk_182 0 83 (dk_at dksX16_plainChain_2 2 rfl rfl)
theorem dX16_plainChain_53 : decode cX16_plainChain 53 = .ok (.iinc 3 1, 3) := dk_132 3 1 (dk_at dksX16_plainChain_2 5 rfl rfl)
theorem dX16_plainChain_56 : decode cX16_plainChain 56 = .ok (.goto (-27), 3) := dk_167 255 229 (dk_at dksX16_plainChain_2 8 rfl rfl)
theorem dX16_plainChain_59 : decode cX16_plainChain 59 = .ok (.aload_n 0, 1) := dk_42 (dk_at dksX16_plainChain_2 11 rfl rfl)
theorem dX16_plainChain_60 : decode cX16_plainChain 60 = .ok (.getfield 339, 3) := dk_180 1 83 (dk_at dksX16_plainChain_2 12 rfl rfl)
theorem dX16_plainChain_63 : decode cX16_plainChain 63 = .ok (.iconst 0, 1) := dk_3 (dk_at dksX16_plainChain_2 15 rfl rfl)
theorem dX16_plainChain_64 : decode cX16_plainChain 64 = .ok (.iload_n 2, 1) := dk_28 (dk_at dksX16_plainChain_2 16 rfl rfl)
theorem dX16_plainChain_65 : decode cX16_plainChain 65 = .ok (.iastore, 1) := dk_79 (dk_at dksX16_plainChain_2 17 rfl rfl)
theorem dX16_plainChain_66 : decode cX16_plainChain 66 = .ok (.aload_n 0, 1) := dk_42 (dk_at dksX16_plainChain_2 18 rfl rfl)
theorem dX16_plainChain_67 : decode cX16_plainChain 67 = .ok (.getfield 339, 3) := dk_180 1 83 (dk_at dksX16_plainChain_2 19 rfl rfl)
theorem dX16_plainChain_70 : decode cX16_plainChain 70 = .ok (.iconst 1, 1) := dk_4 (dk_at dksX16_plainChain_2 22 rfl rfl)
theorem dX16_plainChain_71 : decode cX16_plainChain 71 = .ok (.iload_n 2, 1) := dk_28 (dk_at dksX16_plainChain_2 23 rfl rfl)
theorem dX16_plainChain_72 : decode cX16_plainChain 72 = .ok (.iconst 1, 1) := dk_4 (dk_at dksX16_plainChain_3 0 rfl rfl)
theorem dX16_plainChain_73 : decode cX16_plainChain 73 = .ok (.isub, 1) := dk_100 (dk_at dksX16_plainChain_3 1 rfl rfl)
theorem dX16_plainChain_74 : decode cX16_plainChain 74 = .ok (.iastore, 1) := dk_79 (dk_at dksX16_plainChain_3 2 rfl rfl)
theorem dX16_plainChain_75 : decode cX16_plainChain 75 = .ok (.aload_n 0, 1) := dk_42 (dk_at dksX16_plainChain_3 3 rfl rfl)
theorem dX16_plainChain_76 : decode cX16_plainChain 76 = .ok (.aload_n 0, 1) := dk_42 (dk_at dksX16_plainChain_3 4 rfl rfl)
theorem dX16_plainChain_77 : decode cX16_plainChain 77 = .ok (.getfield 336, 3) := dk_180 1 80 (dk_at dksX16_plainChain_3 5 rfl rfl)
theorem dX16_plainChain_80 : decode cX16_plainChain 80 = .ok (.iconst 1, 1) := dk_4 (dk_at dksX16_plainChain_3 8 rfl rfl)
theorem dX16_plainChain_81 : decode cX16_plainChain 81 = .ok (.aaload, 1) := dk_50 (dk_at dksX16_plainChain_3 9 rfl rfl)
theorem dX16_plainChain_82 : decode cX16_plainChain 82 = .ok (.iload_n 2, 1) := dk_28 (dk_at dksX16_plainChain_3 10 rfl rfl)
theorem dX16_plainChain_83 : decode cX16_plainChain 83 = .ok (.iconst 1, 1) := dk_4 (dk_at dksX16_plainChain_3 11 rfl rfl)
theorem dX16_plainChain_84 : decode cX16_plainChain 84 = .ok (.isub, 1) := dk_100 (dk_at dksX16_plainChain_3 12 rfl rfl)
theorem dX16_plainChain_85 : decode cX16_plainChain 85 = .ok (.invokevirtual 600, 3) := dk_182 2 88 (dk_at dksX16_plainChain_3 13 rfl rfl)
theorem dX16_plainChain_88 : decode cX16_plainChain 88 = .ok (.aload_n 0, 1) := dk_42 (dk_at dksX16_plainChain_3 16 rfl rfl)
theorem dX16_plainChain_89 : decode cX16_plainChain 89 = .ok (.invokevirtual 608, 3) := dk_182 2 96 (dk_at dksX16_plainChain_3 17 rfl rfl)
theorem dX16_plainChain_92 : decode cX16_plainChain 92 = .ok (.return_, 1) := dk_177 (dk_at dksX16_plainChain_3 20 rfl rfl)
abbrev cX16_small : ByteArray := prog_21_method_79_code
def yX16_small : MethodName := ⟨RX16, "small", "([LIdealCourtModel$Num;I)V"⟩
def dkwX16_small_4 : List UInt8 := [182, 0, 87, 132, 3, 1, 167, 255, 214, 177]
abbrev dktX16_small_4 : List UInt8 := dkwX16_small_4 ++ []
def dkwX16_small_3 : List UInt8 := [154, 0, 33, 43, 29, 50, 180, 0, 15, 153, 0, 18, 42, 43, 29, 50, 1, 43, 29, 50, 42, 180, 1, 61]
abbrev dktX16_small_3 : List UInt8 := dkwX16_small_3 ++ dktX16_small_4
def dkwX16_small_2 : List UInt8 := [182, 0, 98, 132, 3, 1, 167, 255, 214, 3, 62, 29, 28, 163, 0, 43, 42, 180, 1, 61, 182, 0, 91]
abbrev dktX16_small_2 : List UInt8 := dkwX16_small_2 ++ dktX16_small_3
def dkwX16_small_1 : List UInt8 := [154, 0, 33, 43, 29, 50, 180, 0, 15, 153, 0, 18, 42, 42, 180, 1, 61, 43, 29, 50, 42, 180, 1, 61]
abbrev dktX16_small_1 : List UInt8 := dkwX16_small_1 ++ dktX16_small_2
def dkwX16_small_0 : List UInt8 := [42, 180, 1, 61, 9, 182, 0, 83, 3, 62, 29, 28, 163, 0, 43, 42, 180, 1, 61, 182, 0, 91]
abbrev dktX16_small_0 : List UInt8 := dkwX16_small_0 ++ dktX16_small_1
theorem dksX16_small_0 : cX16_small.data.toList.drop 0 = dktX16_small_0 := by decide +kernel
theorem dksX16_small_1 : cX16_small.data.toList.drop 22 = dktX16_small_1 := dk_seg dksX16_small_0 22 rfl rfl
theorem dksX16_small_2 : cX16_small.data.toList.drop 46 = dktX16_small_2 := dk_seg dksX16_small_1 24 rfl rfl
theorem dksX16_small_3 : cX16_small.data.toList.drop 69 = dktX16_small_3 := dk_seg dksX16_small_2 23 rfl rfl
theorem dksX16_small_4 : cX16_small.data.toList.drop 93 = dktX16_small_4 := dk_seg dksX16_small_3 24 rfl rfl
theorem dX16_small_0 : decode cX16_small 0 = .ok (.aload_n 0, 1) := dk_42 (dk_at dksX16_small_0 0 rfl rfl)
theorem dX16_small_1 : decode cX16_small 1 = .ok (.getfield 317, 3) := dk_180 1 61 (dk_at dksX16_small_0 1 rfl rfl)
theorem dX16_small_4 : decode cX16_small 4 = .ok (.lconst 0, 1) := dk_9 (dk_at dksX16_small_0 4 rfl rfl)
theorem dX16_small_5 : decode cX16_small 5 = .ok (.invokevirtual 83, 3) := dk_182 0 83 (dk_at dksX16_small_0 5 rfl rfl)
theorem dX16_small_8 : decode cX16_small 8 = .ok (.iconst 0, 1) := dk_3 (dk_at dksX16_small_0 8 rfl rfl)
theorem dX16_small_9 : decode cX16_small 9 = .ok (.istore_n 3, 1) := dk_62 (dk_at dksX16_small_0 9 rfl rfl)
theorem dX16_small_10 : decode cX16_small 10 = .ok (.iload_n 3, 1) := dk_29 (dk_at dksX16_small_0 10 rfl rfl)
theorem dX16_small_11 : decode cX16_small 11 = .ok (.iload_n 2, 1) := dk_28 (dk_at dksX16_small_0 11 rfl rfl)
theorem dX16_small_12 : decode cX16_small 12 = .ok (.if_icmp .gt 43, 3) := dk_163 0 43 (dk_at dksX16_small_0 12 rfl rfl)
theorem dX16_small_15 : decode cX16_small 15 = .ok (.aload_n 0, 1) := dk_42 (dk_at dksX16_small_0 15 rfl rfl)
theorem dX16_small_16 : decode cX16_small 16 = .ok (.getfield 317, 3) := dk_180 1 61 (dk_at dksX16_small_0 16 rfl rfl)
theorem dX16_small_19 : decode cX16_small 19 = .ok (.invokevirtual 91, 3) := dk_182 0 91 (dk_at dksX16_small_0 19 rfl rfl)
theorem dX16_small_22 : decode cX16_small 22 = .ok (.ifCond .ne 33, 3) := dk_154 0 33 (dk_at dksX16_small_1 0 rfl rfl)
theorem dX16_small_25 : decode cX16_small 25 = .ok (.aload_n 1, 1) := dk_43 (dk_at dksX16_small_1 3 rfl rfl)
theorem dX16_small_26 : decode cX16_small 26 = .ok (.iload_n 3, 1) := dk_29 (dk_at dksX16_small_1 4 rfl rfl)
theorem dX16_small_27 : decode cX16_small 27 = .ok (.aaload, 1) := dk_50 (dk_at dksX16_small_1 5 rfl rfl)
theorem dX16_small_28 : decode cX16_small 28 = .ok (.getfield 15, 3) := dk_180 0 15 (dk_at dksX16_small_1 6 rfl rfl)
theorem dX16_small_31 : decode cX16_small 31 = .ok (.ifCond .eq 18, 3) := dk_153 0 18 (dk_at dksX16_small_1 9 rfl rfl)
theorem dX16_small_34 : decode cX16_small 34 = .ok (.aload_n 0, 1) := dk_42 (dk_at dksX16_small_1 12 rfl rfl)
theorem dX16_small_35 : decode cX16_small 35 = .ok (.aload_n 0, 1) := dk_42 (dk_at dksX16_small_1 13 rfl rfl)
theorem dX16_small_36 : decode cX16_small 36 = .ok (.getfield 317, 3) := dk_180 1 61 (dk_at dksX16_small_1 14 rfl rfl)
theorem dX16_small_39 : decode cX16_small 39 = .ok (.aload_n 1, 1) := dk_43 (dk_at dksX16_small_1 17 rfl rfl)
theorem dX16_small_40 : decode cX16_small 40 = .ok (.iload_n 3, 1) := dk_29 (dk_at dksX16_small_1 18 rfl rfl)
theorem dX16_small_41 : decode cX16_small 41 = .ok (.aaload, 1) := dk_50 (dk_at dksX16_small_1 19 rfl rfl)
theorem dX16_small_42 : decode cX16_small 42 = .ok (.aload_n 0, 1) := dk_42 (dk_at dksX16_small_1 20 rfl rfl)
theorem dX16_small_43 : decode cX16_small 43 = .ok (.getfield 317, 3) := dk_180 1 61 (dk_at dksX16_small_1 21 rfl rfl)
theorem dX16_small_46 : decode cX16_small 46 = .ok (.invokevirtual 98, 3) := dk_182 0 98 (dk_at dksX16_small_2 0 rfl rfl)
theorem dX16_small_49 : decode cX16_small 49 = .ok (.iinc 3 1, 3) := dk_132 3 1 (dk_at dksX16_small_2 3 rfl rfl)
theorem dX16_small_52 : decode cX16_small 52 = .ok (.goto (-42), 3) := dk_167 255 214 (dk_at dksX16_small_2 6 rfl rfl)
theorem dX16_small_55 : decode cX16_small 55 = .ok (.iconst 0, 1) := dk_3 (dk_at dksX16_small_2 9 rfl rfl)
theorem dX16_small_56 : decode cX16_small 56 = .ok (.istore_n 3, 1) := dk_62 (dk_at dksX16_small_2 10 rfl rfl)
theorem dX16_small_57 : decode cX16_small 57 = .ok (.iload_n 3, 1) := dk_29 (dk_at dksX16_small_2 11 rfl rfl)
theorem dX16_small_58 : decode cX16_small 58 = .ok (.iload_n 2, 1) := dk_28 (dk_at dksX16_small_2 12 rfl rfl)
theorem dX16_small_59 : decode cX16_small 59 = .ok (.if_icmp .gt 43, 3) := dk_163 0 43 (dk_at dksX16_small_2 13 rfl rfl)
theorem dX16_small_62 : decode cX16_small 62 = .ok (.aload_n 0, 1) := dk_42 (dk_at dksX16_small_2 16 rfl rfl)
theorem dX16_small_63 : decode cX16_small 63 = .ok (.getfield 317, 3) := dk_180 1 61 (dk_at dksX16_small_2 17 rfl rfl)
theorem dX16_small_66 : decode cX16_small 66 = .ok (.invokevirtual 91, 3) := dk_182 0 91 (dk_at dksX16_small_2 20 rfl rfl)
theorem dX16_small_69 : decode cX16_small 69 = .ok (.ifCond .ne 33, 3) := dk_154 0 33 (dk_at dksX16_small_3 0 rfl rfl)
theorem dX16_small_72 : decode cX16_small 72 = .ok (.aload_n 1, 1) := dk_43 (dk_at dksX16_small_3 3 rfl rfl)
theorem dX16_small_73 : decode cX16_small 73 = .ok (.iload_n 3, 1) := dk_29 (dk_at dksX16_small_3 4 rfl rfl)
theorem dX16_small_74 : decode cX16_small 74 = .ok (.aaload, 1) := dk_50 (dk_at dksX16_small_3 5 rfl rfl)
theorem dX16_small_75 : decode cX16_small 75 = .ok (.getfield 15, 3) := dk_180 0 15 (dk_at dksX16_small_3 6 rfl rfl)
theorem dX16_small_78 : decode cX16_small 78 = .ok (.ifCond .eq 18, 3) := dk_153 0 18 (dk_at dksX16_small_3 9 rfl rfl)
theorem dX16_small_81 : decode cX16_small 81 = .ok (.aload_n 0, 1) := dk_42 (dk_at dksX16_small_3 12 rfl rfl)
theorem dX16_small_82 : decode cX16_small 82 = .ok (.aload_n 1, 1) := dk_43 (dk_at dksX16_small_3 13 rfl rfl)
theorem dX16_small_83 : decode cX16_small 83 = .ok (.iload_n 3, 1) := dk_29 (dk_at dksX16_small_3 14 rfl rfl)
theorem dX16_small_84 : decode cX16_small 84 = .ok (.aaload, 1) := dk_50 (dk_at dksX16_small_3 15 rfl rfl)
theorem dX16_small_85 : decode cX16_small 85 = .ok (.aconst_null, 1) := dk_1 (dk_at dksX16_small_3 16 rfl rfl)
theorem dX16_small_86 : decode cX16_small 86 = .ok (.aload_n 1, 1) := dk_43 (dk_at dksX16_small_3 17 rfl rfl)
theorem dX16_small_87 : decode cX16_small 87 = .ok (.iload_n 3, 1) := dk_29 (dk_at dksX16_small_3 18 rfl rfl)
theorem dX16_small_88 : decode cX16_small 88 = .ok (.aaload, 1) := dk_50 (dk_at dksX16_small_3 19 rfl rfl)
theorem dX16_small_89 : decode cX16_small 89 = .ok (.aload_n 0, 1) := dk_42 (dk_at dksX16_small_3 20 rfl rfl)
theorem dX16_small_90 : decode cX16_small 90 = .ok (.getfield 317, 3) := dk_180 1 61 (dk_at dksX16_small_3 21 rfl rfl)
theorem dX16_small_93 : decode cX16_small 93 = .ok (.invokevirtual 87, 3) := dk_182 0 87 (dk_at dksX16_small_4 0 rfl rfl)
theorem dX16_small_96 : decode cX16_small 96 = .ok (.iinc 3 1, 3) := dk_132 3 1 (dk_at dksX16_small_4 3 rfl rfl)
theorem dX16_small_99 : decode cX16_small 99 = .ok (.goto (-42), 3) := dk_167 255 214 (dk_at dksX16_small_4 6 rfl rfl)
theorem dX16_small_102 : decode cX16_small 102 = .ok (.return_, 1) := dk_177 (dk_at dksX16_small_4 9 rfl rfl)
abbrev cX16_goOn : ByteArray := prog_21_method_81_code
def yX16_goOn : MethodName := ⟨RX16, "goOn", "()V"⟩
def dkwX16_goOn_8 : List UInt8 := [89, 180, 2, 81, 4, 100, 181, 2, 81, 177]
abbrev dktX16_goOn_8 : List UInt8 := dkwX16_goOn_8 ++ []
def dkwX16_goOn_7 : List UInt8 := [42, 180, 1, 83, 42, 180, 2, 81, 29, 79, 42, 89, 180, 2, 81, 4, 96, 181, 2, 81, 167, 255, 77, 42]
abbrev dktX16_goOn_7 : List UInt8 := dkwX16_goOn_7 ++ dktX16_goOn_8
def dkwX16_goOn_6 : List UInt8 := [180, 1, 80, 42, 180, 2, 81, 50, 21, 4, 50, 180, 0, 15, 116, 181, 0, 15, 132, 4, 1, 167, 255, 194]
abbrev dktX16_goOn_6 : List UInt8 := dkwX16_goOn_6 ++ dktX16_goOn_7
def dkwX16_goOn_5 : List UInt8 := [180, 1, 86, 21, 4, 50, 182, 0, 18, 42, 180, 1, 80, 42, 180, 2, 81, 50, 21, 4, 50, 42]
abbrev dktX16_goOn_5 : List UInt8 := dkwX16_goOn_5 ++ dktX16_goOn_6
def dkwX16_goOn_4 : List UInt8 := [62, 3, 54, 4, 21, 4, 29, 163, 0, 62, 42, 180, 1, 80, 42, 180, 2, 81, 50, 21, 4, 50, 42]
abbrev dktX16_goOn_4 : List UInt8 := dkwX16_goOn_4 ++ dktX16_goOn_5
def dkwX16_goOn_3 : List UInt8 := [180, 1, 80, 42, 180, 2, 81, 4, 100, 50, 42, 180, 1, 83, 42, 180, 2, 81, 4, 100, 46, 182, 2, 92]
abbrev dktX16_goOn_3 : List UInt8 := dkwX16_goOn_3 ++ dktX16_goOn_4
def dkwX16_goOn_2 : List UInt8 := [163, 0, 21, 42, 180, 1, 86, 29, 50, 43, 29, 50, 182, 0, 18, 132, 3, 1, 167, 255, 236, 42, 28, 42]
abbrev dktX16_goOn_2 : List UInt8 := dkwX16_goOn_2 ++ dktX16_goOn_3
def dkwX16_goOn_1 : List UInt8 := [180, 2, 81, 5, 100, 50, 76, 42, 180, 1, 83, 42, 180, 2, 81, 5, 100, 46, 61, 3, 62, 29, 28]
abbrev dktX16_goOn_1 : List UInt8 := dkwX16_goOn_1 ++ dktX16_goOn_2
def dkwX16_goOn_0 : List UInt8 := [42, 5, 181, 2, 81, 42, 180, 1, 83, 42, 180, 2, 81, 4, 100, 46, 155, 0, 171, 42, 180, 1, 80, 42]
abbrev dktX16_goOn_0 : List UInt8 := dkwX16_goOn_0 ++ dktX16_goOn_1
theorem dksX16_goOn_0 : cX16_goOn.data.toList.drop 0 = dktX16_goOn_0 := by decide +kernel
theorem dksX16_goOn_1 : cX16_goOn.data.toList.drop 24 = dktX16_goOn_1 := dk_seg dksX16_goOn_0 24 rfl rfl
theorem dksX16_goOn_2 : cX16_goOn.data.toList.drop 47 = dktX16_goOn_2 := dk_seg dksX16_goOn_1 23 rfl rfl
theorem dksX16_goOn_3 : cX16_goOn.data.toList.drop 71 = dktX16_goOn_3 := dk_seg dksX16_goOn_2 24 rfl rfl
theorem dksX16_goOn_4 : cX16_goOn.data.toList.drop 95 = dktX16_goOn_4 := dk_seg dksX16_goOn_3 24 rfl rfl
theorem dksX16_goOn_5 : cX16_goOn.data.toList.drop 118 = dktX16_goOn_5 := dk_seg dksX16_goOn_4 23 rfl rfl
theorem dksX16_goOn_6 : cX16_goOn.data.toList.drop 140 = dktX16_goOn_6 := dk_seg dksX16_goOn_5 22 rfl rfl
theorem dksX16_goOn_7 : cX16_goOn.data.toList.drop 164 = dktX16_goOn_7 := dk_seg dksX16_goOn_6 24 rfl rfl
theorem dksX16_goOn_8 : cX16_goOn.data.toList.drop 188 = dktX16_goOn_8 := dk_seg dksX16_goOn_7 24 rfl rfl
theorem dX16_goOn_0 : decode cX16_goOn 0 = .ok (.aload_n 0, 1) := dk_42 (dk_at dksX16_goOn_0 0 rfl rfl)
theorem dX16_goOn_1 : decode cX16_goOn 1 = .ok (.iconst 2, 1) := dk_5 (dk_at dksX16_goOn_0 1 rfl rfl)
theorem dX16_goOn_2 : decode cX16_goOn 2 = .ok (.putfield 593, 3) := dk_181 2 81 (dk_at dksX16_goOn_0 2 rfl rfl)
theorem dX16_goOn_5 : decode cX16_goOn 5 = .ok (.aload_n 0, 1) := dk_42 (dk_at dksX16_goOn_0 5 rfl rfl)
theorem dX16_goOn_6 : decode cX16_goOn 6 = .ok (.getfield 339, 3) := dk_180 1 83 (dk_at dksX16_goOn_0 6 rfl rfl)
theorem dX16_goOn_9 : decode cX16_goOn 9 = .ok (.aload_n 0, 1) := dk_42 (dk_at dksX16_goOn_0 9 rfl rfl)
theorem dX16_goOn_10 : decode cX16_goOn 10 = .ok (.getfield 593, 3) := dk_180 2 81 (dk_at dksX16_goOn_0 10 rfl rfl)
theorem dX16_goOn_13 : decode cX16_goOn 13 = .ok (.iconst 1, 1) := dk_4 (dk_at dksX16_goOn_0 13 rfl rfl)
theorem dX16_goOn_14 : decode cX16_goOn 14 = .ok (.isub, 1) := dk_100 (dk_at dksX16_goOn_0 14 rfl rfl)
theorem dX16_goOn_15 : decode cX16_goOn 15 = .ok (.iaload, 1) := dk_46 (dk_at dksX16_goOn_0 15 rfl rfl)
theorem dX16_goOn_16 : decode cX16_goOn 16 = .ok (.ifCond .lt 171, 3) := dk_155 0 171 (dk_at dksX16_goOn_0 16 rfl rfl)
theorem dX16_goOn_19 : decode cX16_goOn 19 = .ok (.aload_n 0, 1) := dk_42 (dk_at dksX16_goOn_0 19 rfl rfl)
theorem dX16_goOn_20 : decode cX16_goOn 20 = .ok (.getfield 336, 3) := dk_180 1 80 (dk_at dksX16_goOn_0 20 rfl rfl)
theorem dX16_goOn_23 : decode cX16_goOn 23 = .ok (.aload_n 0, 1) := dk_42 (dk_at dksX16_goOn_0 23 rfl rfl)
theorem dX16_goOn_24 : decode cX16_goOn 24 = .ok (.getfield 593, 3) := dk_180 2 81 (dk_at dksX16_goOn_1 0 rfl rfl)
theorem dX16_goOn_27 : decode cX16_goOn 27 = .ok (.iconst 2, 1) := dk_5 (dk_at dksX16_goOn_1 3 rfl rfl)
theorem dX16_goOn_28 : decode cX16_goOn 28 = .ok (.isub, 1) := dk_100 (dk_at dksX16_goOn_1 4 rfl rfl)
theorem dX16_goOn_29 : decode cX16_goOn 29 = .ok (.aaload, 1) := dk_50 (dk_at dksX16_goOn_1 5 rfl rfl)
theorem dX16_goOn_30 : decode cX16_goOn 30 = .ok (.astore_n 1, 1) := dk_76 (dk_at dksX16_goOn_1 6 rfl rfl)
theorem dX16_goOn_31 : decode cX16_goOn 31 = .ok (.aload_n 0, 1) := dk_42 (dk_at dksX16_goOn_1 7 rfl rfl)
theorem dX16_goOn_32 : decode cX16_goOn 32 = .ok (.getfield 339, 3) := dk_180 1 83 (dk_at dksX16_goOn_1 8 rfl rfl)
theorem dX16_goOn_35 : decode cX16_goOn 35 = .ok (.aload_n 0, 1) := dk_42 (dk_at dksX16_goOn_1 11 rfl rfl)
theorem dX16_goOn_36 : decode cX16_goOn 36 = .ok (.getfield 593, 3) := dk_180 2 81 (dk_at dksX16_goOn_1 12 rfl rfl)
theorem dX16_goOn_39 : decode cX16_goOn 39 = .ok (.iconst 2, 1) := dk_5 (dk_at dksX16_goOn_1 15 rfl rfl)
theorem dX16_goOn_40 : decode cX16_goOn 40 = .ok (.isub, 1) := dk_100 (dk_at dksX16_goOn_1 16 rfl rfl)
theorem dX16_goOn_41 : decode cX16_goOn 41 = .ok (.iaload, 1) := dk_46 (dk_at dksX16_goOn_1 17 rfl rfl)
theorem dX16_goOn_42 : decode cX16_goOn 42 = .ok (.istore_n 2, 1) := dk_61 (dk_at dksX16_goOn_1 18 rfl rfl)
theorem dX16_goOn_43 : decode cX16_goOn 43 = .ok (.iconst 0, 1) := dk_3 (dk_at dksX16_goOn_1 19 rfl rfl)
theorem dX16_goOn_44 : decode cX16_goOn 44 = .ok (.istore_n 3, 1) := dk_62 (dk_at dksX16_goOn_1 20 rfl rfl)
theorem dX16_goOn_45 : decode cX16_goOn 45 = .ok (.iload_n 3, 1) := dk_29 (dk_at dksX16_goOn_1 21 rfl rfl)
theorem dX16_goOn_46 : decode cX16_goOn 46 = .ok (.iload_n 2, 1) := dk_28 (dk_at dksX16_goOn_1 22 rfl rfl)
theorem dX16_goOn_47 : decode cX16_goOn 47 = .ok (.if_icmp .gt 21, 3) := dk_163 0 21 (dk_at dksX16_goOn_2 0 rfl rfl)
theorem dX16_goOn_50 : decode cX16_goOn 50 = .ok (.aload_n 0, 1) := dk_42 (dk_at dksX16_goOn_2 3 rfl rfl)
theorem dX16_goOn_51 : decode cX16_goOn 51 = .ok (.getfield 342, 3) := dk_180 1 86 (dk_at dksX16_goOn_2 4 rfl rfl)
theorem dX16_goOn_54 : decode cX16_goOn 54 = .ok (.iload_n 3, 1) := dk_29 (dk_at dksX16_goOn_2 7 rfl rfl)
theorem dX16_goOn_55 : decode cX16_goOn 55 = .ok (.aaload, 1) := dk_50 (dk_at dksX16_goOn_2 8 rfl rfl)
theorem dX16_goOn_56 : decode cX16_goOn 56 = .ok (.aload_n 1, 1) := dk_43 (dk_at dksX16_goOn_2 9 rfl rfl)
theorem dX16_goOn_57 : decode cX16_goOn 57 = .ok (.iload_n 3, 1) := dk_29 (dk_at dksX16_goOn_2 10 rfl rfl)
theorem dX16_goOn_58 : decode cX16_goOn 58 = .ok (.aaload, 1) := dk_50 (dk_at dksX16_goOn_2 11 rfl rfl)
theorem dX16_goOn_59 : decode cX16_goOn 59 = .ok (.invokevirtual 18, 3) := dk_182 0 18 (dk_at dksX16_goOn_2 12 rfl rfl)
theorem dX16_goOn_62 : decode cX16_goOn 62 = .ok (.iinc 3 1, 3) := dk_132 3 1 (dk_at dksX16_goOn_2 15 rfl rfl)
theorem dX16_goOn_65 : decode cX16_goOn 65 = .ok (.goto (-20), 3) := dk_167 255 236 (dk_at dksX16_goOn_2 18 rfl rfl)
theorem dX16_goOn_68 : decode cX16_goOn 68 = .ok (.aload_n 0, 1) := dk_42 (dk_at dksX16_goOn_2 21 rfl rfl)
theorem dX16_goOn_69 : decode cX16_goOn 69 = .ok (.iload_n 2, 1) := dk_28 (dk_at dksX16_goOn_2 22 rfl rfl)
theorem dX16_goOn_70 : decode cX16_goOn 70 = .ok (.aload_n 0, 1) := dk_42 (dk_at dksX16_goOn_2 23 rfl rfl)
theorem dX16_goOn_71 : decode cX16_goOn 71 = .ok (.getfield 336, 3) := dk_180 1 80 (dk_at dksX16_goOn_3 0 rfl rfl)
theorem dX16_goOn_74 : decode cX16_goOn 74 = .ok (.aload_n 0, 1) := dk_42 (dk_at dksX16_goOn_3 3 rfl rfl)
theorem dX16_goOn_75 : decode cX16_goOn 75 = .ok (.getfield 593, 3) := dk_180 2 81 (dk_at dksX16_goOn_3 4 rfl rfl)
theorem dX16_goOn_78 : decode cX16_goOn 78 = .ok (.iconst 1, 1) := dk_4 (dk_at dksX16_goOn_3 7 rfl rfl)
theorem dX16_goOn_79 : decode cX16_goOn 79 = .ok (.isub, 1) := dk_100 (dk_at dksX16_goOn_3 8 rfl rfl)
theorem dX16_goOn_80 : decode cX16_goOn 80 = .ok (.aaload, 1) := dk_50 (dk_at dksX16_goOn_3 9 rfl rfl)
theorem dX16_goOn_81 : decode cX16_goOn 81 = .ok (.aload_n 0, 1) := dk_42 (dk_at dksX16_goOn_3 10 rfl rfl)
theorem dX16_goOn_82 : decode cX16_goOn 82 = .ok (.getfield 339, 3) := dk_180 1 83 (dk_at dksX16_goOn_3 11 rfl rfl)
theorem dX16_goOn_85 : decode cX16_goOn 85 = .ok (.aload_n 0, 1) := dk_42 (dk_at dksX16_goOn_3 14 rfl rfl)
theorem dX16_goOn_86 : decode cX16_goOn 86 = .ok (.getfield 593, 3) := dk_180 2 81 (dk_at dksX16_goOn_3 15 rfl rfl)
theorem dX16_goOn_89 : decode cX16_goOn 89 = .ok (.iconst 1, 1) := dk_4 (dk_at dksX16_goOn_3 18 rfl rfl)
theorem dX16_goOn_90 : decode cX16_goOn 90 = .ok (.isub, 1) := dk_100 (dk_at dksX16_goOn_3 19 rfl rfl)
theorem dX16_goOn_91 : decode cX16_goOn 91 = .ok (.iaload, 1) := dk_46 (dk_at dksX16_goOn_3 20 rfl rfl)
theorem dX16_goOn_92 : decode cX16_goOn 92 = .ok (.invokevirtual 604, 3) := dk_182 2 92 (dk_at dksX16_goOn_3 21 rfl rfl)
theorem dX16_goOn_95 : decode cX16_goOn 95 = .ok (.istore_n 3, 1) := dk_62 (dk_at dksX16_goOn_4 0 rfl rfl)
theorem dX16_goOn_96 : decode cX16_goOn 96 = .ok (.iconst 0, 1) := dk_3 (dk_at dksX16_goOn_4 1 rfl rfl)
theorem dX16_goOn_97 : decode cX16_goOn 97 = .ok (.istore 4, 2) := dk_54 4 (dk_at dksX16_goOn_4 2 rfl rfl)
theorem dX16_goOn_99 : decode cX16_goOn 99 = .ok (.iload 4, 2) := dk_21 4 (dk_at dksX16_goOn_4 4 rfl rfl)
theorem dX16_goOn_101 : decode cX16_goOn 101 = .ok (.iload_n 3, 1) := dk_29 (dk_at dksX16_goOn_4 6 rfl rfl)
theorem dX16_goOn_102 : decode cX16_goOn 102 = .ok (.if_icmp .gt 62, 3) := dk_163 0 62 (dk_at dksX16_goOn_4 7 rfl rfl)
theorem dX16_goOn_105 : decode cX16_goOn 105 = .ok (.aload_n 0, 1) := dk_42 (dk_at dksX16_goOn_4 10 rfl rfl)
theorem dX16_goOn_106 : decode cX16_goOn 106 = .ok (.getfield 336, 3) := dk_180 1 80 (dk_at dksX16_goOn_4 11 rfl rfl)
theorem dX16_goOn_109 : decode cX16_goOn 109 = .ok (.aload_n 0, 1) := dk_42 (dk_at dksX16_goOn_4 14 rfl rfl)
theorem dX16_goOn_110 : decode cX16_goOn 110 = .ok (.getfield 593, 3) := dk_180 2 81 (dk_at dksX16_goOn_4 15 rfl rfl)
theorem dX16_goOn_113 : decode cX16_goOn 113 = .ok (.aaload, 1) := dk_50 (dk_at dksX16_goOn_4 18 rfl rfl)
theorem dX16_goOn_114 : decode cX16_goOn 114 = .ok (.iload 4, 2) := dk_21 4 (dk_at dksX16_goOn_4 19 rfl rfl)
theorem dX16_goOn_116 : decode cX16_goOn 116 = .ok (.aaload, 1) := dk_50 (dk_at dksX16_goOn_4 21 rfl rfl)
theorem dX16_goOn_117 : decode cX16_goOn 117 = .ok (.aload_n 0, 1) := dk_42 (dk_at dksX16_goOn_4 22 rfl rfl)
theorem dX16_goOn_118 : decode cX16_goOn 118 = .ok (.getfield 342, 3) := dk_180 1 86 (dk_at dksX16_goOn_5 0 rfl rfl)
theorem dX16_goOn_121 : decode cX16_goOn 121 = .ok (.iload 4, 2) := dk_21 4 (dk_at dksX16_goOn_5 3 rfl rfl)
theorem dX16_goOn_123 : decode cX16_goOn 123 = .ok (.aaload, 1) := dk_50 (dk_at dksX16_goOn_5 5 rfl rfl)
theorem dX16_goOn_124 : decode cX16_goOn 124 = .ok (.invokevirtual 18, 3) := dk_182 0 18 (dk_at dksX16_goOn_5 6 rfl rfl)
theorem dX16_goOn_127 : decode cX16_goOn 127 = .ok (.aload_n 0, 1) := dk_42 (dk_at dksX16_goOn_5 9 rfl rfl)
theorem dX16_goOn_128 : decode cX16_goOn 128 = .ok (.getfield 336, 3) := dk_180 1 80 (dk_at dksX16_goOn_5 10 rfl rfl)
theorem dX16_goOn_131 : decode cX16_goOn 131 = .ok (.aload_n 0, 1) := dk_42 (dk_at dksX16_goOn_5 13 rfl rfl)
theorem dX16_goOn_132 : decode cX16_goOn 132 = .ok (.getfield 593, 3) := dk_180 2 81 (dk_at dksX16_goOn_5 14 rfl rfl)
theorem dX16_goOn_135 : decode cX16_goOn 135 = .ok (.aaload, 1) := dk_50 (dk_at dksX16_goOn_5 17 rfl rfl)
theorem dX16_goOn_136 : decode cX16_goOn 136 = .ok (.iload 4, 2) := dk_21 4 (dk_at dksX16_goOn_5 18 rfl rfl)
theorem dX16_goOn_138 : decode cX16_goOn 138 = .ok (.aaload, 1) := dk_50 (dk_at dksX16_goOn_5 20 rfl rfl)
theorem dX16_goOn_139 : decode cX16_goOn 139 = .ok (.aload_n 0, 1) := dk_42 (dk_at dksX16_goOn_5 21 rfl rfl)
theorem dX16_goOn_140 : decode cX16_goOn 140 = .ok (.getfield 336, 3) := dk_180 1 80 (dk_at dksX16_goOn_6 0 rfl rfl)
theorem dX16_goOn_143 : decode cX16_goOn 143 = .ok (.aload_n 0, 1) := dk_42 (dk_at dksX16_goOn_6 3 rfl rfl)
theorem dX16_goOn_144 : decode cX16_goOn 144 = .ok (.getfield 593, 3) := dk_180 2 81 (dk_at dksX16_goOn_6 4 rfl rfl)
theorem dX16_goOn_147 : decode cX16_goOn 147 = .ok (.aaload, 1) := dk_50 (dk_at dksX16_goOn_6 7 rfl rfl)
theorem dX16_goOn_148 : decode cX16_goOn 148 = .ok (.iload 4, 2) := dk_21 4 (dk_at dksX16_goOn_6 8 rfl rfl)
theorem dX16_goOn_150 : decode cX16_goOn 150 = .ok (.aaload, 1) := dk_50 (dk_at dksX16_goOn_6 10 rfl rfl)
theorem dX16_goOn_151 : decode cX16_goOn 151 = .ok (.getfield 15, 3) := dk_180 0 15 (dk_at dksX16_goOn_6 11 rfl rfl)
theorem dX16_goOn_154 : decode cX16_goOn 154 = .ok (.ineg, 1) := dk_116 (dk_at dksX16_goOn_6 14 rfl rfl)
theorem dX16_goOn_155 : decode cX16_goOn 155 = .ok (.putfield 15, 3) := dk_181 0 15 (dk_at dksX16_goOn_6 15 rfl rfl)
theorem dX16_goOn_158 : decode cX16_goOn 158 = .ok (.iinc 4 1, 3) := dk_132 4 1 (dk_at dksX16_goOn_6 18 rfl rfl)
theorem dX16_goOn_161 : decode cX16_goOn 161 = .ok (.goto (-62), 3) := dk_167 255 194 (dk_at dksX16_goOn_6 21 rfl rfl)
theorem dX16_goOn_164 : decode cX16_goOn 164 = .ok (.aload_n 0, 1) := dk_42 (dk_at dksX16_goOn_7 0 rfl rfl)
theorem dX16_goOn_165 : decode cX16_goOn 165 = .ok (.getfield 339, 3) := dk_180 1 83 (dk_at dksX16_goOn_7 1 rfl rfl)
theorem dX16_goOn_168 : decode cX16_goOn 168 = .ok (.aload_n 0, 1) := dk_42 (dk_at dksX16_goOn_7 4 rfl rfl)
theorem dX16_goOn_169 : decode cX16_goOn 169 = .ok (.getfield 593, 3) := dk_180 2 81 (dk_at dksX16_goOn_7 5 rfl rfl)
theorem dX16_goOn_172 : decode cX16_goOn 172 = .ok (.iload_n 3, 1) := dk_29 (dk_at dksX16_goOn_7 8 rfl rfl)
theorem dX16_goOn_173 : decode cX16_goOn 173 = .ok (.iastore, 1) := dk_79 (dk_at dksX16_goOn_7 9 rfl rfl)
theorem dX16_goOn_174 : decode cX16_goOn 174 = .ok (.aload_n 0, 1) := dk_42 (dk_at dksX16_goOn_7 10 rfl rfl)
theorem dX16_goOn_175 : decode cX16_goOn 175 = .ok (.dup, 1) := dk_89 (dk_at dksX16_goOn_7 11 rfl rfl)
theorem dX16_goOn_176 : decode cX16_goOn 176 = .ok (.getfield 593, 3) := dk_180 2 81 (dk_at dksX16_goOn_7 12 rfl rfl)
theorem dX16_goOn_179 : decode cX16_goOn 179 = .ok (.iconst 1, 1) := dk_4 (dk_at dksX16_goOn_7 15 rfl rfl)
theorem dX16_goOn_180 : decode cX16_goOn 180 = .ok (.iadd, 1) := dk_96 (dk_at dksX16_goOn_7 16 rfl rfl)
theorem dX16_goOn_181 : decode cX16_goOn 181 = .ok (.putfield 593, 3) := dk_181 2 81 (dk_at dksX16_goOn_7 17 rfl rfl)
theorem dX16_goOn_184 : decode cX16_goOn 184 = .ok (.goto (-179), 3) := dk_167 255 77 (dk_at dksX16_goOn_7 20 rfl rfl)
theorem dX16_goOn_187 : decode cX16_goOn 187 = .ok (.aload_n 0, 1) := dk_42 (dk_at dksX16_goOn_7 23 rfl rfl)
theorem dX16_goOn_188 : decode cX16_goOn 188 = .ok (.dup, 1) := dk_89 (dk_at dksX16_goOn_8 0 rfl rfl)
theorem dX16_goOn_189 : decode cX16_goOn 189 = .ok (.getfield 593, 3) := dk_180 2 81 (dk_at dksX16_goOn_8 1 rfl rfl)
theorem dX16_goOn_192 : decode cX16_goOn 192 = .ok (.iconst 1, 1) := dk_4 (dk_at dksX16_goOn_8 4 rfl rfl)
theorem dX16_goOn_193 : decode cX16_goOn 193 = .ok (.isub, 1) := dk_100 (dk_at dksX16_goOn_8 5 rfl rfl)
theorem dX16_goOn_194 : decode cX16_goOn 194 = .ok (.putfield 593, 3) := dk_181 2 81 (dk_at dksX16_goOn_8 6 rfl rfl)
theorem dX16_goOn_197 : decode cX16_goOn 197 = .ok (.return_, 1) := dk_177 (dk_at dksX16_goOn_8 9 rfl rfl)
