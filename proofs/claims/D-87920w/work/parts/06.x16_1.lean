set_option maxRecDepth 100000
abbrev cX16_standSum : ByteArray := prog_21_method_27_code
def yX16_standSum : MethodName := ⟨RX16, "standSum", "(IZ)I"⟩
def dkwX16_standSum_1 : List UInt8 := [180, 0, 230, 42, 180, 0, 226, 182, 1, 154, 42, 27, 42, 180, 0, 226, 182, 1, 157, 172]
abbrev dktX16_standSum_1 : List UInt8 := dkwX16_standSum_1 ++ []
def dkwX16_standSum_0 : List UInt8 := [28, 153, 0, 15, 42, 180, 0, 230, 182, 1, 147, 16, 60, 164, 0, 10, 42, 16, 250, 182, 1, 151, 172, 42]
abbrev dktX16_standSum_0 : List UInt8 := dkwX16_standSum_0 ++ dktX16_standSum_1
theorem dksX16_standSum_0 : cX16_standSum.data.toList.drop 0 = dktX16_standSum_0 := by decide +kernel
theorem dksX16_standSum_1 : cX16_standSum.data.toList.drop 24 = dktX16_standSum_1 := dk_seg dksX16_standSum_0 24 rfl rfl
theorem dX16_standSum_0 : decode cX16_standSum 0 = .ok (.iload_n 2, 1) := dk_28 (dk_at dksX16_standSum_0 0 rfl rfl)
theorem dX16_standSum_1 : decode cX16_standSum 1 = .ok (.ifCond .eq 15, 3) := dk_153 0 15 (dk_at dksX16_standSum_0 1 rfl rfl)
theorem dX16_standSum_4 : decode cX16_standSum 4 = .ok (.aload_n 0, 1) := dk_42 (dk_at dksX16_standSum_0 4 rfl rfl)
theorem dX16_standSum_5 : decode cX16_standSum 5 = .ok (.getfield 230, 3) := dk_180 0 230 (dk_at dksX16_standSum_0 5 rfl rfl)
theorem dX16_standSum_8 : decode cX16_standSum 8 = .ok (.invokevirtual 403, 3) := dk_182 1 147 (dk_at dksX16_standSum_0 8 rfl rfl)
theorem dX16_standSum_11 : decode cX16_standSum 11 = .ok (.bipush 60, 2) := dk_16 60 (dk_at dksX16_standSum_0 11 rfl rfl)
theorem dX16_standSum_13 : decode cX16_standSum 13 = .ok (.if_icmp .le 10, 3) := dk_164 0 10 (dk_at dksX16_standSum_0 13 rfl rfl)
theorem dX16_standSum_16 : decode cX16_standSum 16 = .ok (.aload_n 0, 1) := dk_42 (dk_at dksX16_standSum_0 16 rfl rfl)
theorem dX16_standSum_17 : decode cX16_standSum 17 = .ok (.bipush (-6), 2) := dk_16 250 (dk_at dksX16_standSum_0 17 rfl rfl)
theorem dX16_standSum_19 : decode cX16_standSum 19 = .ok (.invokevirtual 407, 3) := dk_182 1 151 (dk_at dksX16_standSum_0 19 rfl rfl)
theorem dX16_standSum_22 : decode cX16_standSum 22 = .ok (.ireturn, 1) := dk_172 (dk_at dksX16_standSum_0 22 rfl rfl)
theorem dX16_standSum_23 : decode cX16_standSum 23 = .ok (.aload_n 0, 1) := dk_42 (dk_at dksX16_standSum_0 23 rfl rfl)
theorem dX16_standSum_24 : decode cX16_standSum 24 = .ok (.getfield 230, 3) := dk_180 0 230 (dk_at dksX16_standSum_1 0 rfl rfl)
theorem dX16_standSum_27 : decode cX16_standSum 27 = .ok (.aload_n 0, 1) := dk_42 (dk_at dksX16_standSum_1 3 rfl rfl)
theorem dX16_standSum_28 : decode cX16_standSum 28 = .ok (.getfield 226, 3) := dk_180 0 226 (dk_at dksX16_standSum_1 4 rfl rfl)
theorem dX16_standSum_31 : decode cX16_standSum 31 = .ok (.invokevirtual 410, 3) := dk_182 1 154 (dk_at dksX16_standSum_1 7 rfl rfl)
theorem dX16_standSum_34 : decode cX16_standSum 34 = .ok (.aload_n 0, 1) := dk_42 (dk_at dksX16_standSum_1 10 rfl rfl)
theorem dX16_standSum_35 : decode cX16_standSum 35 = .ok (.iload_n 1, 1) := dk_27 (dk_at dksX16_standSum_1 11 rfl rfl)
theorem dX16_standSum_36 : decode cX16_standSum 36 = .ok (.aload_n 0, 1) := dk_42 (dk_at dksX16_standSum_1 12 rfl rfl)
theorem dX16_standSum_37 : decode cX16_standSum 37 = .ok (.getfield 226, 3) := dk_180 0 226 (dk_at dksX16_standSum_1 13 rfl rfl)
theorem dX16_standSum_40 : decode cX16_standSum 40 = .ok (.invokevirtual 413, 3) := dk_182 1 157 (dk_at dksX16_standSum_1 16 rfl rfl)
theorem dX16_standSum_43 : decode cX16_standSum 43 = .ok (.ireturn, 1) := dk_172 (dk_at dksX16_standSum_1 19 rfl rfl)
abbrev cX16_lex : ByteArray := prog_21_method_13_code
def yX16_lex : MethodName := ⟨RX16, "lex", "(II)I"⟩
def dkwX16_lex_2 : List UInt8 := [172]
abbrev dktX16_lex_2 : List UInt8 := dkwX16_lex_2 ++ []
def dkwX16_lex_1 : List UInt8 := [184, 0, 119, 27, 28, 184, 0, 119, 162, 0, 7, 2, 167, 0, 4, 4, 172, 132, 2, 1, 167, 255, 216, 3]
abbrev dktX16_lex_1 : List UInt8 := dkwX16_lex_1 ++ dktX16_lex_2
def dkwX16_lex_0 : List UInt8 := [3, 61, 28, 6, 162, 0, 41, 26, 28, 184, 0, 119, 27, 28, 184, 0, 119, 159, 0, 22, 26, 28]
abbrev dktX16_lex_0 : List UInt8 := dkwX16_lex_0 ++ dktX16_lex_1
theorem dksX16_lex_0 : cX16_lex.data.toList.drop 0 = dktX16_lex_0 := by decide +kernel
theorem dksX16_lex_1 : cX16_lex.data.toList.drop 22 = dktX16_lex_1 := dk_seg dksX16_lex_0 22 rfl rfl
theorem dksX16_lex_2 : cX16_lex.data.toList.drop 46 = dktX16_lex_2 := dk_seg dksX16_lex_1 24 rfl rfl
theorem dX16_lex_0 : decode cX16_lex 0 = .ok (.iconst 0, 1) := dk_3 (dk_at dksX16_lex_0 0 rfl rfl)
theorem dX16_lex_1 : decode cX16_lex 1 = .ok (.istore_n 2, 1) := dk_61 (dk_at dksX16_lex_0 1 rfl rfl)
theorem dX16_lex_2 : decode cX16_lex 2 = .ok (.iload_n 2, 1) := dk_28 (dk_at dksX16_lex_0 2 rfl rfl)
theorem dX16_lex_3 : decode cX16_lex 3 = .ok (.iconst 3, 1) := dk_6 (dk_at dksX16_lex_0 3 rfl rfl)
theorem dX16_lex_4 : decode cX16_lex 4 = .ok (.if_icmp .ge 41, 3) := dk_162 0 41 (dk_at dksX16_lex_0 4 rfl rfl)
theorem dX16_lex_7 : decode cX16_lex 7 = .ok (.iload_n 0, 1) := dk_26 (dk_at dksX16_lex_0 7 rfl rfl)
theorem dX16_lex_8 : decode cX16_lex 8 = .ok (.iload_n 2, 1) := dk_28 (dk_at dksX16_lex_0 8 rfl rfl)
theorem dX16_lex_9 : decode cX16_lex 9 = .ok (.invokestatic 119, 3) := dk_184 0 119 (dk_at dksX16_lex_0 9 rfl rfl)
theorem dX16_lex_12 : decode cX16_lex 12 = .ok (.iload_n 1, 1) := dk_27 (dk_at dksX16_lex_0 12 rfl rfl)
theorem dX16_lex_13 : decode cX16_lex 13 = .ok (.iload_n 2, 1) := dk_28 (dk_at dksX16_lex_0 13 rfl rfl)
theorem dX16_lex_14 : decode cX16_lex 14 = .ok (.invokestatic 119, 3) := dk_184 0 119 (dk_at dksX16_lex_0 14 rfl rfl)
theorem dX16_lex_17 : decode cX16_lex 17 = .ok (.if_icmp .eq 22, 3) := dk_159 0 22 (dk_at dksX16_lex_0 17 rfl rfl)
theorem dX16_lex_20 : decode cX16_lex 20 = .ok (.iload_n 0, 1) := dk_26 (dk_at dksX16_lex_0 20 rfl rfl)
theorem dX16_lex_21 : decode cX16_lex 21 = .ok (.iload_n 2, 1) := dk_28 (dk_at dksX16_lex_0 21 rfl rfl)
theorem dX16_lex_22 : decode cX16_lex 22 = .ok (.invokestatic 119, 3) := dk_184 0 119 (dk_at dksX16_lex_1 0 rfl rfl)
theorem dX16_lex_25 : decode cX16_lex 25 = .ok (.iload_n 1, 1) := dk_27 (dk_at dksX16_lex_1 3 rfl rfl)
theorem dX16_lex_26 : decode cX16_lex 26 = .ok (.iload_n 2, 1) := dk_28 (dk_at dksX16_lex_1 4 rfl rfl)
theorem dX16_lex_27 : decode cX16_lex 27 = .ok (.invokestatic 119, 3) := dk_184 0 119 (dk_at dksX16_lex_1 5 rfl rfl)
theorem dX16_lex_30 : decode cX16_lex 30 = .ok (.if_icmp .ge 7, 3) := dk_162 0 7 (dk_at dksX16_lex_1 8 rfl rfl)
theorem dX16_lex_33 : decode cX16_lex 33 = .ok (.iconst (-1), 1) := dk_2 (dk_at dksX16_lex_1 11 rfl rfl)
theorem dX16_lex_34 : decode cX16_lex 34 = .ok (.goto 4, 3) := dk_167 0 4 (dk_at dksX16_lex_1 12 rfl rfl)
theorem dX16_lex_37 : decode cX16_lex 37 = .ok (.iconst 1, 1) := dk_4 (dk_at dksX16_lex_1 15 rfl rfl)
theorem dX16_lex_38 : decode cX16_lex 38 = .ok (.ireturn, 1) := dk_172 (dk_at dksX16_lex_1 16 rfl rfl)
theorem dX16_lex_39 : decode cX16_lex 39 = .ok (.iinc 2 1, 3) := dk_132 2 1 (dk_at dksX16_lex_1 17 rfl rfl)
theorem dX16_lex_42 : decode cX16_lex 42 = .ok (.goto (-40), 3) := dk_167 255 216 (dk_at dksX16_lex_1 20 rfl rfl)
theorem dX16_lex_45 : decode cX16_lex 45 = .ok (.iconst 0, 1) := dk_3 (dk_at dksX16_lex_1 23 rfl rfl)
theorem dX16_lex_46 : decode cX16_lex 46 = .ok (.ireturn, 1) := dk_172 (dk_at dksX16_lex_2 0 rfl rfl)
abbrev cX16_add_2 : ByteArray := prog_21_method_32_code
def yX16_add_2 : MethodName := ⟨RX16, "add", "(III)I"⟩
def dkwX16_add_2_0 : List UInt8 := [42, 27, 28, 29, 4, 182, 1, 182, 172]
abbrev dktX16_add_2_0 : List UInt8 := dkwX16_add_2_0 ++ []
theorem dksX16_add_2_0 : cX16_add_2.data.toList.drop 0 = dktX16_add_2_0 := by decide +kernel
theorem dX16_add_2_0 : decode cX16_add_2 0 = .ok (.aload_n 0, 1) := dk_42 (dk_at dksX16_add_2_0 0 rfl rfl)
theorem dX16_add_2_1 : decode cX16_add_2 1 = .ok (.iload_n 1, 1) := dk_27 (dk_at dksX16_add_2_0 1 rfl rfl)
theorem dX16_add_2_2 : decode cX16_add_2 2 = .ok (.iload_n 2, 1) := dk_28 (dk_at dksX16_add_2_0 2 rfl rfl)
theorem dX16_add_2_3 : decode cX16_add_2 3 = .ok (.iload_n 3, 1) := dk_29 (dk_at dksX16_add_2_0 3 rfl rfl)
theorem dX16_add_2_4 : decode cX16_add_2 4 = .ok (.iconst 1, 1) := dk_4 (dk_at dksX16_add_2_0 4 rfl rfl)
theorem dX16_add_2_5 : decode cX16_add_2 5 = .ok (.invokevirtual 438, 3) := dk_182 1 182 (dk_at dksX16_add_2_0 5 rfl rfl)
theorem dX16_add_2_8 : decode cX16_add_2 8 = .ok (.ireturn, 1) := dk_172 (dk_at dksX16_add_2_0 8 rfl rfl)
abbrev cX16_joined : ByteArray := prog_21_method_31_code
def yX16_joined : MethodName := ⟨RX16, "joined", "(IIII)I"⟩
def dkwX16_joined_4 : List UInt8 := [182, 1, 174, 172]
abbrev dktX16_joined_4 : List UInt8 := dkwX16_joined_4 ++ []
def dkwX16_joined_3 : List UInt8 := [180, 0, 184, 28, 50, 21, 4, 182, 1, 170, 153, 0, 7, 4, 167, 0, 4, 3, 54, 6, 42, 29, 21, 6]
abbrev dktX16_joined_3 : List UInt8 := dkwX16_joined_3 ++ dktX16_joined_4
def dkwX16_joined_2 : List UInt8 := [180, 0, 184, 27, 50, 4, 182, 1, 170, 54, 6, 21, 6, 153, 0, 26, 42, 42, 180, 0, 230, 42]
abbrev dktX16_joined_2 : List UInt8 := dkwX16_joined_2 ++ dktX16_joined_3
def dkwX16_joined_1 : List UInt8 := [156, 0, 10, 42, 21, 5, 182, 1, 151, 172, 42, 180, 0, 230, 182, 1, 167, 42, 42, 180, 0, 230, 42]
abbrev dktX16_joined_1 : List UInt8 := dkwX16_joined_1 ++ dktX16_joined_2
def dkwX16_joined_0 : List UInt8 := [42, 27, 4, 182, 1, 164, 42, 28, 4, 182, 1, 164, 42, 29, 182, 1, 161, 184, 1, 178, 54, 5, 21, 5]
abbrev dktX16_joined_0 : List UInt8 := dkwX16_joined_0 ++ dktX16_joined_1
theorem dksX16_joined_0 : cX16_joined.data.toList.drop 0 = dktX16_joined_0 := by decide +kernel
theorem dksX16_joined_1 : cX16_joined.data.toList.drop 24 = dktX16_joined_1 := dk_seg dksX16_joined_0 24 rfl rfl
theorem dksX16_joined_2 : cX16_joined.data.toList.drop 47 = dktX16_joined_2 := dk_seg dksX16_joined_1 23 rfl rfl
theorem dksX16_joined_3 : cX16_joined.data.toList.drop 69 = dktX16_joined_3 := dk_seg dksX16_joined_2 22 rfl rfl
theorem dksX16_joined_4 : cX16_joined.data.toList.drop 93 = dktX16_joined_4 := dk_seg dksX16_joined_3 24 rfl rfl
theorem dX16_joined_0 : decode cX16_joined 0 = .ok (.aload_n 0, 1) := dk_42 (dk_at dksX16_joined_0 0 rfl rfl)
theorem dX16_joined_1 : decode cX16_joined 1 = .ok (.iload_n 1, 1) := dk_27 (dk_at dksX16_joined_0 1 rfl rfl)
theorem dX16_joined_2 : decode cX16_joined 2 = .ok (.iconst 1, 1) := dk_4 (dk_at dksX16_joined_0 2 rfl rfl)
theorem dX16_joined_3 : decode cX16_joined 3 = .ok (.invokevirtual 420, 3) := dk_182 1 164 (dk_at dksX16_joined_0 3 rfl rfl)
theorem dX16_joined_6 : decode cX16_joined 6 = .ok (.aload_n 0, 1) := dk_42 (dk_at dksX16_joined_0 6 rfl rfl)
theorem dX16_joined_7 : decode cX16_joined 7 = .ok (.iload_n 2, 1) := dk_28 (dk_at dksX16_joined_0 7 rfl rfl)
theorem dX16_joined_8 : decode cX16_joined 8 = .ok (.iconst 1, 1) := dk_4 (dk_at dksX16_joined_0 8 rfl rfl)
theorem dX16_joined_9 : decode cX16_joined 9 = .ok (.invokevirtual 420, 3) := dk_182 1 164 (dk_at dksX16_joined_0 9 rfl rfl)
theorem dX16_joined_12 : decode cX16_joined 12 = .ok (.aload_n 0, 1) := dk_42 (dk_at dksX16_joined_0 12 rfl rfl)
theorem dX16_joined_13 : decode cX16_joined 13 = .ok (.iload_n 3, 1) := dk_29 (dk_at dksX16_joined_0 13 rfl rfl)
theorem dX16_joined_14 : decode cX16_joined 14 = .ok (.invokevirtual 417, 3) := dk_182 1 161 (dk_at dksX16_joined_0 14 rfl rfl)
theorem dX16_joined_17 : decode cX16_joined 17 = .ok (.invokestatic 434, 3) := dk_184 1 178 (dk_at dksX16_joined_0 17 rfl rfl)
theorem dX16_joined_20 : decode cX16_joined 20 = .ok (.istore 5, 2) := dk_54 5 (dk_at dksX16_joined_0 20 rfl rfl)
theorem dX16_joined_22 : decode cX16_joined 22 = .ok (.iload 5, 2) := dk_21 5 (dk_at dksX16_joined_0 22 rfl rfl)
theorem dX16_joined_24 : decode cX16_joined 24 = .ok (.ifCond .ge 10, 3) := dk_156 0 10 (dk_at dksX16_joined_1 0 rfl rfl)
theorem dX16_joined_27 : decode cX16_joined 27 = .ok (.aload_n 0, 1) := dk_42 (dk_at dksX16_joined_1 3 rfl rfl)
theorem dX16_joined_28 : decode cX16_joined 28 = .ok (.iload 5, 2) := dk_21 5 (dk_at dksX16_joined_1 4 rfl rfl)
theorem dX16_joined_30 : decode cX16_joined 30 = .ok (.invokevirtual 407, 3) := dk_182 1 151 (dk_at dksX16_joined_1 6 rfl rfl)
theorem dX16_joined_33 : decode cX16_joined 33 = .ok (.ireturn, 1) := dk_172 (dk_at dksX16_joined_1 9 rfl rfl)
theorem dX16_joined_34 : decode cX16_joined 34 = .ok (.aload_n 0, 1) := dk_42 (dk_at dksX16_joined_1 10 rfl rfl)
theorem dX16_joined_35 : decode cX16_joined 35 = .ok (.getfield 230, 3) := dk_180 0 230 (dk_at dksX16_joined_1 11 rfl rfl)
theorem dX16_joined_38 : decode cX16_joined 38 = .ok (.invokevirtual 423, 3) := dk_182 1 167 (dk_at dksX16_joined_1 14 rfl rfl)
theorem dX16_joined_41 : decode cX16_joined 41 = .ok (.aload_n 0, 1) := dk_42 (dk_at dksX16_joined_1 17 rfl rfl)
theorem dX16_joined_42 : decode cX16_joined 42 = .ok (.aload_n 0, 1) := dk_42 (dk_at dksX16_joined_1 18 rfl rfl)
theorem dX16_joined_43 : decode cX16_joined 43 = .ok (.getfield 230, 3) := dk_180 0 230 (dk_at dksX16_joined_1 19 rfl rfl)
theorem dX16_joined_46 : decode cX16_joined 46 = .ok (.aload_n 0, 1) := dk_42 (dk_at dksX16_joined_1 22 rfl rfl)
theorem dX16_joined_47 : decode cX16_joined 47 = .ok (.getfield 184, 3) := dk_180 0 184 (dk_at dksX16_joined_2 0 rfl rfl)
theorem dX16_joined_50 : decode cX16_joined 50 = .ok (.iload_n 1, 1) := dk_27 (dk_at dksX16_joined_2 3 rfl rfl)
theorem dX16_joined_51 : decode cX16_joined 51 = .ok (.aaload, 1) := dk_50 (dk_at dksX16_joined_2 4 rfl rfl)
theorem dX16_joined_52 : decode cX16_joined 52 = .ok (.iconst 1, 1) := dk_4 (dk_at dksX16_joined_2 5 rfl rfl)
theorem dX16_joined_53 : decode cX16_joined 53 = .ok (.invokevirtual 426, 3) := dk_182 1 170 (dk_at dksX16_joined_2 6 rfl rfl)
theorem dX16_joined_56 : decode cX16_joined 56 = .ok (.istore 6, 2) := dk_54 6 (dk_at dksX16_joined_2 9 rfl rfl)
theorem dX16_joined_58 : decode cX16_joined 58 = .ok (.iload 6, 2) := dk_21 6 (dk_at dksX16_joined_2 11 rfl rfl)
theorem dX16_joined_60 : decode cX16_joined 60 = .ok (.ifCond .eq 26, 3) := dk_153 0 26 (dk_at dksX16_joined_2 13 rfl rfl)
theorem dX16_joined_63 : decode cX16_joined 63 = .ok (.aload_n 0, 1) := dk_42 (dk_at dksX16_joined_2 16 rfl rfl)
theorem dX16_joined_64 : decode cX16_joined 64 = .ok (.aload_n 0, 1) := dk_42 (dk_at dksX16_joined_2 17 rfl rfl)
theorem dX16_joined_65 : decode cX16_joined 65 = .ok (.getfield 230, 3) := dk_180 0 230 (dk_at dksX16_joined_2 18 rfl rfl)
theorem dX16_joined_68 : decode cX16_joined 68 = .ok (.aload_n 0, 1) := dk_42 (dk_at dksX16_joined_2 21 rfl rfl)
theorem dX16_joined_69 : decode cX16_joined 69 = .ok (.getfield 184, 3) := dk_180 0 184 (dk_at dksX16_joined_3 0 rfl rfl)
theorem dX16_joined_72 : decode cX16_joined 72 = .ok (.iload_n 2, 1) := dk_28 (dk_at dksX16_joined_3 3 rfl rfl)
theorem dX16_joined_73 : decode cX16_joined 73 = .ok (.aaload, 1) := dk_50 (dk_at dksX16_joined_3 4 rfl rfl)
theorem dX16_joined_74 : decode cX16_joined 74 = .ok (.iload 4, 2) := dk_21 4 (dk_at dksX16_joined_3 5 rfl rfl)
theorem dX16_joined_76 : decode cX16_joined 76 = .ok (.invokevirtual 426, 3) := dk_182 1 170 (dk_at dksX16_joined_3 7 rfl rfl)
theorem dX16_joined_79 : decode cX16_joined 79 = .ok (.ifCond .eq 7, 3) := dk_153 0 7 (dk_at dksX16_joined_3 10 rfl rfl)
theorem dX16_joined_82 : decode cX16_joined 82 = .ok (.iconst 1, 1) := dk_4 (dk_at dksX16_joined_3 13 rfl rfl)
theorem dX16_joined_83 : decode cX16_joined 83 = .ok (.goto 4, 3) := dk_167 0 4 (dk_at dksX16_joined_3 14 rfl rfl)
theorem dX16_joined_86 : decode cX16_joined 86 = .ok (.iconst 0, 1) := dk_3 (dk_at dksX16_joined_3 17 rfl rfl)
theorem dX16_joined_87 : decode cX16_joined 87 = .ok (.istore 6, 2) := dk_54 6 (dk_at dksX16_joined_3 18 rfl rfl)
theorem dX16_joined_89 : decode cX16_joined 89 = .ok (.aload_n 0, 1) := dk_42 (dk_at dksX16_joined_3 20 rfl rfl)
theorem dX16_joined_90 : decode cX16_joined 90 = .ok (.iload_n 3, 1) := dk_29 (dk_at dksX16_joined_3 21 rfl rfl)
theorem dX16_joined_91 : decode cX16_joined 91 = .ok (.iload 6, 2) := dk_21 6 (dk_at dksX16_joined_3 22 rfl rfl)
theorem dX16_joined_93 : decode cX16_joined 93 = .ok (.invokevirtual 430, 3) := dk_182 1 174 (dk_at dksX16_joined_4 0 rfl rfl)
theorem dX16_joined_96 : decode cX16_joined 96 = .ok (.ireturn, 1) := dk_172 (dk_at dksX16_joined_4 3 rfl rfl)
abbrev cX16_firstOf : ByteArray := prog_21_method_25_code
def yX16_firstOf : MethodName := ⟨RX16, "firstOf", "(III)I"⟩
def dkwX16_firstOf_0 : List UInt8 := [26, 156, 0, 7, 26, 167, 0, 12, 27, 156, 0, 7, 27, 167, 0, 4, 28, 172]
abbrev dktX16_firstOf_0 : List UInt8 := dkwX16_firstOf_0 ++ []
theorem dksX16_firstOf_0 : cX16_firstOf.data.toList.drop 0 = dktX16_firstOf_0 := by decide +kernel
theorem dX16_firstOf_0 : decode cX16_firstOf 0 = .ok (.iload_n 0, 1) := dk_26 (dk_at dksX16_firstOf_0 0 rfl rfl)
theorem dX16_firstOf_1 : decode cX16_firstOf 1 = .ok (.ifCond .ge 7, 3) := dk_156 0 7 (dk_at dksX16_firstOf_0 1 rfl rfl)
theorem dX16_firstOf_4 : decode cX16_firstOf 4 = .ok (.iload_n 0, 1) := dk_26 (dk_at dksX16_firstOf_0 4 rfl rfl)
theorem dX16_firstOf_5 : decode cX16_firstOf 5 = .ok (.goto 12, 3) := dk_167 0 12 (dk_at dksX16_firstOf_0 5 rfl rfl)
theorem dX16_firstOf_8 : decode cX16_firstOf 8 = .ok (.iload_n 1, 1) := dk_27 (dk_at dksX16_firstOf_0 8 rfl rfl)
theorem dX16_firstOf_9 : decode cX16_firstOf 9 = .ok (.ifCond .ge 7, 3) := dk_156 0 7 (dk_at dksX16_firstOf_0 9 rfl rfl)
theorem dX16_firstOf_12 : decode cX16_firstOf 12 = .ok (.iload_n 1, 1) := dk_27 (dk_at dksX16_firstOf_0 12 rfl rfl)
theorem dX16_firstOf_13 : decode cX16_firstOf 13 = .ok (.goto 4, 3) := dk_167 0 4 (dk_at dksX16_firstOf_0 13 rfl rfl)
theorem dX16_firstOf_16 : decode cX16_firstOf 16 = .ok (.iload_n 2, 1) := dk_28 (dk_at dksX16_firstOf_0 16 rfl rfl)
theorem dX16_firstOf_17 : decode cX16_firstOf 17 = .ok (.ireturn, 1) := dk_172 (dk_at dksX16_firstOf_0 17 rfl rfl)
abbrev cX16_less : ByteArray := prog_21_method_33_code
def yX16_less : MethodName := ⟨RX16, "less", "(III)I"⟩
def dkwX16_less_0 : List UInt8 := [42, 27, 28, 29, 2, 182, 1, 182, 172]
abbrev dktX16_less_0 : List UInt8 := dkwX16_less_0 ++ []
theorem dksX16_less_0 : cX16_less.data.toList.drop 0 = dktX16_less_0 := by decide +kernel
theorem dX16_less_0 : decode cX16_less 0 = .ok (.aload_n 0, 1) := dk_42 (dk_at dksX16_less_0 0 rfl rfl)
theorem dX16_less_1 : decode cX16_less 1 = .ok (.iload_n 1, 1) := dk_27 (dk_at dksX16_less_0 1 rfl rfl)
theorem dX16_less_2 : decode cX16_less 2 = .ok (.iload_n 2, 1) := dk_28 (dk_at dksX16_less_0 2 rfl rfl)
theorem dX16_less_3 : decode cX16_less 3 = .ok (.iload_n 3, 1) := dk_29 (dk_at dksX16_less_0 3 rfl rfl)
theorem dX16_less_4 : decode cX16_less 4 = .ok (.iconst (-1), 1) := dk_2 (dk_at dksX16_less_0 4 rfl rfl)
theorem dX16_less_5 : decode cX16_less 5 = .ok (.invokevirtual 438, 3) := dk_182 1 182 (dk_at dksX16_less_0 5 rfl rfl)
theorem dX16_less_8 : decode cX16_less 8 = .ok (.ireturn, 1) := dk_172 (dk_at dksX16_less_0 8 rfl rfl)
abbrev cX16_times : ByteArray := prog_21_method_34_code
def yX16_times : MethodName := ⟨RX16, "times", "(III)I"⟩
def dkwX16_times_10 : List UInt8 := [172]
abbrev dktX16_times_10 : List UInt8 := dkwX16_times_10 ++ []
def dkwX16_times_9 : List UInt8 := [182, 0, 172, 54, 7, 132, 9, 1, 167, 255, 154, 132, 8, 1, 167, 255, 130, 42, 29, 21, 7, 182, 1, 174]
abbrev dktX16_times_9 : List UInt8 := dkwX16_times_9 ++ dktX16_times_10
def dkwX16_times_8 : List UInt8 := [180, 0, 167, 21, 8, 46, 25, 6, 180, 0, 167, 21, 9, 46, 96, 42, 180, 0, 246, 42, 180, 0, 249, 4]
abbrev dktX16_times_8 : List UInt8 := dkwX16_times_8 ++ dktX16_times_9
def dkwX16_times_7 : List UInt8 := [180, 0, 171, 21, 8, 50, 25, 6, 180, 0, 171, 21, 9, 50, 182, 0, 105, 42, 42, 180, 0, 230, 25, 5]
abbrev dktX16_times_7 : List UInt8 := dkwX16_times_7 ++ dktX16_times_8
def dkwX16_times_6 : List UInt8 := [180, 0, 170, 21, 8, 50, 25, 6, 180, 0, 170, 21, 9, 50, 182, 0, 105, 42, 42, 180, 0, 249, 25, 5]
abbrev dktX16_times_6 : List UInt8 := dkwX16_times_6 ++ dktX16_times_7
def dkwX16_times_5 : List UInt8 := [21, 9, 25, 6, 180, 0, 162, 162, 0, 98, 21, 7, 153, 0, 93, 42, 42, 180, 0, 246, 25, 5]
abbrev dktX16_times_5 : List UInt8 := dkwX16_times_5 ++ dktX16_times_6
def dkwX16_times_4 : List UInt8 := [54, 7, 3, 54, 8, 21, 8, 25, 5, 180, 0, 162, 162, 0, 122, 21, 7, 153, 0, 117, 3, 54, 9]
abbrev dktX16_times_4 : List UInt8 := dkwX16_times_4 ++ dktX16_times_5
def dkwX16_times_3 : List UInt8 := [153, 0, 19, 25, 5, 182, 1, 185, 25, 6, 182, 1, 185, 96, 16, 12, 163, 0, 7, 4, 167, 0, 4, 3]
abbrev dktX16_times_3 : List UInt8 := dkwX16_times_3 ++ dktX16_times_4
def dkwX16_times_2 : List UInt8 := [58, 6, 42, 180, 0, 230, 182, 1, 167, 25, 5, 180, 0, 162, 153, 0, 27, 25, 6, 180, 0, 162]
abbrev dktX16_times_2 : List UInt8 := dkwX16_times_2 ++ dktX16_times_3
def dkwX16_times_1 : List UInt8 := [156, 0, 10, 42, 21, 4, 182, 1, 151, 172, 42, 180, 0, 184, 27, 50, 58, 5, 42, 180, 0, 184, 28, 50]
abbrev dktX16_times_1 : List UInt8 := dkwX16_times_1 ++ dktX16_times_2
def dkwX16_times_0 : List UInt8 := [42, 27, 4, 182, 1, 164, 42, 28, 4, 182, 1, 164, 42, 29, 182, 1, 161, 184, 1, 178, 54, 4, 21, 4]
abbrev dktX16_times_0 : List UInt8 := dkwX16_times_0 ++ dktX16_times_1
theorem dksX16_times_0 : cX16_times.data.toList.drop 0 = dktX16_times_0 := by decide +kernel
theorem dksX16_times_1 : cX16_times.data.toList.drop 24 = dktX16_times_1 := dk_seg dksX16_times_0 24 rfl rfl
theorem dksX16_times_2 : cX16_times.data.toList.drop 48 = dktX16_times_2 := dk_seg dksX16_times_1 24 rfl rfl
theorem dksX16_times_3 : cX16_times.data.toList.drop 70 = dktX16_times_3 := dk_seg dksX16_times_2 22 rfl rfl
theorem dksX16_times_4 : cX16_times.data.toList.drop 94 = dktX16_times_4 := dk_seg dksX16_times_3 24 rfl rfl
theorem dksX16_times_5 : cX16_times.data.toList.drop 117 = dktX16_times_5 := dk_seg dksX16_times_4 23 rfl rfl
theorem dksX16_times_6 : cX16_times.data.toList.drop 139 = dktX16_times_6 := dk_seg dksX16_times_5 22 rfl rfl
theorem dksX16_times_7 : cX16_times.data.toList.drop 163 = dktX16_times_7 := dk_seg dksX16_times_6 24 rfl rfl
theorem dksX16_times_8 : cX16_times.data.toList.drop 187 = dktX16_times_8 := dk_seg dksX16_times_7 24 rfl rfl
theorem dksX16_times_9 : cX16_times.data.toList.drop 211 = dktX16_times_9 := dk_seg dksX16_times_8 24 rfl rfl
theorem dksX16_times_10 : cX16_times.data.toList.drop 235 = dktX16_times_10 := dk_seg dksX16_times_9 24 rfl rfl
theorem dX16_times_0 : decode cX16_times 0 = .ok (.aload_n 0, 1) := dk_42 (dk_at dksX16_times_0 0 rfl rfl)
theorem dX16_times_1 : decode cX16_times 1 = .ok (.iload_n 1, 1) := dk_27 (dk_at dksX16_times_0 1 rfl rfl)
theorem dX16_times_2 : decode cX16_times 2 = .ok (.iconst 1, 1) := dk_4 (dk_at dksX16_times_0 2 rfl rfl)
theorem dX16_times_3 : decode cX16_times 3 = .ok (.invokevirtual 420, 3) := dk_182 1 164 (dk_at dksX16_times_0 3 rfl rfl)
theorem dX16_times_6 : decode cX16_times 6 = .ok (.aload_n 0, 1) := dk_42 (dk_at dksX16_times_0 6 rfl rfl)
theorem dX16_times_7 : decode cX16_times 7 = .ok (.iload_n 2, 1) := dk_28 (dk_at dksX16_times_0 7 rfl rfl)
theorem dX16_times_8 : decode cX16_times 8 = .ok (.iconst 1, 1) := dk_4 (dk_at dksX16_times_0 8 rfl rfl)
theorem dX16_times_9 : decode cX16_times 9 = .ok (.invokevirtual 420, 3) := dk_182 1 164 (dk_at dksX16_times_0 9 rfl rfl)
theorem dX16_times_12 : decode cX16_times 12 = .ok (.aload_n 0, 1) := dk_42 (dk_at dksX16_times_0 12 rfl rfl)
theorem dX16_times_13 : decode cX16_times 13 = .ok (.iload_n 3, 1) := dk_29 (dk_at dksX16_times_0 13 rfl rfl)
theorem dX16_times_14 : decode cX16_times 14 = .ok (.invokevirtual 417, 3) := dk_182 1 161 (dk_at dksX16_times_0 14 rfl rfl)
theorem dX16_times_17 : decode cX16_times 17 = .ok (.invokestatic 434, 3) := dk_184 1 178 (dk_at dksX16_times_0 17 rfl rfl)
theorem dX16_times_20 : decode cX16_times 20 = .ok (.istore 4, 2) := dk_54 4 (dk_at dksX16_times_0 20 rfl rfl)
theorem dX16_times_22 : decode cX16_times 22 = .ok (.iload 4, 2) := dk_21 4 (dk_at dksX16_times_0 22 rfl rfl)
theorem dX16_times_24 : decode cX16_times 24 = .ok (.ifCond .ge 10, 3) := dk_156 0 10 (dk_at dksX16_times_1 0 rfl rfl)
theorem dX16_times_27 : decode cX16_times 27 = .ok (.aload_n 0, 1) := dk_42 (dk_at dksX16_times_1 3 rfl rfl)
theorem dX16_times_28 : decode cX16_times 28 = .ok (.iload 4, 2) := dk_21 4 (dk_at dksX16_times_1 4 rfl rfl)
theorem dX16_times_30 : decode cX16_times 30 = .ok (.invokevirtual 407, 3) := dk_182 1 151 (dk_at dksX16_times_1 6 rfl rfl)
theorem dX16_times_33 : decode cX16_times 33 = .ok (.ireturn, 1) := dk_172 (dk_at dksX16_times_1 9 rfl rfl)
theorem dX16_times_34 : decode cX16_times 34 = .ok (.aload_n 0, 1) := dk_42 (dk_at dksX16_times_1 10 rfl rfl)
theorem dX16_times_35 : decode cX16_times 35 = .ok (.getfield 184, 3) := dk_180 0 184 (dk_at dksX16_times_1 11 rfl rfl)
theorem dX16_times_38 : decode cX16_times 38 = .ok (.iload_n 1, 1) := dk_27 (dk_at dksX16_times_1 14 rfl rfl)
theorem dX16_times_39 : decode cX16_times 39 = .ok (.aaload, 1) := dk_50 (dk_at dksX16_times_1 15 rfl rfl)
theorem dX16_times_40 : decode cX16_times 40 = .ok (.astore 5, 2) := dk_58 5 (dk_at dksX16_times_1 16 rfl rfl)
theorem dX16_times_42 : decode cX16_times 42 = .ok (.aload_n 0, 1) := dk_42 (dk_at dksX16_times_1 18 rfl rfl)
theorem dX16_times_43 : decode cX16_times 43 = .ok (.getfield 184, 3) := dk_180 0 184 (dk_at dksX16_times_1 19 rfl rfl)
theorem dX16_times_46 : decode cX16_times 46 = .ok (.iload_n 2, 1) := dk_28 (dk_at dksX16_times_1 22 rfl rfl)
theorem dX16_times_47 : decode cX16_times 47 = .ok (.aaload, 1) := dk_50 (dk_at dksX16_times_1 23 rfl rfl)
theorem dX16_times_48 : decode cX16_times 48 = .ok (.astore 6, 2) := dk_58 6 (dk_at dksX16_times_2 0 rfl rfl)
theorem dX16_times_50 : decode cX16_times 50 = .ok (.aload_n 0, 1) := dk_42 (dk_at dksX16_times_2 2 rfl rfl)
theorem dX16_times_51 : decode cX16_times 51 = .ok (.getfield 230, 3) := dk_180 0 230 (dk_at dksX16_times_2 3 rfl rfl)
theorem dX16_times_54 : decode cX16_times 54 = .ok (.invokevirtual 423, 3) := dk_182 1 167 (dk_at dksX16_times_2 6 rfl rfl)
theorem dX16_times_57 : decode cX16_times 57 = .ok (.aload 5, 2) := dk_25 5 (dk_at dksX16_times_2 9 rfl rfl)
theorem dX16_times_59 : decode cX16_times 59 = .ok (.getfield 162, 3) := dk_180 0 162 (dk_at dksX16_times_2 11 rfl rfl)
theorem dX16_times_62 : decode cX16_times 62 = .ok (.ifCond .eq 27, 3) := dk_153 0 27 (dk_at dksX16_times_2 14 rfl rfl)
theorem dX16_times_65 : decode cX16_times 65 = .ok (.aload 6, 2) := dk_25 6 (dk_at dksX16_times_2 17 rfl rfl)
theorem dX16_times_67 : decode cX16_times 67 = .ok (.getfield 162, 3) := dk_180 0 162 (dk_at dksX16_times_2 19 rfl rfl)
theorem dX16_times_70 : decode cX16_times 70 = .ok (.ifCond .eq 19, 3) := dk_153 0 19 (dk_at dksX16_times_3 0 rfl rfl)
theorem dX16_times_73 : decode cX16_times 73 = .ok (.aload 5, 2) := dk_25 5 (dk_at dksX16_times_3 3 rfl rfl)
theorem dX16_times_75 : decode cX16_times 75 = .ok (.invokevirtual 441, 3) := dk_182 1 185 (dk_at dksX16_times_3 5 rfl rfl)
theorem dX16_times_78 : decode cX16_times 78 = .ok (.aload 6, 2) := dk_25 6 (dk_at dksX16_times_3 8 rfl rfl)
theorem dX16_times_80 : decode cX16_times 80 = .ok (.invokevirtual 441, 3) := dk_182 1 185 (dk_at dksX16_times_3 10 rfl rfl)
theorem dX16_times_83 : decode cX16_times 83 = .ok (.iadd, 1) := dk_96 (dk_at dksX16_times_3 13 rfl rfl)
theorem dX16_times_84 : decode cX16_times 84 = .ok (.bipush 12, 2) := dk_16 12 (dk_at dksX16_times_3 14 rfl rfl)
theorem dX16_times_86 : decode cX16_times 86 = .ok (.if_icmp .gt 7, 3) := dk_163 0 7 (dk_at dksX16_times_3 16 rfl rfl)
theorem dX16_times_89 : decode cX16_times 89 = .ok (.iconst 1, 1) := dk_4 (dk_at dksX16_times_3 19 rfl rfl)
theorem dX16_times_90 : decode cX16_times 90 = .ok (.goto 4, 3) := dk_167 0 4 (dk_at dksX16_times_3 20 rfl rfl)
theorem dX16_times_93 : decode cX16_times 93 = .ok (.iconst 0, 1) := dk_3 (dk_at dksX16_times_3 23 rfl rfl)
theorem dX16_times_94 : decode cX16_times 94 = .ok (.istore 7, 2) := dk_54 7 (dk_at dksX16_times_4 0 rfl rfl)
theorem dX16_times_96 : decode cX16_times 96 = .ok (.iconst 0, 1) := dk_3 (dk_at dksX16_times_4 2 rfl rfl)
theorem dX16_times_97 : decode cX16_times 97 = .ok (.istore 8, 2) := dk_54 8 (dk_at dksX16_times_4 3 rfl rfl)
theorem dX16_times_99 : decode cX16_times 99 = .ok (.iload 8, 2) := dk_21 8 (dk_at dksX16_times_4 5 rfl rfl)
theorem dX16_times_101 : decode cX16_times 101 = .ok (.aload 5, 2) := dk_25 5 (dk_at dksX16_times_4 7 rfl rfl)
theorem dX16_times_103 : decode cX16_times 103 = .ok (.getfield 162, 3) := dk_180 0 162 (dk_at dksX16_times_4 9 rfl rfl)
theorem dX16_times_106 : decode cX16_times 106 = .ok (.if_icmp .ge 122, 3) := dk_162 0 122 (dk_at dksX16_times_4 12 rfl rfl)
theorem dX16_times_109 : decode cX16_times 109 = .ok (.iload 7, 2) := dk_21 7 (dk_at dksX16_times_4 15 rfl rfl)
theorem dX16_times_111 : decode cX16_times 111 = .ok (.ifCond .eq 117, 3) := dk_153 0 117 (dk_at dksX16_times_4 17 rfl rfl)
theorem dX16_times_114 : decode cX16_times 114 = .ok (.iconst 0, 1) := dk_3 (dk_at dksX16_times_4 20 rfl rfl)
theorem dX16_times_115 : decode cX16_times 115 = .ok (.istore 9, 2) := dk_54 9 (dk_at dksX16_times_4 21 rfl rfl)
theorem dX16_times_117 : decode cX16_times 117 = .ok (.iload 9, 2) := dk_21 9 (dk_at dksX16_times_5 0 rfl rfl)
theorem dX16_times_119 : decode cX16_times 119 = .ok (.aload 6, 2) := dk_25 6 (dk_at dksX16_times_5 2 rfl rfl)
theorem dX16_times_121 : decode cX16_times 121 = .ok (.getfield 162, 3) := dk_180 0 162 (dk_at dksX16_times_5 4 rfl rfl)
theorem dX16_times_124 : decode cX16_times 124 = .ok (.if_icmp .ge 98, 3) := dk_162 0 98 (dk_at dksX16_times_5 7 rfl rfl)
theorem dX16_times_127 : decode cX16_times 127 = .ok (.iload 7, 2) := dk_21 7 (dk_at dksX16_times_5 10 rfl rfl)
theorem dX16_times_129 : decode cX16_times 129 = .ok (.ifCond .eq 93, 3) := dk_153 0 93 (dk_at dksX16_times_5 12 rfl rfl)
theorem dX16_times_132 : decode cX16_times 132 = .ok (.aload_n 0, 1) := dk_42 (dk_at dksX16_times_5 15 rfl rfl)
theorem dX16_times_133 : decode cX16_times 133 = .ok (.aload_n 0, 1) := dk_42 (dk_at dksX16_times_5 16 rfl rfl)
theorem dX16_times_134 : decode cX16_times 134 = .ok (.getfield 246, 3) := dk_180 0 246 (dk_at dksX16_times_5 17 rfl rfl)
theorem dX16_times_137 : decode cX16_times 137 = .ok (.aload 5, 2) := dk_25 5 (dk_at dksX16_times_5 20 rfl rfl)
theorem dX16_times_139 : decode cX16_times 139 = .ok (.getfield 170, 3) := dk_180 0 170 (dk_at dksX16_times_6 0 rfl rfl)
theorem dX16_times_142 : decode cX16_times 142 = .ok (.iload 8, 2) := dk_21 8 (dk_at dksX16_times_6 3 rfl rfl)
theorem dX16_times_144 : decode cX16_times 144 = .ok (.aaload, 1) := dk_50 (dk_at dksX16_times_6 5 rfl rfl)
theorem dX16_times_145 : decode cX16_times 145 = .ok (.aload 6, 2) := dk_25 6 (dk_at dksX16_times_6 6 rfl rfl)
theorem dX16_times_147 : decode cX16_times 147 = .ok (.getfield 170, 3) := dk_180 0 170 (dk_at dksX16_times_6 8 rfl rfl)
theorem dX16_times_150 : decode cX16_times 150 = .ok (.iload 9, 2) := dk_21 9 (dk_at dksX16_times_6 11 rfl rfl)
theorem dX16_times_152 : decode cX16_times 152 = .ok (.aaload, 1) := dk_50 (dk_at dksX16_times_6 13 rfl rfl)
theorem dX16_times_153 : decode cX16_times 153 = .ok (.invokevirtual 105, 3) := dk_182 0 105 (dk_at dksX16_times_6 14 rfl rfl)
theorem dX16_times_156 : decode cX16_times 156 = .ok (.aload_n 0, 1) := dk_42 (dk_at dksX16_times_6 17 rfl rfl)
theorem dX16_times_157 : decode cX16_times 157 = .ok (.aload_n 0, 1) := dk_42 (dk_at dksX16_times_6 18 rfl rfl)
theorem dX16_times_158 : decode cX16_times 158 = .ok (.getfield 249, 3) := dk_180 0 249 (dk_at dksX16_times_6 19 rfl rfl)
theorem dX16_times_161 : decode cX16_times 161 = .ok (.aload 5, 2) := dk_25 5 (dk_at dksX16_times_6 22 rfl rfl)
theorem dX16_times_163 : decode cX16_times 163 = .ok (.getfield 171, 3) := dk_180 0 171 (dk_at dksX16_times_7 0 rfl rfl)
theorem dX16_times_166 : decode cX16_times 166 = .ok (.iload 8, 2) := dk_21 8 (dk_at dksX16_times_7 3 rfl rfl)
theorem dX16_times_168 : decode cX16_times 168 = .ok (.aaload, 1) := dk_50 (dk_at dksX16_times_7 5 rfl rfl)
theorem dX16_times_169 : decode cX16_times 169 = .ok (.aload 6, 2) := dk_25 6 (dk_at dksX16_times_7 6 rfl rfl)
theorem dX16_times_171 : decode cX16_times 171 = .ok (.getfield 171, 3) := dk_180 0 171 (dk_at dksX16_times_7 8 rfl rfl)
theorem dX16_times_174 : decode cX16_times 174 = .ok (.iload 9, 2) := dk_21 9 (dk_at dksX16_times_7 11 rfl rfl)
theorem dX16_times_176 : decode cX16_times 176 = .ok (.aaload, 1) := dk_50 (dk_at dksX16_times_7 13 rfl rfl)
theorem dX16_times_177 : decode cX16_times 177 = .ok (.invokevirtual 105, 3) := dk_182 0 105 (dk_at dksX16_times_7 14 rfl rfl)
theorem dX16_times_180 : decode cX16_times 180 = .ok (.aload_n 0, 1) := dk_42 (dk_at dksX16_times_7 17 rfl rfl)
theorem dX16_times_181 : decode cX16_times 181 = .ok (.aload_n 0, 1) := dk_42 (dk_at dksX16_times_7 18 rfl rfl)
theorem dX16_times_182 : decode cX16_times 182 = .ok (.getfield 230, 3) := dk_180 0 230 (dk_at dksX16_times_7 19 rfl rfl)
theorem dX16_times_185 : decode cX16_times 185 = .ok (.aload 5, 2) := dk_25 5 (dk_at dksX16_times_7 22 rfl rfl)
theorem dX16_times_187 : decode cX16_times 187 = .ok (.getfield 167, 3) := dk_180 0 167 (dk_at dksX16_times_8 0 rfl rfl)
theorem dX16_times_190 : decode cX16_times 190 = .ok (.iload 8, 2) := dk_21 8 (dk_at dksX16_times_8 3 rfl rfl)
theorem dX16_times_192 : decode cX16_times 192 = .ok (.iaload, 1) := dk_46 (dk_at dksX16_times_8 5 rfl rfl)
theorem dX16_times_193 : decode cX16_times 193 = .ok (.aload 6, 2) := dk_25 6 (dk_at dksX16_times_8 6 rfl rfl)
theorem dX16_times_195 : decode cX16_times 195 = .ok (.getfield 167, 3) := dk_180 0 167 (dk_at dksX16_times_8 8 rfl rfl)
theorem dX16_times_198 : decode cX16_times 198 = .ok (.iload 9, 2) := dk_21 9 (dk_at dksX16_times_8 11 rfl rfl)
theorem dX16_times_200 : decode cX16_times 200 = .ok (.iaload, 1) := dk_46 (dk_at dksX16_times_8 13 rfl rfl)
theorem dX16_times_201 : decode cX16_times 201 = .ok (.iadd, 1) := dk_96 (dk_at dksX16_times_8 14 rfl rfl)
theorem dX16_times_202 : decode cX16_times 202 = .ok (.aload_n 0, 1) := dk_42 (dk_at dksX16_times_8 15 rfl rfl)
theorem dX16_times_203 : decode cX16_times 203 = .ok (.getfield 246, 3) := dk_180 0 246 (dk_at dksX16_times_8 16 rfl rfl)
theorem dX16_times_206 : decode cX16_times 206 = .ok (.aload_n 0, 1) := dk_42 (dk_at dksX16_times_8 19 rfl rfl)
theorem dX16_times_207 : decode cX16_times 207 = .ok (.getfield 249, 3) := dk_180 0 249 (dk_at dksX16_times_8 20 rfl rfl)
theorem dX16_times_210 : decode cX16_times 210 = .ok (.iconst 1, 1) := dk_4 (dk_at dksX16_times_8 23 rfl rfl)
theorem dX16_times_211 : decode cX16_times 211 = .ok (.invokevirtual 172, 3) := dk_182 0 172 (dk_at dksX16_times_9 0 rfl rfl)
theorem dX16_times_214 : decode cX16_times 214 = .ok (.istore 7, 2) := dk_54 7 (dk_at dksX16_times_9 3 rfl rfl)
theorem dX16_times_216 : decode cX16_times 216 = .ok (.iinc 9 1, 3) := dk_132 9 1 (dk_at dksX16_times_9 5 rfl rfl)
theorem dX16_times_219 : decode cX16_times 219 = .ok (.goto (-102), 3) := dk_167 255 154 (dk_at dksX16_times_9 8 rfl rfl)
theorem dX16_times_222 : decode cX16_times 222 = .ok (.iinc 8 1, 3) := dk_132 8 1 (dk_at dksX16_times_9 11 rfl rfl)
theorem dX16_times_225 : decode cX16_times 225 = .ok (.goto (-126), 3) := dk_167 255 130 (dk_at dksX16_times_9 14 rfl rfl)
theorem dX16_times_228 : decode cX16_times 228 = .ok (.aload_n 0, 1) := dk_42 (dk_at dksX16_times_9 17 rfl rfl)
theorem dX16_times_229 : decode cX16_times 229 = .ok (.iload_n 3, 1) := dk_29 (dk_at dksX16_times_9 18 rfl rfl)
theorem dX16_times_230 : decode cX16_times 230 = .ok (.iload 7, 2) := dk_21 7 (dk_at dksX16_times_9 19 rfl rfl)
theorem dX16_times_232 : decode cX16_times 232 = .ok (.invokevirtual 430, 3) := dk_182 1 174 (dk_at dksX16_times_9 21 rfl rfl)
theorem dX16_times_235 : decode cX16_times 235 = .ok (.ireturn, 1) := dk_172 (dk_at dksX16_times_10 0 rfl rfl)
abbrev cX16_part : ByteArray := prog_21_method_35_code
def yX16_part : MethodName := ⟨RX16, "part", "(IIII)I"⟩
def dkwX16_part_7 : List UInt8 := [182, 0, 18, 132, 6, 1, 167, 255, 168, 42, 28, 42, 180, 0, 226, 182, 1, 157, 172]
abbrev dktX16_part_7 : List UInt8 := dkwX16_part_7 ++ []
def dkwX16_part_6 : List UInt8 := [180, 0, 226, 180, 0, 171, 21, 6, 50, 42, 180, 0, 184, 27, 50, 180, 0, 171, 29, 21, 6, 96, 50]
abbrev dktX16_part_6 : List UInt8 := dkwX16_part_6 ++ dktX16_part_7
def dkwX16_part_5 : List UInt8 := [180, 0, 170, 21, 6, 50, 42, 180, 0, 184, 27, 50, 180, 0, 170, 29, 21, 6, 96, 50, 182, 0, 18, 42]
abbrev dktX16_part_5 : List UInt8 := dkwX16_part_5 ++ dktX16_part_6
def dkwX16_part_4 : List UInt8 := [180, 0, 167, 21, 6, 42, 180, 0, 184, 27, 50, 180, 0, 167, 29, 21, 6, 96, 46, 79, 42, 180, 0, 226]
abbrev dktX16_part_4 : List UInt8 := dkwX16_part_4 ++ dktX16_part_5
def dkwX16_part_3 : List UInt8 := [180, 0, 226, 21, 4, 181, 0, 162, 3, 54, 6, 21, 6, 21, 4, 162, 0, 87, 42, 180, 0, 226]
abbrev dktX16_part_3 : List UInt8 := dkwX16_part_3 ++ dktX16_part_4
def dkwX16_part_2 : List UInt8 := [133, 97, 42, 180, 0, 184, 27, 50, 180, 0, 162, 133, 148, 158, 0, 9, 42, 2, 182, 1, 151, 172, 42]
abbrev dktX16_part_2 : List UInt8 := dkwX16_part_2 ++ dktX16_part_3
def dkwX16_part_1 : List UInt8 := [182, 1, 151, 172, 21, 4, 156, 0, 10, 42, 16, 252, 182, 1, 151, 172, 29, 155, 0, 23, 29, 133, 21, 4]
abbrev dktX16_part_1 : List UInt8 := dkwX16_part_1 ++ dktX16_part_2
def dkwX16_part_0 : List UInt8 := [42, 27, 4, 182, 1, 164, 42, 28, 182, 1, 161, 184, 1, 188, 54, 5, 21, 5, 156, 0, 10, 42, 21, 5]
abbrev dktX16_part_0 : List UInt8 := dkwX16_part_0 ++ dktX16_part_1
theorem dksX16_part_0 : cX16_part.data.toList.drop 0 = dktX16_part_0 := by decide +kernel
theorem dksX16_part_1 : cX16_part.data.toList.drop 24 = dktX16_part_1 := dk_seg dksX16_part_0 24 rfl rfl
theorem dksX16_part_2 : cX16_part.data.toList.drop 48 = dktX16_part_2 := dk_seg dksX16_part_1 24 rfl rfl
theorem dksX16_part_3 : cX16_part.data.toList.drop 71 = dktX16_part_3 := dk_seg dksX16_part_2 23 rfl rfl
theorem dksX16_part_4 : cX16_part.data.toList.drop 93 = dktX16_part_4 := dk_seg dksX16_part_3 22 rfl rfl
theorem dksX16_part_5 : cX16_part.data.toList.drop 117 = dktX16_part_5 := dk_seg dksX16_part_4 24 rfl rfl
theorem dksX16_part_6 : cX16_part.data.toList.drop 141 = dktX16_part_6 := dk_seg dksX16_part_5 24 rfl rfl
theorem dksX16_part_7 : cX16_part.data.toList.drop 164 = dktX16_part_7 := dk_seg dksX16_part_6 23 rfl rfl
theorem dX16_part_0 : decode cX16_part 0 = .ok (.aload_n 0, 1) := dk_42 (dk_at dksX16_part_0 0 rfl rfl)
theorem dX16_part_1 : decode cX16_part 1 = .ok (.iload_n 1, 1) := dk_27 (dk_at dksX16_part_0 1 rfl rfl)
theorem dX16_part_2 : decode cX16_part 2 = .ok (.iconst 1, 1) := dk_4 (dk_at dksX16_part_0 2 rfl rfl)
theorem dX16_part_3 : decode cX16_part 3 = .ok (.invokevirtual 420, 3) := dk_182 1 164 (dk_at dksX16_part_0 3 rfl rfl)
theorem dX16_part_6 : decode cX16_part 6 = .ok (.aload_n 0, 1) := dk_42 (dk_at dksX16_part_0 6 rfl rfl)
theorem dX16_part_7 : decode cX16_part 7 = .ok (.iload_n 2, 1) := dk_28 (dk_at dksX16_part_0 7 rfl rfl)
theorem dX16_part_8 : decode cX16_part 8 = .ok (.invokevirtual 417, 3) := dk_182 1 161 (dk_at dksX16_part_0 8 rfl rfl)
theorem dX16_part_11 : decode cX16_part 11 = .ok (.invokestatic 444, 3) := dk_184 1 188 (dk_at dksX16_part_0 11 rfl rfl)
theorem dX16_part_14 : decode cX16_part 14 = .ok (.istore 5, 2) := dk_54 5 (dk_at dksX16_part_0 14 rfl rfl)
theorem dX16_part_16 : decode cX16_part 16 = .ok (.iload 5, 2) := dk_21 5 (dk_at dksX16_part_0 16 rfl rfl)
theorem dX16_part_18 : decode cX16_part 18 = .ok (.ifCond .ge 10, 3) := dk_156 0 10 (dk_at dksX16_part_0 18 rfl rfl)
theorem dX16_part_21 : decode cX16_part 21 = .ok (.aload_n 0, 1) := dk_42 (dk_at dksX16_part_0 21 rfl rfl)
theorem dX16_part_22 : decode cX16_part 22 = .ok (.iload 5, 2) := dk_21 5 (dk_at dksX16_part_0 22 rfl rfl)
theorem dX16_part_24 : decode cX16_part 24 = .ok (.invokevirtual 407, 3) := dk_182 1 151 (dk_at dksX16_part_1 0 rfl rfl)
theorem dX16_part_27 : decode cX16_part 27 = .ok (.ireturn, 1) := dk_172 (dk_at dksX16_part_1 3 rfl rfl)
theorem dX16_part_28 : decode cX16_part 28 = .ok (.iload 4, 2) := dk_21 4 (dk_at dksX16_part_1 4 rfl rfl)
theorem dX16_part_30 : decode cX16_part 30 = .ok (.ifCond .ge 10, 3) := dk_156 0 10 (dk_at dksX16_part_1 6 rfl rfl)
theorem dX16_part_33 : decode cX16_part 33 = .ok (.aload_n 0, 1) := dk_42 (dk_at dksX16_part_1 9 rfl rfl)
theorem dX16_part_34 : decode cX16_part 34 = .ok (.bipush (-4), 2) := dk_16 252 (dk_at dksX16_part_1 10 rfl rfl)
theorem dX16_part_36 : decode cX16_part 36 = .ok (.invokevirtual 407, 3) := dk_182 1 151 (dk_at dksX16_part_1 12 rfl rfl)
theorem dX16_part_39 : decode cX16_part 39 = .ok (.ireturn, 1) := dk_172 (dk_at dksX16_part_1 15 rfl rfl)
theorem dX16_part_40 : decode cX16_part 40 = .ok (.iload_n 3, 1) := dk_29 (dk_at dksX16_part_1 16 rfl rfl)
theorem dX16_part_41 : decode cX16_part 41 = .ok (.ifCond .lt 23, 3) := dk_155 0 23 (dk_at dksX16_part_1 17 rfl rfl)
theorem dX16_part_44 : decode cX16_part 44 = .ok (.iload_n 3, 1) := dk_29 (dk_at dksX16_part_1 20 rfl rfl)
theorem dX16_part_45 : decode cX16_part 45 = .ok (.i2l, 1) := dk_133 (dk_at dksX16_part_1 21 rfl rfl)
theorem dX16_part_46 : decode cX16_part 46 = .ok (.iload 4, 2) := dk_21 4 (dk_at dksX16_part_1 22 rfl rfl)
theorem dX16_part_48 : decode cX16_part 48 = .ok (.i2l, 1) := dk_133 (dk_at dksX16_part_2 0 rfl rfl)
theorem dX16_part_49 : decode cX16_part 49 = .ok (.ladd, 1) := dk_97 (dk_at dksX16_part_2 1 rfl rfl)
theorem dX16_part_50 : decode cX16_part 50 = .ok (.aload_n 0, 1) := dk_42 (dk_at dksX16_part_2 2 rfl rfl)
theorem dX16_part_51 : decode cX16_part 51 = .ok (.getfield 184, 3) := dk_180 0 184 (dk_at dksX16_part_2 3 rfl rfl)
theorem dX16_part_54 : decode cX16_part 54 = .ok (.iload_n 1, 1) := dk_27 (dk_at dksX16_part_2 6 rfl rfl)
theorem dX16_part_55 : decode cX16_part 55 = .ok (.aaload, 1) := dk_50 (dk_at dksX16_part_2 7 rfl rfl)
theorem dX16_part_56 : decode cX16_part 56 = .ok (.getfield 162, 3) := dk_180 0 162 (dk_at dksX16_part_2 8 rfl rfl)
theorem dX16_part_59 : decode cX16_part 59 = .ok (.i2l, 1) := dk_133 (dk_at dksX16_part_2 11 rfl rfl)
theorem dX16_part_60 : decode cX16_part 60 = .ok (.lcmp, 1) := dk_148 (dk_at dksX16_part_2 12 rfl rfl)
theorem dX16_part_61 : decode cX16_part 61 = .ok (.ifCond .le 9, 3) := dk_158 0 9 (dk_at dksX16_part_2 13 rfl rfl)
theorem dX16_part_64 : decode cX16_part 64 = .ok (.aload_n 0, 1) := dk_42 (dk_at dksX16_part_2 16 rfl rfl)
theorem dX16_part_65 : decode cX16_part 65 = .ok (.iconst (-1), 1) := dk_2 (dk_at dksX16_part_2 17 rfl rfl)
theorem dX16_part_66 : decode cX16_part 66 = .ok (.invokevirtual 407, 3) := dk_182 1 151 (dk_at dksX16_part_2 18 rfl rfl)
theorem dX16_part_69 : decode cX16_part 69 = .ok (.ireturn, 1) := dk_172 (dk_at dksX16_part_2 21 rfl rfl)
theorem dX16_part_70 : decode cX16_part 70 = .ok (.aload_n 0, 1) := dk_42 (dk_at dksX16_part_2 22 rfl rfl)
theorem dX16_part_71 : decode cX16_part 71 = .ok (.getfield 226, 3) := dk_180 0 226 (dk_at dksX16_part_3 0 rfl rfl)
theorem dX16_part_74 : decode cX16_part 74 = .ok (.iload 4, 2) := dk_21 4 (dk_at dksX16_part_3 3 rfl rfl)
theorem dX16_part_76 : decode cX16_part 76 = .ok (.putfield 162, 3) := dk_181 0 162 (dk_at dksX16_part_3 5 rfl rfl)
theorem dX16_part_79 : decode cX16_part 79 = .ok (.iconst 0, 1) := dk_3 (dk_at dksX16_part_3 8 rfl rfl)
theorem dX16_part_80 : decode cX16_part 80 = .ok (.istore 6, 2) := dk_54 6 (dk_at dksX16_part_3 9 rfl rfl)
theorem dX16_part_82 : decode cX16_part 82 = .ok (.iload 6, 2) := dk_21 6 (dk_at dksX16_part_3 11 rfl rfl)
theorem dX16_part_84 : decode cX16_part 84 = .ok (.iload 4, 2) := dk_21 4 (dk_at dksX16_part_3 13 rfl rfl)
theorem dX16_part_86 : decode cX16_part 86 = .ok (.if_icmp .ge 87, 3) := dk_162 0 87 (dk_at dksX16_part_3 15 rfl rfl)
theorem dX16_part_89 : decode cX16_part 89 = .ok (.aload_n 0, 1) := dk_42 (dk_at dksX16_part_3 18 rfl rfl)
theorem dX16_part_90 : decode cX16_part 90 = .ok (.getfield 226, 3) := dk_180 0 226 (dk_at dksX16_part_3 19 rfl rfl)
theorem dX16_part_93 : decode cX16_part 93 = .ok (.getfield 167, 3) := dk_180 0 167 (dk_at dksX16_part_4 0 rfl rfl)
theorem dX16_part_96 : decode cX16_part 96 = .ok (.iload 6, 2) := dk_21 6 (dk_at dksX16_part_4 3 rfl rfl)
theorem dX16_part_98 : decode cX16_part 98 = .ok (.aload_n 0, 1) := dk_42 (dk_at dksX16_part_4 5 rfl rfl)
theorem dX16_part_99 : decode cX16_part 99 = .ok (.getfield 184, 3) := dk_180 0 184 (dk_at dksX16_part_4 6 rfl rfl)
theorem dX16_part_102 : decode cX16_part 102 = .ok (.iload_n 1, 1) := dk_27 (dk_at dksX16_part_4 9 rfl rfl)
theorem dX16_part_103 : decode cX16_part 103 = .ok (.aaload, 1) := dk_50 (dk_at dksX16_part_4 10 rfl rfl)
theorem dX16_part_104 : decode cX16_part 104 = .ok (.getfield 167, 3) := dk_180 0 167 (dk_at dksX16_part_4 11 rfl rfl)
theorem dX16_part_107 : decode cX16_part 107 = .ok (.iload_n 3, 1) := dk_29 (dk_at dksX16_part_4 14 rfl rfl)
theorem dX16_part_108 : decode cX16_part 108 = .ok (.iload 6, 2) := dk_21 6 (dk_at dksX16_part_4 15 rfl rfl)
theorem dX16_part_110 : decode cX16_part 110 = .ok (.iadd, 1) := dk_96 (dk_at dksX16_part_4 17 rfl rfl)
theorem dX16_part_111 : decode cX16_part 111 = .ok (.iaload, 1) := dk_46 (dk_at dksX16_part_4 18 rfl rfl)
theorem dX16_part_112 : decode cX16_part 112 = .ok (.iastore, 1) := dk_79 (dk_at dksX16_part_4 19 rfl rfl)
theorem dX16_part_113 : decode cX16_part 113 = .ok (.aload_n 0, 1) := dk_42 (dk_at dksX16_part_4 20 rfl rfl)
theorem dX16_part_114 : decode cX16_part 114 = .ok (.getfield 226, 3) := dk_180 0 226 (dk_at dksX16_part_4 21 rfl rfl)
theorem dX16_part_117 : decode cX16_part 117 = .ok (.getfield 170, 3) := dk_180 0 170 (dk_at dksX16_part_5 0 rfl rfl)
theorem dX16_part_120 : decode cX16_part 120 = .ok (.iload 6, 2) := dk_21 6 (dk_at dksX16_part_5 3 rfl rfl)
theorem dX16_part_122 : decode cX16_part 122 = .ok (.aaload, 1) := dk_50 (dk_at dksX16_part_5 5 rfl rfl)
theorem dX16_part_123 : decode cX16_part 123 = .ok (.aload_n 0, 1) := dk_42 (dk_at dksX16_part_5 6 rfl rfl)
theorem dX16_part_124 : decode cX16_part 124 = .ok (.getfield 184, 3) := dk_180 0 184 (dk_at dksX16_part_5 7 rfl rfl)
theorem dX16_part_127 : decode cX16_part 127 = .ok (.iload_n 1, 1) := dk_27 (dk_at dksX16_part_5 10 rfl rfl)
theorem dX16_part_128 : decode cX16_part 128 = .ok (.aaload, 1) := dk_50 (dk_at dksX16_part_5 11 rfl rfl)
theorem dX16_part_129 : decode cX16_part 129 = .ok (.getfield 170, 3) := dk_180 0 170 (dk_at dksX16_part_5 12 rfl rfl)
theorem dX16_part_132 : decode cX16_part 132 = .ok (.iload_n 3, 1) := dk_29 (dk_at dksX16_part_5 15 rfl rfl)
theorem dX16_part_133 : decode cX16_part 133 = .ok (.iload 6, 2) := dk_21 6 (dk_at dksX16_part_5 16 rfl rfl)
theorem dX16_part_135 : decode cX16_part 135 = .ok (.iadd, 1) := dk_96 (dk_at dksX16_part_5 18 rfl rfl)
theorem dX16_part_136 : decode cX16_part 136 = .ok (.aaload, 1) := dk_50 (dk_at dksX16_part_5 19 rfl rfl)
theorem dX16_part_137 : decode cX16_part 137 = .ok (.invokevirtual 18, 3) := dk_182 0 18 (dk_at dksX16_part_5 20 rfl rfl)
theorem dX16_part_140 : decode cX16_part 140 = .ok (.aload_n 0, 1) := dk_42 (dk_at dksX16_part_5 23 rfl rfl)
theorem dX16_part_141 : decode cX16_part 141 = .ok (.getfield 226, 3) := dk_180 0 226 (dk_at dksX16_part_6 0 rfl rfl)
theorem dX16_part_144 : decode cX16_part 144 = .ok (.getfield 171, 3) := dk_180 0 171 (dk_at dksX16_part_6 3 rfl rfl)
theorem dX16_part_147 : decode cX16_part 147 = .ok (.iload 6, 2) := dk_21 6 (dk_at dksX16_part_6 6 rfl rfl)
theorem dX16_part_149 : decode cX16_part 149 = .ok (.aaload, 1) := dk_50 (dk_at dksX16_part_6 8 rfl rfl)
theorem dX16_part_150 : decode cX16_part 150 = .ok (.aload_n 0, 1) := dk_42 (dk_at dksX16_part_6 9 rfl rfl)
theorem dX16_part_151 : decode cX16_part 151 = .ok (.getfield 184, 3) := dk_180 0 184 (dk_at dksX16_part_6 10 rfl rfl)
theorem dX16_part_154 : decode cX16_part 154 = .ok (.iload_n 1, 1) := dk_27 (dk_at dksX16_part_6 13 rfl rfl)
theorem dX16_part_155 : decode cX16_part 155 = .ok (.aaload, 1) := dk_50 (dk_at dksX16_part_6 14 rfl rfl)
theorem dX16_part_156 : decode cX16_part 156 = .ok (.getfield 171, 3) := dk_180 0 171 (dk_at dksX16_part_6 15 rfl rfl)
theorem dX16_part_159 : decode cX16_part 159 = .ok (.iload_n 3, 1) := dk_29 (dk_at dksX16_part_6 18 rfl rfl)
theorem dX16_part_160 : decode cX16_part 160 = .ok (.iload 6, 2) := dk_21 6 (dk_at dksX16_part_6 19 rfl rfl)
theorem dX16_part_162 : decode cX16_part 162 = .ok (.iadd, 1) := dk_96 (dk_at dksX16_part_6 21 rfl rfl)
theorem dX16_part_163 : decode cX16_part 163 = .ok (.aaload, 1) := dk_50 (dk_at dksX16_part_6 22 rfl rfl)
theorem dX16_part_164 : decode cX16_part 164 = .ok (.invokevirtual 18, 3) := dk_182 0 18 (dk_at dksX16_part_7 0 rfl rfl)
theorem dX16_part_167 : decode cX16_part 167 = .ok (.iinc 6 1, 3) := dk_132 6 1 (dk_at dksX16_part_7 3 rfl rfl)
theorem dX16_part_170 : decode cX16_part 170 = .ok (.goto (-88), 3) := dk_167 255 168 (dk_at dksX16_part_7 6 rfl rfl)
theorem dX16_part_173 : decode cX16_part 173 = .ok (.aload_n 0, 1) := dk_42 (dk_at dksX16_part_7 9 rfl rfl)
theorem dX16_part_174 : decode cX16_part 174 = .ok (.iload_n 2, 1) := dk_28 (dk_at dksX16_part_7 10 rfl rfl)
theorem dX16_part_175 : decode cX16_part 175 = .ok (.aload_n 0, 1) := dk_42 (dk_at dksX16_part_7 11 rfl rfl)
theorem dX16_part_176 : decode cX16_part 176 = .ok (.getfield 226, 3) := dk_180 0 226 (dk_at dksX16_part_7 12 rfl rfl)
theorem dX16_part_179 : decode cX16_part 179 = .ok (.invokevirtual 413, 3) := dk_182 1 157 (dk_at dksX16_part_7 15 rfl rfl)
theorem dX16_part_182 : decode cX16_part 182 = .ok (.ireturn, 1) := dk_172 (dk_at dksX16_part_7 18 rfl rfl)
abbrev cX16_firstOf_2 : ByteArray := prog_21_method_24_code
def yX16_firstOf_2 : MethodName := ⟨RX16, "firstOf", "(II)I"⟩
def dkwX16_firstOf_2_0 : List UInt8 := [26, 156, 0, 7, 26, 167, 0, 4, 27, 172]
abbrev dktX16_firstOf_2_0 : List UInt8 := dkwX16_firstOf_2_0 ++ []
theorem dksX16_firstOf_2_0 : cX16_firstOf_2.data.toList.drop 0 = dktX16_firstOf_2_0 := by decide +kernel
theorem dX16_firstOf_2_0 : decode cX16_firstOf_2 0 = .ok (.iload_n 0, 1) := dk_26 (dk_at dksX16_firstOf_2_0 0 rfl rfl)
theorem dX16_firstOf_2_1 : decode cX16_firstOf_2 1 = .ok (.ifCond .ge 7, 3) := dk_156 0 7 (dk_at dksX16_firstOf_2_0 1 rfl rfl)
theorem dX16_firstOf_2_4 : decode cX16_firstOf_2 4 = .ok (.iload_n 0, 1) := dk_26 (dk_at dksX16_firstOf_2_0 4 rfl rfl)
theorem dX16_firstOf_2_5 : decode cX16_firstOf_2 5 = .ok (.goto 4, 3) := dk_167 0 4 (dk_at dksX16_firstOf_2_0 5 rfl rfl)
theorem dX16_firstOf_2_8 : decode cX16_firstOf_2 8 = .ok (.iload_n 1, 1) := dk_27 (dk_at dksX16_firstOf_2_0 8 rfl rfl)
theorem dX16_firstOf_2_9 : decode cX16_firstOf_2 9 = .ok (.ireturn, 1) := dk_172 (dk_at dksX16_firstOf_2_0 9 rfl rfl)
abbrev cX16_size : ByteArray := prog_21_method_36_code
def yX16_size : MethodName := ⟨RX16, "size", "(IZ)I"⟩
def dkwX16_size_2 : List UInt8 := [16, 249, 182, 1, 151, 167, 0, 12, 42, 180, 0, 184, 27, 50, 182, 1, 185, 172]
abbrev dktX16_size_2 : List UInt8 := dkwX16_size_2 ++ []
def dkwX16_size_1 : List UInt8 := [180, 0, 184, 27, 50, 180, 0, 162, 167, 0, 33, 42, 180, 0, 184, 27, 50, 180, 0, 162, 154, 0, 12, 42]
abbrev dktX16_size_1 : List UInt8 := dkwX16_size_1 ++ dktX16_size_2
def dkwX16_size_0 : List UInt8 := [42, 27, 4, 182, 1, 164, 62, 29, 156, 0, 9, 42, 29, 182, 1, 151, 172, 28, 154, 0, 15, 42]
abbrev dktX16_size_0 : List UInt8 := dkwX16_size_0 ++ dktX16_size_1
theorem dksX16_size_0 : cX16_size.data.toList.drop 0 = dktX16_size_0 := by decide +kernel
theorem dksX16_size_1 : cX16_size.data.toList.drop 22 = dktX16_size_1 := dk_seg dksX16_size_0 22 rfl rfl
theorem dksX16_size_2 : cX16_size.data.toList.drop 46 = dktX16_size_2 := dk_seg dksX16_size_1 24 rfl rfl
theorem dX16_size_0 : decode cX16_size 0 = .ok (.aload_n 0, 1) := dk_42 (dk_at dksX16_size_0 0 rfl rfl)
theorem dX16_size_1 : decode cX16_size 1 = .ok (.iload_n 1, 1) := dk_27 (dk_at dksX16_size_0 1 rfl rfl)
theorem dX16_size_2 : decode cX16_size 2 = .ok (.iconst 1, 1) := dk_4 (dk_at dksX16_size_0 2 rfl rfl)
theorem dX16_size_3 : decode cX16_size 3 = .ok (.invokevirtual 420, 3) := dk_182 1 164 (dk_at dksX16_size_0 3 rfl rfl)
theorem dX16_size_6 : decode cX16_size 6 = .ok (.istore_n 3, 1) := dk_62 (dk_at dksX16_size_0 6 rfl rfl)
theorem dX16_size_7 : decode cX16_size 7 = .ok (.iload_n 3, 1) := dk_29 (dk_at dksX16_size_0 7 rfl rfl)
theorem dX16_size_8 : decode cX16_size 8 = .ok (.ifCond .ge 9, 3) := dk_156 0 9 (dk_at dksX16_size_0 8 rfl rfl)
theorem dX16_size_11 : decode cX16_size 11 = .ok (.aload_n 0, 1) := dk_42 (dk_at dksX16_size_0 11 rfl rfl)
theorem dX16_size_12 : decode cX16_size 12 = .ok (.iload_n 3, 1) := dk_29 (dk_at dksX16_size_0 12 rfl rfl)
theorem dX16_size_13 : decode cX16_size 13 = .ok (.invokevirtual 407, 3) := dk_182 1 151 (dk_at dksX16_size_0 13 rfl rfl)
theorem dX16_size_16 : decode cX16_size 16 = .ok (.ireturn, 1) := dk_172 (dk_at dksX16_size_0 16 rfl rfl)
theorem dX16_size_17 : decode cX16_size 17 = .ok (.iload_n 2, 1) := dk_28 (dk_at dksX16_size_0 17 rfl rfl)
theorem dX16_size_18 : decode cX16_size 18 = .ok (.ifCond .ne 15, 3) := dk_154 0 15 (dk_at dksX16_size_0 18 rfl rfl)
theorem dX16_size_21 : decode cX16_size 21 = .ok (.aload_n 0, 1) := dk_42 (dk_at dksX16_size_0 21 rfl rfl)
theorem dX16_size_22 : decode cX16_size 22 = .ok (.getfield 184, 3) := dk_180 0 184 (dk_at dksX16_size_1 0 rfl rfl)
theorem dX16_size_25 : decode cX16_size 25 = .ok (.iload_n 1, 1) := dk_27 (dk_at dksX16_size_1 3 rfl rfl)
theorem dX16_size_26 : decode cX16_size 26 = .ok (.aaload, 1) := dk_50 (dk_at dksX16_size_1 4 rfl rfl)
theorem dX16_size_27 : decode cX16_size 27 = .ok (.getfield 162, 3) := dk_180 0 162 (dk_at dksX16_size_1 5 rfl rfl)
theorem dX16_size_30 : decode cX16_size 30 = .ok (.goto 33, 3) := dk_167 0 33 (dk_at dksX16_size_1 8 rfl rfl)
theorem dX16_size_33 : decode cX16_size 33 = .ok (.aload_n 0, 1) := dk_42 (dk_at dksX16_size_1 11 rfl rfl)
theorem dX16_size_34 : decode cX16_size 34 = .ok (.getfield 184, 3) := dk_180 0 184 (dk_at dksX16_size_1 12 rfl rfl)
theorem dX16_size_37 : decode cX16_size 37 = .ok (.iload_n 1, 1) := dk_27 (dk_at dksX16_size_1 15 rfl rfl)
theorem dX16_size_38 : decode cX16_size 38 = .ok (.aaload, 1) := dk_50 (dk_at dksX16_size_1 16 rfl rfl)
theorem dX16_size_39 : decode cX16_size 39 = .ok (.getfield 162, 3) := dk_180 0 162 (dk_at dksX16_size_1 17 rfl rfl)
theorem dX16_size_42 : decode cX16_size 42 = .ok (.ifCond .ne 12, 3) := dk_154 0 12 (dk_at dksX16_size_1 20 rfl rfl)
theorem dX16_size_45 : decode cX16_size 45 = .ok (.aload_n 0, 1) := dk_42 (dk_at dksX16_size_1 23 rfl rfl)
theorem dX16_size_46 : decode cX16_size 46 = .ok (.bipush (-7), 2) := dk_16 249 (dk_at dksX16_size_2 0 rfl rfl)
theorem dX16_size_48 : decode cX16_size 48 = .ok (.invokevirtual 407, 3) := dk_182 1 151 (dk_at dksX16_size_2 2 rfl rfl)
theorem dX16_size_51 : decode cX16_size 51 = .ok (.goto 12, 3) := dk_167 0 12 (dk_at dksX16_size_2 5 rfl rfl)
theorem dX16_size_54 : decode cX16_size 54 = .ok (.aload_n 0, 1) := dk_42 (dk_at dksX16_size_2 8 rfl rfl)
theorem dX16_size_55 : decode cX16_size 55 = .ok (.getfield 184, 3) := dk_180 0 184 (dk_at dksX16_size_2 9 rfl rfl)
theorem dX16_size_58 : decode cX16_size 58 = .ok (.iload_n 1, 1) := dk_27 (dk_at dksX16_size_2 12 rfl rfl)
theorem dX16_size_59 : decode cX16_size 59 = .ok (.aaload, 1) := dk_50 (dk_at dksX16_size_2 13 rfl rfl)
theorem dX16_size_60 : decode cX16_size 60 = .ok (.invokevirtual 441, 3) := dk_182 1 185 (dk_at dksX16_size_2 14 rfl rfl)
theorem dX16_size_63 : decode cX16_size 63 = .ok (.ireturn, 1) := dk_172 (dk_at dksX16_size_2 17 rfl rfl)
abbrev cX16_lead : ByteArray := prog_21_method_37_code
def yX16_lead : MethodName := ⟨RX16, "lead", "(II)I"⟩
def dkwX16_lead_3 : List UInt8 := [42, 180, 0, 191, 28, 46, 182, 1, 190, 46, 172]
abbrev dktX16_lead_3 : List UInt8 := dkwX16_lead_3 ++ []
def dkwX16_lead_2 : List UInt8 := [167, 0, 34, 42, 180, 0, 184, 27, 50, 180, 0, 167, 42, 180, 0, 184, 27, 50, 42, 180, 0, 188, 28, 46]
abbrev dktX16_lead_2 : List UInt8 := dkwX16_lead_2 ++ dktX16_lead_3
def dkwX16_lead_1 : List UInt8 := [182, 1, 151, 172, 42, 180, 0, 184, 27, 50, 180, 0, 162, 154, 0, 12, 42, 16, 249, 182, 1, 151]
abbrev dktX16_lead_1 : List UInt8 := dkwX16_lead_1 ++ dktX16_lead_2
def dkwX16_lead_0 : List UInt8 := [42, 27, 4, 182, 1, 164, 42, 28, 5, 182, 1, 164, 184, 1, 188, 62, 29, 156, 0, 9, 42, 29]
abbrev dktX16_lead_0 : List UInt8 := dkwX16_lead_0 ++ dktX16_lead_1
theorem dksX16_lead_0 : cX16_lead.data.toList.drop 0 = dktX16_lead_0 := by decide +kernel
theorem dksX16_lead_1 : cX16_lead.data.toList.drop 22 = dktX16_lead_1 := dk_seg dksX16_lead_0 22 rfl rfl
theorem dksX16_lead_2 : cX16_lead.data.toList.drop 44 = dktX16_lead_2 := dk_seg dksX16_lead_1 22 rfl rfl
theorem dksX16_lead_3 : cX16_lead.data.toList.drop 68 = dktX16_lead_3 := dk_seg dksX16_lead_2 24 rfl rfl
theorem dX16_lead_0 : decode cX16_lead 0 = .ok (.aload_n 0, 1) := dk_42 (dk_at dksX16_lead_0 0 rfl rfl)
theorem dX16_lead_1 : decode cX16_lead 1 = .ok (.iload_n 1, 1) := dk_27 (dk_at dksX16_lead_0 1 rfl rfl)
theorem dX16_lead_2 : decode cX16_lead 2 = .ok (.iconst 1, 1) := dk_4 (dk_at dksX16_lead_0 2 rfl rfl)
theorem dX16_lead_3 : decode cX16_lead 3 = .ok (.invokevirtual 420, 3) := dk_182 1 164 (dk_at dksX16_lead_0 3 rfl rfl)
theorem dX16_lead_6 : decode cX16_lead 6 = .ok (.aload_n 0, 1) := dk_42 (dk_at dksX16_lead_0 6 rfl rfl)
theorem dX16_lead_7 : decode cX16_lead 7 = .ok (.iload_n 2, 1) := dk_28 (dk_at dksX16_lead_0 7 rfl rfl)
theorem dX16_lead_8 : decode cX16_lead 8 = .ok (.iconst 2, 1) := dk_5 (dk_at dksX16_lead_0 8 rfl rfl)
theorem dX16_lead_9 : decode cX16_lead 9 = .ok (.invokevirtual 420, 3) := dk_182 1 164 (dk_at dksX16_lead_0 9 rfl rfl)
theorem dX16_lead_12 : decode cX16_lead 12 = .ok (.invokestatic 444, 3) := dk_184 1 188 (dk_at dksX16_lead_0 12 rfl rfl)
theorem dX16_lead_15 : decode cX16_lead 15 = .ok (.istore_n 3, 1) := dk_62 (dk_at dksX16_lead_0 15 rfl rfl)
theorem dX16_lead_16 : decode cX16_lead 16 = .ok (.iload_n 3, 1) := dk_29 (dk_at dksX16_lead_0 16 rfl rfl)
theorem dX16_lead_17 : decode cX16_lead 17 = .ok (.ifCond .ge 9, 3) := dk_156 0 9 (dk_at dksX16_lead_0 17 rfl rfl)
theorem dX16_lead_20 : decode cX16_lead 20 = .ok (.aload_n 0, 1) := dk_42 (dk_at dksX16_lead_0 20 rfl rfl)
theorem dX16_lead_21 : decode cX16_lead 21 = .ok (.iload_n 3, 1) := dk_29 (dk_at dksX16_lead_0 21 rfl rfl)
theorem dX16_lead_22 : decode cX16_lead 22 = .ok (.invokevirtual 407, 3) := dk_182 1 151 (dk_at dksX16_lead_1 0 rfl rfl)
theorem dX16_lead_25 : decode cX16_lead 25 = .ok (.ireturn, 1) := dk_172 (dk_at dksX16_lead_1 3 rfl rfl)
theorem dX16_lead_26 : decode cX16_lead 26 = .ok (.aload_n 0, 1) := dk_42 (dk_at dksX16_lead_1 4 rfl rfl)
theorem dX16_lead_27 : decode cX16_lead 27 = .ok (.getfield 184, 3) := dk_180 0 184 (dk_at dksX16_lead_1 5 rfl rfl)
theorem dX16_lead_30 : decode cX16_lead 30 = .ok (.iload_n 1, 1) := dk_27 (dk_at dksX16_lead_1 8 rfl rfl)
theorem dX16_lead_31 : decode cX16_lead 31 = .ok (.aaload, 1) := dk_50 (dk_at dksX16_lead_1 9 rfl rfl)
theorem dX16_lead_32 : decode cX16_lead 32 = .ok (.getfield 162, 3) := dk_180 0 162 (dk_at dksX16_lead_1 10 rfl rfl)
theorem dX16_lead_35 : decode cX16_lead 35 = .ok (.ifCond .ne 12, 3) := dk_154 0 12 (dk_at dksX16_lead_1 13 rfl rfl)
theorem dX16_lead_38 : decode cX16_lead 38 = .ok (.aload_n 0, 1) := dk_42 (dk_at dksX16_lead_1 16 rfl rfl)
theorem dX16_lead_39 : decode cX16_lead 39 = .ok (.bipush (-7), 2) := dk_16 249 (dk_at dksX16_lead_1 17 rfl rfl)
theorem dX16_lead_41 : decode cX16_lead 41 = .ok (.invokevirtual 407, 3) := dk_182 1 151 (dk_at dksX16_lead_1 19 rfl rfl)
theorem dX16_lead_44 : decode cX16_lead 44 = .ok (.goto 34, 3) := dk_167 0 34 (dk_at dksX16_lead_2 0 rfl rfl)
theorem dX16_lead_47 : decode cX16_lead 47 = .ok (.aload_n 0, 1) := dk_42 (dk_at dksX16_lead_2 3 rfl rfl)
theorem dX16_lead_48 : decode cX16_lead 48 = .ok (.getfield 184, 3) := dk_180 0 184 (dk_at dksX16_lead_2 4 rfl rfl)
theorem dX16_lead_51 : decode cX16_lead 51 = .ok (.iload_n 1, 1) := dk_27 (dk_at dksX16_lead_2 7 rfl rfl)
theorem dX16_lead_52 : decode cX16_lead 52 = .ok (.aaload, 1) := dk_50 (dk_at dksX16_lead_2 8 rfl rfl)
theorem dX16_lead_53 : decode cX16_lead 53 = .ok (.getfield 167, 3) := dk_180 0 167 (dk_at dksX16_lead_2 9 rfl rfl)
theorem dX16_lead_56 : decode cX16_lead 56 = .ok (.aload_n 0, 1) := dk_42 (dk_at dksX16_lead_2 12 rfl rfl)
theorem dX16_lead_57 : decode cX16_lead 57 = .ok (.getfield 184, 3) := dk_180 0 184 (dk_at dksX16_lead_2 13 rfl rfl)
theorem dX16_lead_60 : decode cX16_lead 60 = .ok (.iload_n 1, 1) := dk_27 (dk_at dksX16_lead_2 16 rfl rfl)
theorem dX16_lead_61 : decode cX16_lead 61 = .ok (.aaload, 1) := dk_50 (dk_at dksX16_lead_2 17 rfl rfl)
theorem dX16_lead_62 : decode cX16_lead 62 = .ok (.aload_n 0, 1) := dk_42 (dk_at dksX16_lead_2 18 rfl rfl)
theorem dX16_lead_63 : decode cX16_lead 63 = .ok (.getfield 188, 3) := dk_180 0 188 (dk_at dksX16_lead_2 19 rfl rfl)
theorem dX16_lead_66 : decode cX16_lead 66 = .ok (.iload_n 2, 1) := dk_28 (dk_at dksX16_lead_2 22 rfl rfl)
theorem dX16_lead_67 : decode cX16_lead 67 = .ok (.iaload, 1) := dk_46 (dk_at dksX16_lead_2 23 rfl rfl)
theorem dX16_lead_68 : decode cX16_lead 68 = .ok (.aload_n 0, 1) := dk_42 (dk_at dksX16_lead_3 0 rfl rfl)
theorem dX16_lead_69 : decode cX16_lead 69 = .ok (.getfield 191, 3) := dk_180 0 191 (dk_at dksX16_lead_3 1 rfl rfl)
theorem dX16_lead_72 : decode cX16_lead 72 = .ok (.iload_n 2, 1) := dk_28 (dk_at dksX16_lead_3 4 rfl rfl)
theorem dX16_lead_73 : decode cX16_lead 73 = .ok (.iaload, 1) := dk_46 (dk_at dksX16_lead_3 5 rfl rfl)
theorem dX16_lead_74 : decode cX16_lead 74 = .ok (.invokevirtual 446, 3) := dk_182 1 190 (dk_at dksX16_lead_3 6 rfl rfl)
theorem dX16_lead_77 : decode cX16_lead 77 = .ok (.iaload, 1) := dk_46 (dk_at dksX16_lead_3 9 rfl rfl)
theorem dX16_lead_78 : decode cX16_lead 78 = .ok (.ireturn, 1) := dk_172 (dk_at dksX16_lead_3 10 rfl rfl)
abbrev cX16_compareTerms : ByteArray := prog_21_method_15_code
def yX16_compareTerms : MethodName := ⟨RX16, "compareTerms", "(IIII)I"⟩
def dkwX16_compareTerms_5 : List UInt8 := [184, 0, 133, 172]
abbrev dktX16_compareTerms_5 : List UInt8 := dkwX16_compareTerms_5 ++ []
def dkwX16_compareTerms_4 : List UInt8 := [27, 3, 29, 184, 0, 133, 54, 4, 21, 4, 153, 0, 8, 21, 4, 167, 0, 10, 26, 27, 29, 6]
abbrev dktX16_compareTerms_4 : List UInt8 := dkwX16_compareTerms_4 ++ dktX16_compareTerms_5
def dkwX16_compareTerms_3 : List UInt8 := [184, 0, 125, 184, 0, 129, 167, 0, 8, 26, 27, 184, 0, 122, 172, 26, 27, 3, 6, 184, 0, 133, 172, 26]
abbrev dktX16_compareTerms_3 : List UInt8 := dkwX16_compareTerms_3 ++ dktX16_compareTerms_4
def dkwX16_compareTerms_2 : List UInt8 := [26, 27, 184, 0, 122, 172, 26, 184, 0, 125, 27, 184, 0, 125, 159, 0, 17, 26, 184, 0, 125, 27]
abbrev dktX16_compareTerms_2 : List UInt8 := dkwX16_compareTerms_2 ++ dktX16_compareTerms_3
def dkwX16_compareTerms_1 : List UInt8 := [170, 0, 0, 0, 0, 0, 72, 0, 0, 0, 0, 0, 0, 0, 2, 0, 0, 0, 27, 0, 0, 0, 33, 0, 0, 0, 64]
abbrev dktX16_compareTerms_1 : List UInt8 := dkwX16_compareTerms_1 ++ dktX16_compareTerms_2
def dkwX16_compareTerms_0 : List UInt8 := [28]
abbrev dktX16_compareTerms_0 : List UInt8 := dkwX16_compareTerms_0 ++ dktX16_compareTerms_1
theorem dksX16_compareTerms_0 : cX16_compareTerms.data.toList.drop 0 = dktX16_compareTerms_0 := by decide +kernel
theorem dksX16_compareTerms_1 : cX16_compareTerms.data.toList.drop 1 = dktX16_compareTerms_1 := dk_seg dksX16_compareTerms_0 1 rfl rfl
theorem dksX16_compareTerms_2 : cX16_compareTerms.data.toList.drop 28 = dktX16_compareTerms_2 := dk_seg dksX16_compareTerms_1 27 rfl rfl
theorem dksX16_compareTerms_3 : cX16_compareTerms.data.toList.drop 50 = dktX16_compareTerms_3 := dk_seg dksX16_compareTerms_2 22 rfl rfl
theorem dksX16_compareTerms_4 : cX16_compareTerms.data.toList.drop 74 = dktX16_compareTerms_4 := dk_seg dksX16_compareTerms_3 24 rfl rfl
theorem dksX16_compareTerms_5 : cX16_compareTerms.data.toList.drop 96 = dktX16_compareTerms_5 := dk_seg dksX16_compareTerms_4 22 rfl rfl
theorem dX16_compareTerms_0 : decode cX16_compareTerms 0 = .ok (.iload_n 2, 1) := dk_28 (dk_at dksX16_compareTerms_0 0 rfl rfl)
theorem dX16_compareTerms_1 : decode cX16_compareTerms 1 = .ok (.tableswitch 72 0 2 #[27, 33, 64], 27) := by decide +kernel
theorem dX16_compareTerms_28 : decode cX16_compareTerms 28 = .ok (.iload_n 0, 1) := dk_26 (dk_at dksX16_compareTerms_2 0 rfl rfl)
theorem dX16_compareTerms_29 : decode cX16_compareTerms 29 = .ok (.iload_n 1, 1) := dk_27 (dk_at dksX16_compareTerms_2 1 rfl rfl)
theorem dX16_compareTerms_30 : decode cX16_compareTerms 30 = .ok (.invokestatic 122, 3) := dk_184 0 122 (dk_at dksX16_compareTerms_2 2 rfl rfl)
theorem dX16_compareTerms_33 : decode cX16_compareTerms 33 = .ok (.ireturn, 1) := dk_172 (dk_at dksX16_compareTerms_2 5 rfl rfl)
theorem dX16_compareTerms_34 : decode cX16_compareTerms 34 = .ok (.iload_n 0, 1) := dk_26 (dk_at dksX16_compareTerms_2 6 rfl rfl)
theorem dX16_compareTerms_35 : decode cX16_compareTerms 35 = .ok (.invokestatic 125, 3) := dk_184 0 125 (dk_at dksX16_compareTerms_2 7 rfl rfl)
theorem dX16_compareTerms_38 : decode cX16_compareTerms 38 = .ok (.iload_n 1, 1) := dk_27 (dk_at dksX16_compareTerms_2 10 rfl rfl)
theorem dX16_compareTerms_39 : decode cX16_compareTerms 39 = .ok (.invokestatic 125, 3) := dk_184 0 125 (dk_at dksX16_compareTerms_2 11 rfl rfl)
theorem dX16_compareTerms_42 : decode cX16_compareTerms 42 = .ok (.if_icmp .eq 17, 3) := dk_159 0 17 (dk_at dksX16_compareTerms_2 14 rfl rfl)
theorem dX16_compareTerms_45 : decode cX16_compareTerms 45 = .ok (.iload_n 0, 1) := dk_26 (dk_at dksX16_compareTerms_2 17 rfl rfl)
theorem dX16_compareTerms_46 : decode cX16_compareTerms 46 = .ok (.invokestatic 125, 3) := dk_184 0 125 (dk_at dksX16_compareTerms_2 18 rfl rfl)
theorem dX16_compareTerms_49 : decode cX16_compareTerms 49 = .ok (.iload_n 1, 1) := dk_27 (dk_at dksX16_compareTerms_2 21 rfl rfl)
theorem dX16_compareTerms_50 : decode cX16_compareTerms 50 = .ok (.invokestatic 125, 3) := dk_184 0 125 (dk_at dksX16_compareTerms_3 0 rfl rfl)
theorem dX16_compareTerms_53 : decode cX16_compareTerms 53 = .ok (.invokestatic 129, 3) := dk_184 0 129 (dk_at dksX16_compareTerms_3 3 rfl rfl)
theorem dX16_compareTerms_56 : decode cX16_compareTerms 56 = .ok (.goto 8, 3) := dk_167 0 8 (dk_at dksX16_compareTerms_3 6 rfl rfl)
theorem dX16_compareTerms_59 : decode cX16_compareTerms 59 = .ok (.iload_n 0, 1) := dk_26 (dk_at dksX16_compareTerms_3 9 rfl rfl)
theorem dX16_compareTerms_60 : decode cX16_compareTerms 60 = .ok (.iload_n 1, 1) := dk_27 (dk_at dksX16_compareTerms_3 10 rfl rfl)
theorem dX16_compareTerms_61 : decode cX16_compareTerms 61 = .ok (.invokestatic 122, 3) := dk_184 0 122 (dk_at dksX16_compareTerms_3 11 rfl rfl)
theorem dX16_compareTerms_64 : decode cX16_compareTerms 64 = .ok (.ireturn, 1) := dk_172 (dk_at dksX16_compareTerms_3 14 rfl rfl)
theorem dX16_compareTerms_65 : decode cX16_compareTerms 65 = .ok (.iload_n 0, 1) := dk_26 (dk_at dksX16_compareTerms_3 15 rfl rfl)
theorem dX16_compareTerms_66 : decode cX16_compareTerms 66 = .ok (.iload_n 1, 1) := dk_27 (dk_at dksX16_compareTerms_3 16 rfl rfl)
theorem dX16_compareTerms_67 : decode cX16_compareTerms 67 = .ok (.iconst 0, 1) := dk_3 (dk_at dksX16_compareTerms_3 17 rfl rfl)
theorem dX16_compareTerms_68 : decode cX16_compareTerms 68 = .ok (.iconst 3, 1) := dk_6 (dk_at dksX16_compareTerms_3 18 rfl rfl)
theorem dX16_compareTerms_69 : decode cX16_compareTerms 69 = .ok (.invokestatic 133, 3) := dk_184 0 133 (dk_at dksX16_compareTerms_3 19 rfl rfl)
theorem dX16_compareTerms_72 : decode cX16_compareTerms 72 = .ok (.ireturn, 1) := dk_172 (dk_at dksX16_compareTerms_3 22 rfl rfl)
theorem dX16_compareTerms_73 : decode cX16_compareTerms 73 = .ok (.iload_n 0, 1) := dk_26 (dk_at dksX16_compareTerms_3 23 rfl rfl)
theorem dX16_compareTerms_74 : decode cX16_compareTerms 74 = .ok (.iload_n 1, 1) := dk_27 (dk_at dksX16_compareTerms_4 0 rfl rfl)
theorem dX16_compareTerms_75 : decode cX16_compareTerms 75 = .ok (.iconst 0, 1) := dk_3 (dk_at dksX16_compareTerms_4 1 rfl rfl)
theorem dX16_compareTerms_76 : decode cX16_compareTerms 76 = .ok (.iload_n 3, 1) := dk_29 (dk_at dksX16_compareTerms_4 2 rfl rfl)
theorem dX16_compareTerms_77 : decode cX16_compareTerms 77 = .ok (.invokestatic 133, 3) := dk_184 0 133 (dk_at dksX16_compareTerms_4 3 rfl rfl)
theorem dX16_compareTerms_80 : decode cX16_compareTerms 80 = .ok (.istore 4, 2) := dk_54 4 (dk_at dksX16_compareTerms_4 6 rfl rfl)
theorem dX16_compareTerms_82 : decode cX16_compareTerms 82 = .ok (.iload 4, 2) := dk_21 4 (dk_at dksX16_compareTerms_4 8 rfl rfl)
theorem dX16_compareTerms_84 : decode cX16_compareTerms 84 = .ok (.ifCond .eq 8, 3) := dk_153 0 8 (dk_at dksX16_compareTerms_4 10 rfl rfl)
theorem dX16_compareTerms_87 : decode cX16_compareTerms 87 = .ok (.iload 4, 2) := dk_21 4 (dk_at dksX16_compareTerms_4 13 rfl rfl)
theorem dX16_compareTerms_89 : decode cX16_compareTerms 89 = .ok (.goto 10, 3) := dk_167 0 10 (dk_at dksX16_compareTerms_4 15 rfl rfl)
theorem dX16_compareTerms_92 : decode cX16_compareTerms 92 = .ok (.iload_n 0, 1) := dk_26 (dk_at dksX16_compareTerms_4 18 rfl rfl)
theorem dX16_compareTerms_93 : decode cX16_compareTerms 93 = .ok (.iload_n 1, 1) := dk_27 (dk_at dksX16_compareTerms_4 19 rfl rfl)
theorem dX16_compareTerms_94 : decode cX16_compareTerms 94 = .ok (.iload_n 3, 1) := dk_29 (dk_at dksX16_compareTerms_4 20 rfl rfl)
theorem dX16_compareTerms_95 : decode cX16_compareTerms 95 = .ok (.iconst 3, 1) := dk_6 (dk_at dksX16_compareTerms_4 21 rfl rfl)
theorem dX16_compareTerms_96 : decode cX16_compareTerms 96 = .ok (.invokestatic 133, 3) := dk_184 0 133 (dk_at dksX16_compareTerms_5 0 rfl rfl)
theorem dX16_compareTerms_99 : decode cX16_compareTerms 99 = .ok (.ireturn, 1) := dk_172 (dk_at dksX16_compareTerms_5 3 rfl rfl)
abbrev cX16_reverse : ByteArray := prog_21_method_14_code
def yX16_reverse : MethodName := ⟨RX16, "reverse", "(IIII)I"⟩
def dkwX16_reverse_4 : List UInt8 := [27, 21, 6, 184, 0, 119, 164, 0, 7, 2, 167, 0, 4, 4, 172, 132, 6, 255, 167, 255, 211, 3, 172]
abbrev dktX16_reverse_4 : List UInt8 := dkwX16_reverse_4 ++ []
def dkwX16_reverse_3 : List UInt8 := [164, 0, 45, 26, 21, 6, 184, 0, 119, 27, 21, 6, 184, 0, 119, 159, 0, 24, 26, 21, 6, 184, 0, 119]
abbrev dktX16_reverse_3 : List UInt8 := dkwX16_reverse_3 ++ dktX16_reverse_4
def dkwX16_reverse_2 : List UInt8 := [159, 0, 16, 21, 4, 21, 5, 162, 0, 7, 2, 167, 0, 4, 4, 172, 29, 4, 100, 54, 6, 21, 6, 28]
abbrev dktX16_reverse_2 : List UInt8 := dkwX16_reverse_2 ++ dktX16_reverse_3
def dkwX16_reverse_1 : List UInt8 := [54, 4, 21, 5, 27, 21, 6, 184, 0, 119, 96, 54, 5, 132, 6, 1, 167, 255, 225, 21, 4, 21, 5]
abbrev dktX16_reverse_1 : List UInt8 := dkwX16_reverse_1 ++ dktX16_reverse_2
def dkwX16_reverse_0 : List UInt8 := [3, 54, 4, 3, 54, 5, 28, 54, 6, 21, 6, 29, 162, 0, 31, 21, 4, 26, 21, 6, 184, 0, 119, 96]
abbrev dktX16_reverse_0 : List UInt8 := dkwX16_reverse_0 ++ dktX16_reverse_1
theorem dksX16_reverse_0 : cX16_reverse.data.toList.drop 0 = dktX16_reverse_0 := by decide +kernel
theorem dksX16_reverse_1 : cX16_reverse.data.toList.drop 24 = dktX16_reverse_1 := dk_seg dksX16_reverse_0 24 rfl rfl
theorem dksX16_reverse_2 : cX16_reverse.data.toList.drop 47 = dktX16_reverse_2 := dk_seg dksX16_reverse_1 23 rfl rfl
theorem dksX16_reverse_3 : cX16_reverse.data.toList.drop 71 = dktX16_reverse_3 := dk_seg dksX16_reverse_2 24 rfl rfl
theorem dksX16_reverse_4 : cX16_reverse.data.toList.drop 95 = dktX16_reverse_4 := dk_seg dksX16_reverse_3 24 rfl rfl
theorem dX16_reverse_0 : decode cX16_reverse 0 = .ok (.iconst 0, 1) := dk_3 (dk_at dksX16_reverse_0 0 rfl rfl)
theorem dX16_reverse_1 : decode cX16_reverse 1 = .ok (.istore 4, 2) := dk_54 4 (dk_at dksX16_reverse_0 1 rfl rfl)
theorem dX16_reverse_3 : decode cX16_reverse 3 = .ok (.iconst 0, 1) := dk_3 (dk_at dksX16_reverse_0 3 rfl rfl)
theorem dX16_reverse_4 : decode cX16_reverse 4 = .ok (.istore 5, 2) := dk_54 5 (dk_at dksX16_reverse_0 4 rfl rfl)
theorem dX16_reverse_6 : decode cX16_reverse 6 = .ok (.iload_n 2, 1) := dk_28 (dk_at dksX16_reverse_0 6 rfl rfl)
theorem dX16_reverse_7 : decode cX16_reverse 7 = .ok (.istore 6, 2) := dk_54 6 (dk_at dksX16_reverse_0 7 rfl rfl)
theorem dX16_reverse_9 : decode cX16_reverse 9 = .ok (.iload 6, 2) := dk_21 6 (dk_at dksX16_reverse_0 9 rfl rfl)
theorem dX16_reverse_11 : decode cX16_reverse 11 = .ok (.iload_n 3, 1) := dk_29 (dk_at dksX16_reverse_0 11 rfl rfl)
theorem dX16_reverse_12 : decode cX16_reverse 12 = .ok (.if_icmp .ge 31, 3) := dk_162 0 31 (dk_at dksX16_reverse_0 12 rfl rfl)
theorem dX16_reverse_15 : decode cX16_reverse 15 = .ok (.iload 4, 2) := dk_21 4 (dk_at dksX16_reverse_0 15 rfl rfl)
theorem dX16_reverse_17 : decode cX16_reverse 17 = .ok (.iload_n 0, 1) := dk_26 (dk_at dksX16_reverse_0 17 rfl rfl)
theorem dX16_reverse_18 : decode cX16_reverse 18 = .ok (.iload 6, 2) := dk_21 6 (dk_at dksX16_reverse_0 18 rfl rfl)
theorem dX16_reverse_20 : decode cX16_reverse 20 = .ok (.invokestatic 119, 3) := dk_184 0 119 (dk_at dksX16_reverse_0 20 rfl rfl)
theorem dX16_reverse_23 : decode cX16_reverse 23 = .ok (.iadd, 1) := dk_96 (dk_at dksX16_reverse_0 23 rfl rfl)
theorem dX16_reverse_24 : decode cX16_reverse 24 = .ok (.istore 4, 2) := dk_54 4 (dk_at dksX16_reverse_1 0 rfl rfl)
theorem dX16_reverse_26 : decode cX16_reverse 26 = .ok (.iload 5, 2) := dk_21 5 (dk_at dksX16_reverse_1 2 rfl rfl)
theorem dX16_reverse_28 : decode cX16_reverse 28 = .ok (.iload_n 1, 1) := dk_27 (dk_at dksX16_reverse_1 4 rfl rfl)
theorem dX16_reverse_29 : decode cX16_reverse 29 = .ok (.iload 6, 2) := dk_21 6 (dk_at dksX16_reverse_1 5 rfl rfl)
theorem dX16_reverse_31 : decode cX16_reverse 31 = .ok (.invokestatic 119, 3) := dk_184 0 119 (dk_at dksX16_reverse_1 7 rfl rfl)
theorem dX16_reverse_34 : decode cX16_reverse 34 = .ok (.iadd, 1) := dk_96 (dk_at dksX16_reverse_1 10 rfl rfl)
theorem dX16_reverse_35 : decode cX16_reverse 35 = .ok (.istore 5, 2) := dk_54 5 (dk_at dksX16_reverse_1 11 rfl rfl)
theorem dX16_reverse_37 : decode cX16_reverse 37 = .ok (.iinc 6 1, 3) := dk_132 6 1 (dk_at dksX16_reverse_1 13 rfl rfl)
theorem dX16_reverse_40 : decode cX16_reverse 40 = .ok (.goto (-31), 3) := dk_167 255 225 (dk_at dksX16_reverse_1 16 rfl rfl)
theorem dX16_reverse_43 : decode cX16_reverse 43 = .ok (.iload 4, 2) := dk_21 4 (dk_at dksX16_reverse_1 19 rfl rfl)
theorem dX16_reverse_45 : decode cX16_reverse 45 = .ok (.iload 5, 2) := dk_21 5 (dk_at dksX16_reverse_1 21 rfl rfl)
theorem dX16_reverse_47 : decode cX16_reverse 47 = .ok (.if_icmp .eq 16, 3) := dk_159 0 16 (dk_at dksX16_reverse_2 0 rfl rfl)
theorem dX16_reverse_50 : decode cX16_reverse 50 = .ok (.iload 4, 2) := dk_21 4 (dk_at dksX16_reverse_2 3 rfl rfl)
theorem dX16_reverse_52 : decode cX16_reverse 52 = .ok (.iload 5, 2) := dk_21 5 (dk_at dksX16_reverse_2 5 rfl rfl)
theorem dX16_reverse_54 : decode cX16_reverse 54 = .ok (.if_icmp .ge 7, 3) := dk_162 0 7 (dk_at dksX16_reverse_2 7 rfl rfl)
theorem dX16_reverse_57 : decode cX16_reverse 57 = .ok (.iconst (-1), 1) := dk_2 (dk_at dksX16_reverse_2 10 rfl rfl)
theorem dX16_reverse_58 : decode cX16_reverse 58 = .ok (.goto 4, 3) := dk_167 0 4 (dk_at dksX16_reverse_2 11 rfl rfl)
theorem dX16_reverse_61 : decode cX16_reverse 61 = .ok (.iconst 1, 1) := dk_4 (dk_at dksX16_reverse_2 14 rfl rfl)
theorem dX16_reverse_62 : decode cX16_reverse 62 = .ok (.ireturn, 1) := dk_172 (dk_at dksX16_reverse_2 15 rfl rfl)
theorem dX16_reverse_63 : decode cX16_reverse 63 = .ok (.iload_n 3, 1) := dk_29 (dk_at dksX16_reverse_2 16 rfl rfl)
theorem dX16_reverse_64 : decode cX16_reverse 64 = .ok (.iconst 1, 1) := dk_4 (dk_at dksX16_reverse_2 17 rfl rfl)
theorem dX16_reverse_65 : decode cX16_reverse 65 = .ok (.isub, 1) := dk_100 (dk_at dksX16_reverse_2 18 rfl rfl)
theorem dX16_reverse_66 : decode cX16_reverse 66 = .ok (.istore 6, 2) := dk_54 6 (dk_at dksX16_reverse_2 19 rfl rfl)
theorem dX16_reverse_68 : decode cX16_reverse 68 = .ok (.iload 6, 2) := dk_21 6 (dk_at dksX16_reverse_2 21 rfl rfl)
theorem dX16_reverse_70 : decode cX16_reverse 70 = .ok (.iload_n 2, 1) := dk_28 (dk_at dksX16_reverse_2 23 rfl rfl)
theorem dX16_reverse_71 : decode cX16_reverse 71 = .ok (.if_icmp .le 45, 3) := dk_164 0 45 (dk_at dksX16_reverse_3 0 rfl rfl)
theorem dX16_reverse_74 : decode cX16_reverse 74 = .ok (.iload_n 0, 1) := dk_26 (dk_at dksX16_reverse_3 3 rfl rfl)
theorem dX16_reverse_75 : decode cX16_reverse 75 = .ok (.iload 6, 2) := dk_21 6 (dk_at dksX16_reverse_3 4 rfl rfl)
theorem dX16_reverse_77 : decode cX16_reverse 77 = .ok (.invokestatic 119, 3) := dk_184 0 119 (dk_at dksX16_reverse_3 6 rfl rfl)
theorem dX16_reverse_80 : decode cX16_reverse 80 = .ok (.iload_n 1, 1) := dk_27 (dk_at dksX16_reverse_3 9 rfl rfl)
theorem dX16_reverse_81 : decode cX16_reverse 81 = .ok (.iload 6, 2) := dk_21 6 (dk_at dksX16_reverse_3 10 rfl rfl)
theorem dX16_reverse_83 : decode cX16_reverse 83 = .ok (.invokestatic 119, 3) := dk_184 0 119 (dk_at dksX16_reverse_3 12 rfl rfl)
theorem dX16_reverse_86 : decode cX16_reverse 86 = .ok (.if_icmp .eq 24, 3) := dk_159 0 24 (dk_at dksX16_reverse_3 15 rfl rfl)
theorem dX16_reverse_89 : decode cX16_reverse 89 = .ok (.iload_n 0, 1) := dk_26 (dk_at dksX16_reverse_3 18 rfl rfl)
theorem dX16_reverse_90 : decode cX16_reverse 90 = .ok (.iload 6, 2) := dk_21 6 (dk_at dksX16_reverse_3 19 rfl rfl)
theorem dX16_reverse_92 : decode cX16_reverse 92 = .ok (.invokestatic 119, 3) := dk_184 0 119 (dk_at dksX16_reverse_3 21 rfl rfl)
theorem dX16_reverse_95 : decode cX16_reverse 95 = .ok (.iload_n 1, 1) := dk_27 (dk_at dksX16_reverse_4 0 rfl rfl)
theorem dX16_reverse_96 : decode cX16_reverse 96 = .ok (.iload 6, 2) := dk_21 6 (dk_at dksX16_reverse_4 1 rfl rfl)
theorem dX16_reverse_98 : decode cX16_reverse 98 = .ok (.invokestatic 119, 3) := dk_184 0 119 (dk_at dksX16_reverse_4 3 rfl rfl)
theorem dX16_reverse_101 : decode cX16_reverse 101 = .ok (.if_icmp .le 7, 3) := dk_164 0 7 (dk_at dksX16_reverse_4 6 rfl rfl)
theorem dX16_reverse_104 : decode cX16_reverse 104 = .ok (.iconst (-1), 1) := dk_2 (dk_at dksX16_reverse_4 9 rfl rfl)
theorem dX16_reverse_105 : decode cX16_reverse 105 = .ok (.goto 4, 3) := dk_167 0 4 (dk_at dksX16_reverse_4 10 rfl rfl)
theorem dX16_reverse_108 : decode cX16_reverse 108 = .ok (.iconst 1, 1) := dk_4 (dk_at dksX16_reverse_4 13 rfl rfl)
theorem dX16_reverse_109 : decode cX16_reverse 109 = .ok (.ireturn, 1) := dk_172 (dk_at dksX16_reverse_4 14 rfl rfl)
theorem dX16_reverse_110 : decode cX16_reverse 110 = .ok (.iinc 6 (-1), 3) := dk_132 6 255 (dk_at dksX16_reverse_4 15 rfl rfl)
theorem dX16_reverse_113 : decode cX16_reverse 113 = .ok (.goto (-45), 3) := dk_167 255 211 (dk_at dksX16_reverse_4 18 rfl rfl)
theorem dX16_reverse_116 : decode cX16_reverse 116 = .ok (.iconst 0, 1) := dk_3 (dk_at dksX16_reverse_4 21 rfl rfl)
theorem dX16_reverse_117 : decode cX16_reverse 117 = .ok (.ireturn, 1) := dk_172 (dk_at dksX16_reverse_4 22 rfl rfl)
abbrev cX16_write : ByteArray := prog_21_method_45_code
def yX16_write : MethodName := ⟨RX16, "write", "(II)I"⟩
def dkwX16_write_11 : List UInt8 := [100, 182, 1, 193, 42, 180, 1, 0, 172]
abbrev dktX16_write_11 : List UInt8 := dkwX16_write_11 ++ []
def dkwX16_write_10 : List UInt8 := [27, 46, 100, 182, 1, 237, 167, 0, 22, 42, 16, 45, 182, 1, 193, 42, 16, 48, 42, 180, 0, 188, 27, 46]
abbrev dktX16_write_10 : List UInt8 := dkwX16_write_10 ++ dktX16_write_11
def dkwX16_write_9 : List UInt8 := [180, 0, 206, 27, 50, 42, 180, 1, 73, 4, 184, 0, 111, 42, 42, 180, 1, 73, 16, 7, 42, 180, 0, 209]
abbrev dktX16_write_9 : List UInt8 := dkwX16_write_9 ++ dktX16_write_10
def dkwX16_write_8 : List UInt8 := [182, 1, 237, 42, 16, 32, 182, 1, 193, 42, 180, 1, 73, 20, 1, 240, 182, 0, 83, 42, 180, 1, 73, 42]
abbrev dktX16_write_8 : List UInt8 := dkwX16_write_8 ++ dktX16_write_9
def dkwX16_write_7 : List UInt8 := [27, 46, 6, 160, 0, 76, 42, 42, 180, 0, 206, 27, 50, 16, 7, 42, 180, 0, 209, 27, 46, 100]
abbrev dktX16_write_7 : List UInt8 := dkwX16_write_7 ++ dktX16_write_8
def dkwX16_write_6 : List UInt8 := [46, 4, 160, 0, 9, 19, 1, 229, 167, 0, 6, 19, 1, 231, 182, 1, 233, 167, 0, 105, 42, 180, 0, 181]
abbrev dktX16_write_6 : List UInt8 := dkwX16_write_6 ++ dktX16_write_7
def dkwX16_write_5 : List UInt8 := [167, 0, 38, 42, 180, 0, 188, 27, 46, 5, 160, 0, 9, 19, 1, 228, 167, 0, 22, 42, 180, 0, 191, 27]
abbrev dktX16_write_5 : List UInt8 := dkwX16_write_5 ++ dktX16_write_6
def dkwX16_write_4 : List UInt8 := [154, 0, 9, 19, 1, 226, 167, 0, 54, 42, 180, 0, 188, 27, 46, 4, 160, 0, 9, 19, 1, 227]
abbrev dktX16_write_4 : List UInt8 := dkwX16_write_4 ++ dktX16_write_5
def dkwX16_write_3 : List UInt8 := [182, 1, 222, 167, 0, 188, 42, 180, 0, 181, 27, 46, 5, 160, 0, 76, 42, 42, 180, 0, 188, 27, 46]
abbrev dktX16_write_3 : List UInt8 := dkwX16_write_3 ++ dktX16_write_4
def dkwX16_write_2 : List UInt8 := [46, 4, 160, 0, 28, 42, 42, 180, 0, 184, 27, 50, 42, 180, 0, 188, 28, 46, 42, 180, 0, 191, 28, 46]
abbrev dktX16_write_2 : List UInt8 := dkwX16_write_2 ++ dktX16_write_3
def dkwX16_write_1 : List UInt8 := [182, 1, 164, 62, 29, 156, 0, 9, 42, 29, 182, 1, 151, 172, 42, 3, 181, 1, 0, 42, 180, 0, 181, 27]
abbrev dktX16_write_1 : List UInt8 := dkwX16_write_1 ++ dktX16_write_2
def dkwX16_write_0 : List UInt8 := [42, 27, 3, 182, 1, 164, 62, 29, 154, 0, 20, 42, 180, 0, 181, 27, 46, 4, 160, 0, 10, 42, 28, 5]
abbrev dktX16_write_0 : List UInt8 := dkwX16_write_0 ++ dktX16_write_1
theorem dksX16_write_0 : cX16_write.data.toList.drop 0 = dktX16_write_0 := by decide +kernel
theorem dksX16_write_1 : cX16_write.data.toList.drop 24 = dktX16_write_1 := dk_seg dksX16_write_0 24 rfl rfl
theorem dksX16_write_2 : cX16_write.data.toList.drop 48 = dktX16_write_2 := dk_seg dksX16_write_1 24 rfl rfl
theorem dksX16_write_3 : cX16_write.data.toList.drop 72 = dktX16_write_3 := dk_seg dksX16_write_2 24 rfl rfl
theorem dksX16_write_4 : cX16_write.data.toList.drop 95 = dktX16_write_4 := dk_seg dksX16_write_3 23 rfl rfl
theorem dksX16_write_5 : cX16_write.data.toList.drop 117 = dktX16_write_5 := dk_seg dksX16_write_4 22 rfl rfl
theorem dksX16_write_6 : cX16_write.data.toList.drop 141 = dktX16_write_6 := dk_seg dksX16_write_5 24 rfl rfl
theorem dksX16_write_7 : cX16_write.data.toList.drop 165 = dktX16_write_7 := dk_seg dksX16_write_6 24 rfl rfl
theorem dksX16_write_8 : cX16_write.data.toList.drop 187 = dktX16_write_8 := dk_seg dksX16_write_7 22 rfl rfl
theorem dksX16_write_9 : cX16_write.data.toList.drop 211 = dktX16_write_9 := dk_seg dksX16_write_8 24 rfl rfl
theorem dksX16_write_10 : cX16_write.data.toList.drop 235 = dktX16_write_10 := dk_seg dksX16_write_9 24 rfl rfl
theorem dksX16_write_11 : cX16_write.data.toList.drop 259 = dktX16_write_11 := dk_seg dksX16_write_10 24 rfl rfl
theorem dX16_write_0 : decode cX16_write 0 = .ok (.aload_n 0, 1) := dk_42 (dk_at dksX16_write_0 0 rfl rfl)
theorem dX16_write_1 : decode cX16_write 1 = .ok (.iload_n 1, 1) := dk_27 (dk_at dksX16_write_0 1 rfl rfl)
theorem dX16_write_2 : decode cX16_write 2 = .ok (.iconst 0, 1) := dk_3 (dk_at dksX16_write_0 2 rfl rfl)
theorem dX16_write_3 : decode cX16_write 3 = .ok (.invokevirtual 420, 3) := dk_182 1 164 (dk_at dksX16_write_0 3 rfl rfl)
theorem dX16_write_6 : decode cX16_write 6 = .ok (.istore_n 3, 1) := dk_62 (dk_at dksX16_write_0 6 rfl rfl)
theorem dX16_write_7 : decode cX16_write 7 = .ok (.iload_n 3, 1) := dk_29 (dk_at dksX16_write_0 7 rfl rfl)
theorem dX16_write_8 : decode cX16_write 8 = .ok (.ifCond .ne 20, 3) := dk_154 0 20 (dk_at dksX16_write_0 8 rfl rfl)
theorem dX16_write_11 : decode cX16_write 11 = .ok (.aload_n 0, 1) := dk_42 (dk_at dksX16_write_0 11 rfl rfl)
theorem dX16_write_12 : decode cX16_write 12 = .ok (.getfield 181, 3) := dk_180 0 181 (dk_at dksX16_write_0 12 rfl rfl)
theorem dX16_write_15 : decode cX16_write 15 = .ok (.iload_n 1, 1) := dk_27 (dk_at dksX16_write_0 15 rfl rfl)
theorem dX16_write_16 : decode cX16_write 16 = .ok (.iaload, 1) := dk_46 (dk_at dksX16_write_0 16 rfl rfl)
theorem dX16_write_17 : decode cX16_write 17 = .ok (.iconst 1, 1) := dk_4 (dk_at dksX16_write_0 17 rfl rfl)
theorem dX16_write_18 : decode cX16_write 18 = .ok (.if_icmp .ne 10, 3) := dk_160 0 10 (dk_at dksX16_write_0 18 rfl rfl)
theorem dX16_write_21 : decode cX16_write 21 = .ok (.aload_n 0, 1) := dk_42 (dk_at dksX16_write_0 21 rfl rfl)
theorem dX16_write_22 : decode cX16_write 22 = .ok (.iload_n 2, 1) := dk_28 (dk_at dksX16_write_0 22 rfl rfl)
theorem dX16_write_23 : decode cX16_write 23 = .ok (.iconst 2, 1) := dk_5 (dk_at dksX16_write_0 23 rfl rfl)
theorem dX16_write_24 : decode cX16_write 24 = .ok (.invokevirtual 420, 3) := dk_182 1 164 (dk_at dksX16_write_1 0 rfl rfl)
theorem dX16_write_27 : decode cX16_write 27 = .ok (.istore_n 3, 1) := dk_62 (dk_at dksX16_write_1 3 rfl rfl)
theorem dX16_write_28 : decode cX16_write 28 = .ok (.iload_n 3, 1) := dk_29 (dk_at dksX16_write_1 4 rfl rfl)
theorem dX16_write_29 : decode cX16_write 29 = .ok (.ifCond .ge 9, 3) := dk_156 0 9 (dk_at dksX16_write_1 5 rfl rfl)
theorem dX16_write_32 : decode cX16_write 32 = .ok (.aload_n 0, 1) := dk_42 (dk_at dksX16_write_1 8 rfl rfl)
theorem dX16_write_33 : decode cX16_write 33 = .ok (.iload_n 3, 1) := dk_29 (dk_at dksX16_write_1 9 rfl rfl)
theorem dX16_write_34 : decode cX16_write 34 = .ok (.invokevirtual 407, 3) := dk_182 1 151 (dk_at dksX16_write_1 10 rfl rfl)
theorem dX16_write_37 : decode cX16_write 37 = .ok (.ireturn, 1) := dk_172 (dk_at dksX16_write_1 13 rfl rfl)
theorem dX16_write_38 : decode cX16_write 38 = .ok (.aload_n 0, 1) := dk_42 (dk_at dksX16_write_1 14 rfl rfl)
theorem dX16_write_39 : decode cX16_write 39 = .ok (.iconst 0, 1) := dk_3 (dk_at dksX16_write_1 15 rfl rfl)
theorem dX16_write_40 : decode cX16_write 40 = .ok (.putfield 256, 3) := dk_181 1 0 (dk_at dksX16_write_1 16 rfl rfl)
theorem dX16_write_43 : decode cX16_write 43 = .ok (.aload_n 0, 1) := dk_42 (dk_at dksX16_write_1 19 rfl rfl)
theorem dX16_write_44 : decode cX16_write 44 = .ok (.getfield 181, 3) := dk_180 0 181 (dk_at dksX16_write_1 20 rfl rfl)
theorem dX16_write_47 : decode cX16_write 47 = .ok (.iload_n 1, 1) := dk_27 (dk_at dksX16_write_1 23 rfl rfl)
theorem dX16_write_48 : decode cX16_write 48 = .ok (.iaload, 1) := dk_46 (dk_at dksX16_write_2 0 rfl rfl)
theorem dX16_write_49 : decode cX16_write 49 = .ok (.iconst 1, 1) := dk_4 (dk_at dksX16_write_2 1 rfl rfl)
theorem dX16_write_50 : decode cX16_write 50 = .ok (.if_icmp .ne 28, 3) := dk_160 0 28 (dk_at dksX16_write_2 2 rfl rfl)
theorem dX16_write_53 : decode cX16_write 53 = .ok (.aload_n 0, 1) := dk_42 (dk_at dksX16_write_2 5 rfl rfl)
theorem dX16_write_54 : decode cX16_write 54 = .ok (.aload_n 0, 1) := dk_42 (dk_at dksX16_write_2 6 rfl rfl)
theorem dX16_write_55 : decode cX16_write 55 = .ok (.getfield 184, 3) := dk_180 0 184 (dk_at dksX16_write_2 7 rfl rfl)
theorem dX16_write_58 : decode cX16_write 58 = .ok (.iload_n 1, 1) := dk_27 (dk_at dksX16_write_2 10 rfl rfl)
theorem dX16_write_59 : decode cX16_write 59 = .ok (.aaload, 1) := dk_50 (dk_at dksX16_write_2 11 rfl rfl)
theorem dX16_write_60 : decode cX16_write 60 = .ok (.aload_n 0, 1) := dk_42 (dk_at dksX16_write_2 12 rfl rfl)
theorem dX16_write_61 : decode cX16_write 61 = .ok (.getfield 188, 3) := dk_180 0 188 (dk_at dksX16_write_2 13 rfl rfl)
theorem dX16_write_64 : decode cX16_write 64 = .ok (.iload_n 2, 1) := dk_28 (dk_at dksX16_write_2 16 rfl rfl)
theorem dX16_write_65 : decode cX16_write 65 = .ok (.iaload, 1) := dk_46 (dk_at dksX16_write_2 17 rfl rfl)
theorem dX16_write_66 : decode cX16_write 66 = .ok (.aload_n 0, 1) := dk_42 (dk_at dksX16_write_2 18 rfl rfl)
theorem dX16_write_67 : decode cX16_write 67 = .ok (.getfield 191, 3) := dk_180 0 191 (dk_at dksX16_write_2 19 rfl rfl)
theorem dX16_write_70 : decode cX16_write 70 = .ok (.iload_n 2, 1) := dk_28 (dk_at dksX16_write_2 22 rfl rfl)
theorem dX16_write_71 : decode cX16_write 71 = .ok (.iaload, 1) := dk_46 (dk_at dksX16_write_2 23 rfl rfl)
theorem dX16_write_72 : decode cX16_write 72 = .ok (.invokevirtual 478, 3) := dk_182 1 222 (dk_at dksX16_write_3 0 rfl rfl)
theorem dX16_write_75 : decode cX16_write 75 = .ok (.goto 188, 3) := dk_167 0 188 (dk_at dksX16_write_3 3 rfl rfl)
theorem dX16_write_78 : decode cX16_write 78 = .ok (.aload_n 0, 1) := dk_42 (dk_at dksX16_write_3 6 rfl rfl)
theorem dX16_write_79 : decode cX16_write 79 = .ok (.getfield 181, 3) := dk_180 0 181 (dk_at dksX16_write_3 7 rfl rfl)
theorem dX16_write_82 : decode cX16_write 82 = .ok (.iload_n 1, 1) := dk_27 (dk_at dksX16_write_3 10 rfl rfl)
theorem dX16_write_83 : decode cX16_write 83 = .ok (.iaload, 1) := dk_46 (dk_at dksX16_write_3 11 rfl rfl)
theorem dX16_write_84 : decode cX16_write 84 = .ok (.iconst 2, 1) := dk_5 (dk_at dksX16_write_3 12 rfl rfl)
theorem dX16_write_85 : decode cX16_write 85 = .ok (.if_icmp .ne 76, 3) := dk_160 0 76 (dk_at dksX16_write_3 13 rfl rfl)
theorem dX16_write_88 : decode cX16_write 88 = .ok (.aload_n 0, 1) := dk_42 (dk_at dksX16_write_3 16 rfl rfl)
theorem dX16_write_89 : decode cX16_write 89 = .ok (.aload_n 0, 1) := dk_42 (dk_at dksX16_write_3 17 rfl rfl)
theorem dX16_write_90 : decode cX16_write 90 = .ok (.getfield 188, 3) := dk_180 0 188 (dk_at dksX16_write_3 18 rfl rfl)
theorem dX16_write_93 : decode cX16_write 93 = .ok (.iload_n 1, 1) := dk_27 (dk_at dksX16_write_3 21 rfl rfl)
theorem dX16_write_94 : decode cX16_write 94 = .ok (.iaload, 1) := dk_46 (dk_at dksX16_write_3 22 rfl rfl)
theorem dX16_write_95 : decode cX16_write 95 = .ok (.ifCond .ne 9, 3) := dk_154 0 9 (dk_at dksX16_write_4 0 rfl rfl)
theorem dX16_write_98 : decode cX16_write 98 = .ok (.ldc_w 482, 3) := dk_19 1 226 (dk_at dksX16_write_4 3 rfl rfl)
theorem dX16_write_101 : decode cX16_write 101 = .ok (.goto 54, 3) := dk_167 0 54 (dk_at dksX16_write_4 6 rfl rfl)
theorem dX16_write_104 : decode cX16_write 104 = .ok (.aload_n 0, 1) := dk_42 (dk_at dksX16_write_4 9 rfl rfl)
theorem dX16_write_105 : decode cX16_write 105 = .ok (.getfield 188, 3) := dk_180 0 188 (dk_at dksX16_write_4 10 rfl rfl)
theorem dX16_write_108 : decode cX16_write 108 = .ok (.iload_n 1, 1) := dk_27 (dk_at dksX16_write_4 13 rfl rfl)
theorem dX16_write_109 : decode cX16_write 109 = .ok (.iaload, 1) := dk_46 (dk_at dksX16_write_4 14 rfl rfl)
theorem dX16_write_110 : decode cX16_write 110 = .ok (.iconst 1, 1) := dk_4 (dk_at dksX16_write_4 15 rfl rfl)
theorem dX16_write_111 : decode cX16_write 111 = .ok (.if_icmp .ne 9, 3) := dk_160 0 9 (dk_at dksX16_write_4 16 rfl rfl)
theorem dX16_write_114 : decode cX16_write 114 = .ok (.ldc_w 483, 3) := dk_19 1 227 (dk_at dksX16_write_4 19 rfl rfl)
theorem dX16_write_117 : decode cX16_write 117 = .ok (.goto 38, 3) := dk_167 0 38 (dk_at dksX16_write_5 0 rfl rfl)
theorem dX16_write_120 : decode cX16_write 120 = .ok (.aload_n 0, 1) := dk_42 (dk_at dksX16_write_5 3 rfl rfl)
theorem dX16_write_121 : decode cX16_write 121 = .ok (.getfield 188, 3) := dk_180 0 188 (dk_at dksX16_write_5 4 rfl rfl)
theorem dX16_write_124 : decode cX16_write 124 = .ok (.iload_n 1, 1) := dk_27 (dk_at dksX16_write_5 7 rfl rfl)
theorem dX16_write_125 : decode cX16_write 125 = .ok (.iaload, 1) := dk_46 (dk_at dksX16_write_5 8 rfl rfl)
theorem dX16_write_126 : decode cX16_write 126 = .ok (.iconst 2, 1) := dk_5 (dk_at dksX16_write_5 9 rfl rfl)
theorem dX16_write_127 : decode cX16_write 127 = .ok (.if_icmp .ne 9, 3) := dk_160 0 9 (dk_at dksX16_write_5 10 rfl rfl)
theorem dX16_write_130 : decode cX16_write 130 = .ok (.ldc_w 484, 3) := dk_19 1 228 (dk_at dksX16_write_5 13 rfl rfl)
theorem dX16_write_133 : decode cX16_write 133 = .ok (.goto 22, 3) := dk_167 0 22 (dk_at dksX16_write_5 16 rfl rfl)
theorem dX16_write_136 : decode cX16_write 136 = .ok (.aload_n 0, 1) := dk_42 (dk_at dksX16_write_5 19 rfl rfl)
theorem dX16_write_137 : decode cX16_write 137 = .ok (.getfield 191, 3) := dk_180 0 191 (dk_at dksX16_write_5 20 rfl rfl)
theorem dX16_write_140 : decode cX16_write 140 = .ok (.iload_n 1, 1) := dk_27 (dk_at dksX16_write_5 23 rfl rfl)
theorem dX16_write_141 : decode cX16_write 141 = .ok (.iaload, 1) := dk_46 (dk_at dksX16_write_6 0 rfl rfl)
theorem dX16_write_142 : decode cX16_write 142 = .ok (.iconst 1, 1) := dk_4 (dk_at dksX16_write_6 1 rfl rfl)
theorem dX16_write_143 : decode cX16_write 143 = .ok (.if_icmp .ne 9, 3) := dk_160 0 9 (dk_at dksX16_write_6 2 rfl rfl)
theorem dX16_write_146 : decode cX16_write 146 = .ok (.ldc_w 485, 3) := dk_19 1 229 (dk_at dksX16_write_6 5 rfl rfl)
theorem dX16_write_149 : decode cX16_write 149 = .ok (.goto 6, 3) := dk_167 0 6 (dk_at dksX16_write_6 8 rfl rfl)
theorem dX16_write_152 : decode cX16_write 152 = .ok (.ldc_w 487, 3) := dk_19 1 231 (dk_at dksX16_write_6 11 rfl rfl)
theorem dX16_write_155 : decode cX16_write 155 = .ok (.invokevirtual 489, 3) := dk_182 1 233 (dk_at dksX16_write_6 14 rfl rfl)
theorem dX16_write_158 : decode cX16_write 158 = .ok (.goto 105, 3) := dk_167 0 105 (dk_at dksX16_write_6 17 rfl rfl)
theorem dX16_write_161 : decode cX16_write 161 = .ok (.aload_n 0, 1) := dk_42 (dk_at dksX16_write_6 20 rfl rfl)
theorem dX16_write_162 : decode cX16_write 162 = .ok (.getfield 181, 3) := dk_180 0 181 (dk_at dksX16_write_6 21 rfl rfl)
theorem dX16_write_165 : decode cX16_write 165 = .ok (.iload_n 1, 1) := dk_27 (dk_at dksX16_write_7 0 rfl rfl)
theorem dX16_write_166 : decode cX16_write 166 = .ok (.iaload, 1) := dk_46 (dk_at dksX16_write_7 1 rfl rfl)
theorem dX16_write_167 : decode cX16_write 167 = .ok (.iconst 3, 1) := dk_6 (dk_at dksX16_write_7 2 rfl rfl)
theorem dX16_write_168 : decode cX16_write 168 = .ok (.if_icmp .ne 76, 3) := dk_160 0 76 (dk_at dksX16_write_7 3 rfl rfl)
theorem dX16_write_171 : decode cX16_write 171 = .ok (.aload_n 0, 1) := dk_42 (dk_at dksX16_write_7 6 rfl rfl)
theorem dX16_write_172 : decode cX16_write 172 = .ok (.aload_n 0, 1) := dk_42 (dk_at dksX16_write_7 7 rfl rfl)
theorem dX16_write_173 : decode cX16_write 173 = .ok (.getfield 206, 3) := dk_180 0 206 (dk_at dksX16_write_7 8 rfl rfl)
theorem dX16_write_176 : decode cX16_write 176 = .ok (.iload_n 1, 1) := dk_27 (dk_at dksX16_write_7 11 rfl rfl)
theorem dX16_write_177 : decode cX16_write 177 = .ok (.aaload, 1) := dk_50 (dk_at dksX16_write_7 12 rfl rfl)
theorem dX16_write_178 : decode cX16_write 178 = .ok (.bipush 7, 2) := dk_16 7 (dk_at dksX16_write_7 13 rfl rfl)
theorem dX16_write_180 : decode cX16_write 180 = .ok (.aload_n 0, 1) := dk_42 (dk_at dksX16_write_7 15 rfl rfl)
theorem dX16_write_181 : decode cX16_write 181 = .ok (.getfield 209, 3) := dk_180 0 209 (dk_at dksX16_write_7 16 rfl rfl)
theorem dX16_write_184 : decode cX16_write 184 = .ok (.iload_n 1, 1) := dk_27 (dk_at dksX16_write_7 19 rfl rfl)
theorem dX16_write_185 : decode cX16_write 185 = .ok (.iaload, 1) := dk_46 (dk_at dksX16_write_7 20 rfl rfl)
theorem dX16_write_186 : decode cX16_write 186 = .ok (.isub, 1) := dk_100 (dk_at dksX16_write_7 21 rfl rfl)
theorem dX16_write_187 : decode cX16_write 187 = .ok (.invokevirtual 493, 3) := dk_182 1 237 (dk_at dksX16_write_8 0 rfl rfl)
theorem dX16_write_190 : decode cX16_write 190 = .ok (.aload_n 0, 1) := dk_42 (dk_at dksX16_write_8 3 rfl rfl)
theorem dX16_write_191 : decode cX16_write 191 = .ok (.bipush 32, 2) := dk_16 32 (dk_at dksX16_write_8 4 rfl rfl)
theorem dX16_write_193 : decode cX16_write 193 = .ok (.invokevirtual 449, 3) := dk_182 1 193 (dk_at dksX16_write_8 6 rfl rfl)
theorem dX16_write_196 : decode cX16_write 196 = .ok (.aload_n 0, 1) := dk_42 (dk_at dksX16_write_8 9 rfl rfl)
theorem dX16_write_197 : decode cX16_write 197 = .ok (.getfield 329, 3) := dk_180 1 73 (dk_at dksX16_write_8 10 rfl rfl)
theorem dX16_write_200 : decode cX16_write 200 = .ok (.ldc2_w 496, 3) := dk_20 1 240 (dk_at dksX16_write_8 13 rfl rfl)
theorem dX16_write_203 : decode cX16_write 203 = .ok (.invokevirtual 83, 3) := dk_182 0 83 (dk_at dksX16_write_8 16 rfl rfl)
theorem dX16_write_206 : decode cX16_write 206 = .ok (.aload_n 0, 1) := dk_42 (dk_at dksX16_write_8 19 rfl rfl)
theorem dX16_write_207 : decode cX16_write 207 = .ok (.getfield 329, 3) := dk_180 1 73 (dk_at dksX16_write_8 20 rfl rfl)
theorem dX16_write_210 : decode cX16_write 210 = .ok (.aload_n 0, 1) := dk_42 (dk_at dksX16_write_8 23 rfl rfl)
theorem dX16_write_211 : decode cX16_write 211 = .ok (.getfield 206, 3) := dk_180 0 206 (dk_at dksX16_write_9 0 rfl rfl)
theorem dX16_write_214 : decode cX16_write 214 = .ok (.iload_n 1, 1) := dk_27 (dk_at dksX16_write_9 3 rfl rfl)
theorem dX16_write_215 : decode cX16_write 215 = .ok (.aaload, 1) := dk_50 (dk_at dksX16_write_9 4 rfl rfl)
theorem dX16_write_216 : decode cX16_write 216 = .ok (.aload_n 0, 1) := dk_42 (dk_at dksX16_write_9 5 rfl rfl)
theorem dX16_write_217 : decode cX16_write 217 = .ok (.getfield 329, 3) := dk_180 1 73 (dk_at dksX16_write_9 6 rfl rfl)
theorem dX16_write_220 : decode cX16_write 220 = .ok (.iconst 1, 1) := dk_4 (dk_at dksX16_write_9 9 rfl rfl)
theorem dX16_write_221 : decode cX16_write 221 = .ok (.invokestatic 111, 3) := dk_184 0 111 (dk_at dksX16_write_9 10 rfl rfl)
theorem dX16_write_224 : decode cX16_write 224 = .ok (.aload_n 0, 1) := dk_42 (dk_at dksX16_write_9 13 rfl rfl)
theorem dX16_write_225 : decode cX16_write 225 = .ok (.aload_n 0, 1) := dk_42 (dk_at dksX16_write_9 14 rfl rfl)
theorem dX16_write_226 : decode cX16_write 226 = .ok (.getfield 329, 3) := dk_180 1 73 (dk_at dksX16_write_9 15 rfl rfl)
theorem dX16_write_229 : decode cX16_write 229 = .ok (.bipush 7, 2) := dk_16 7 (dk_at dksX16_write_9 18 rfl rfl)
theorem dX16_write_231 : decode cX16_write 231 = .ok (.aload_n 0, 1) := dk_42 (dk_at dksX16_write_9 20 rfl rfl)
theorem dX16_write_232 : decode cX16_write 232 = .ok (.getfield 209, 3) := dk_180 0 209 (dk_at dksX16_write_9 21 rfl rfl)
theorem dX16_write_235 : decode cX16_write 235 = .ok (.iload_n 1, 1) := dk_27 (dk_at dksX16_write_10 0 rfl rfl)
theorem dX16_write_236 : decode cX16_write 236 = .ok (.iaload, 1) := dk_46 (dk_at dksX16_write_10 1 rfl rfl)
theorem dX16_write_237 : decode cX16_write 237 = .ok (.isub, 1) := dk_100 (dk_at dksX16_write_10 2 rfl rfl)
theorem dX16_write_238 : decode cX16_write 238 = .ok (.invokevirtual 493, 3) := dk_182 1 237 (dk_at dksX16_write_10 3 rfl rfl)
theorem dX16_write_241 : decode cX16_write 241 = .ok (.goto 22, 3) := dk_167 0 22 (dk_at dksX16_write_10 6 rfl rfl)
theorem dX16_write_244 : decode cX16_write 244 = .ok (.aload_n 0, 1) := dk_42 (dk_at dksX16_write_10 9 rfl rfl)
theorem dX16_write_245 : decode cX16_write 245 = .ok (.bipush 45, 2) := dk_16 45 (dk_at dksX16_write_10 10 rfl rfl)
theorem dX16_write_247 : decode cX16_write 247 = .ok (.invokevirtual 449, 3) := dk_182 1 193 (dk_at dksX16_write_10 12 rfl rfl)
theorem dX16_write_250 : decode cX16_write 250 = .ok (.aload_n 0, 1) := dk_42 (dk_at dksX16_write_10 15 rfl rfl)
theorem dX16_write_251 : decode cX16_write 251 = .ok (.bipush 48, 2) := dk_16 48 (dk_at dksX16_write_10 16 rfl rfl)
theorem dX16_write_253 : decode cX16_write 253 = .ok (.aload_n 0, 1) := dk_42 (dk_at dksX16_write_10 18 rfl rfl)
theorem dX16_write_254 : decode cX16_write 254 = .ok (.getfield 188, 3) := dk_180 0 188 (dk_at dksX16_write_10 19 rfl rfl)
theorem dX16_write_257 : decode cX16_write 257 = .ok (.iload_n 1, 1) := dk_27 (dk_at dksX16_write_10 22 rfl rfl)
theorem dX16_write_258 : decode cX16_write 258 = .ok (.iaload, 1) := dk_46 (dk_at dksX16_write_10 23 rfl rfl)
theorem dX16_write_259 : decode cX16_write 259 = .ok (.isub, 1) := dk_100 (dk_at dksX16_write_11 0 rfl rfl)
theorem dX16_write_260 : decode cX16_write 260 = .ok (.invokevirtual 449, 3) := dk_182 1 193 (dk_at dksX16_write_11 1 rfl rfl)
theorem dX16_write_263 : decode cX16_write 263 = .ok (.aload_n 0, 1) := dk_42 (dk_at dksX16_write_11 4 rfl rfl)
theorem dX16_write_264 : decode cX16_write 264 = .ok (.getfield 256, 3) := dk_180 1 0 (dk_at dksX16_write_11 5 rfl rfl)
theorem dX16_write_267 : decode cX16_write 267 = .ok (.ireturn, 1) := dk_172 (dk_at dksX16_write_11 8 rfl rfl)
abbrev cX16_putPoly : ByteArray := prog_21_method_42_code
def yX16_putPoly : MethodName := ⟨RX16, "putPoly", "(LIdealCourtModel$Poly;II)V"⟩
def dkwX16_putPoly_6 : List UInt8 := [180, 0, 162, 154, 0, 9, 42, 16, 48, 182, 1, 193, 177]
abbrev dktX16_putPoly_6 : List UInt8 := dkwX16_putPoly_6 ++ []
def dkwX16_putPoly_5 : List UInt8 := [43, 180, 0, 170, 21, 5, 50, 43, 180, 0, 171, 21, 5, 50, 182, 1, 206, 132, 4, 1, 167, 255, 149, 43]
abbrev dktX16_putPoly_5 : List UInt8 := dkwX16_putPoly_5 ++ dktX16_putPoly_6
def dkwX16_putPoly_4 : List UInt8 := [54, 5, 132, 6, 1, 167, 255, 203, 42, 180, 1, 3, 21, 5, 4, 84, 42, 43, 180, 0, 167, 21, 5, 46]
abbrev dktX16_putPoly_4 : List UInt8 := dkwX16_putPoly_4 ++ dktX16_putPoly_5
def dkwX16_putPoly_3 : List UInt8 := [180, 0, 167, 21, 6, 46, 43, 180, 0, 167, 21, 5, 46, 28, 29, 184, 1, 203, 158, 0, 7, 21, 6]
abbrev dktX16_putPoly_3 : List UInt8 := dkwX16_putPoly_3 ++ dktX16_putPoly_4
def dkwX16_putPoly_2 : List UInt8 := [180, 0, 162, 162, 0, 50, 42, 180, 1, 3, 21, 6, 51, 154, 0, 34, 21, 5, 155, 0, 25, 43]
abbrev dktX16_putPoly_2 : List UInt8 := dkwX16_putPoly_2 ++ dktX16_putPoly_3
def dkwX16_putPoly_1 : List UInt8 := [167, 255, 236, 3, 54, 4, 21, 4, 43, 180, 0, 162, 162, 0, 104, 2, 54, 5, 3, 54, 6, 21, 6, 43]
abbrev dktX16_putPoly_1 : List UInt8 := dkwX16_putPoly_1 ++ dktX16_putPoly_2
def dkwX16_putPoly_0 : List UInt8 := [3, 54, 4, 21, 4, 43, 180, 0, 162, 162, 0, 17, 42, 180, 1, 3, 21, 4, 3, 84, 132, 4, 1]
abbrev dktX16_putPoly_0 : List UInt8 := dkwX16_putPoly_0 ++ dktX16_putPoly_1
theorem dksX16_putPoly_0 : cX16_putPoly.data.toList.drop 0 = dktX16_putPoly_0 := by decide +kernel
theorem dksX16_putPoly_1 : cX16_putPoly.data.toList.drop 23 = dktX16_putPoly_1 := dk_seg dksX16_putPoly_0 23 rfl rfl
theorem dksX16_putPoly_2 : cX16_putPoly.data.toList.drop 47 = dktX16_putPoly_2 := dk_seg dksX16_putPoly_1 24 rfl rfl
theorem dksX16_putPoly_3 : cX16_putPoly.data.toList.drop 69 = dktX16_putPoly_3 := dk_seg dksX16_putPoly_2 22 rfl rfl
theorem dksX16_putPoly_4 : cX16_putPoly.data.toList.drop 92 = dktX16_putPoly_4 := dk_seg dksX16_putPoly_3 23 rfl rfl
theorem dksX16_putPoly_5 : cX16_putPoly.data.toList.drop 116 = dktX16_putPoly_5 := dk_seg dksX16_putPoly_4 24 rfl rfl
theorem dksX16_putPoly_6 : cX16_putPoly.data.toList.drop 140 = dktX16_putPoly_6 := dk_seg dksX16_putPoly_5 24 rfl rfl
theorem dX16_putPoly_0 : decode cX16_putPoly 0 = .ok (.iconst 0, 1) := dk_3 (dk_at dksX16_putPoly_0 0 rfl rfl)
theorem dX16_putPoly_1 : decode cX16_putPoly 1 = .ok (.istore 4, 2) := dk_54 4 (dk_at dksX16_putPoly_0 1 rfl rfl)
theorem dX16_putPoly_3 : decode cX16_putPoly 3 = .ok (.iload 4, 2) := dk_21 4 (dk_at dksX16_putPoly_0 3 rfl rfl)
theorem dX16_putPoly_5 : decode cX16_putPoly 5 = .ok (.aload_n 1, 1) := dk_43 (dk_at dksX16_putPoly_0 5 rfl rfl)
theorem dX16_putPoly_6 : decode cX16_putPoly 6 = .ok (.getfield 162, 3) := dk_180 0 162 (dk_at dksX16_putPoly_0 6 rfl rfl)
theorem dX16_putPoly_9 : decode cX16_putPoly 9 = .ok (.if_icmp .ge 17, 3) := dk_162 0 17 (dk_at dksX16_putPoly_0 9 rfl rfl)
theorem dX16_putPoly_12 : decode cX16_putPoly 12 = .ok (.aload_n 0, 1) := dk_42 (dk_at dksX16_putPoly_0 12 rfl rfl)
theorem dX16_putPoly_13 : decode cX16_putPoly 13 = .ok (.getfield 259, 3) := dk_180 1 3 (dk_at dksX16_putPoly_0 13 rfl rfl)
theorem dX16_putPoly_16 : decode cX16_putPoly 16 = .ok (.iload 4, 2) := dk_21 4 (dk_at dksX16_putPoly_0 16 rfl rfl)
theorem dX16_putPoly_18 : decode cX16_putPoly 18 = .ok (.iconst 0, 1) := dk_3 (dk_at dksX16_putPoly_0 18 rfl rfl)
theorem dX16_putPoly_19 : decode cX16_putPoly 19 = .ok (.bastore, 1) := dk_84 (dk_at dksX16_putPoly_0 19 rfl rfl)
theorem dX16_putPoly_20 : decode cX16_putPoly 20 = .ok (.iinc 4 1, 3) := dk_132 4 1 (dk_at dksX16_putPoly_0 20 rfl rfl)
theorem dX16_putPoly_23 : decode cX16_putPoly 23 = .ok (.goto (-20), 3) := dk_167 255 236 (dk_at dksX16_putPoly_1 0 rfl rfl)
theorem dX16_putPoly_26 : decode cX16_putPoly 26 = .ok (.iconst 0, 1) := dk_3 (dk_at dksX16_putPoly_1 3 rfl rfl)
theorem dX16_putPoly_27 : decode cX16_putPoly 27 = .ok (.istore 4, 2) := dk_54 4 (dk_at dksX16_putPoly_1 4 rfl rfl)
theorem dX16_putPoly_29 : decode cX16_putPoly 29 = .ok (.iload 4, 2) := dk_21 4 (dk_at dksX16_putPoly_1 6 rfl rfl)
theorem dX16_putPoly_31 : decode cX16_putPoly 31 = .ok (.aload_n 1, 1) := dk_43 (dk_at dksX16_putPoly_1 8 rfl rfl)
theorem dX16_putPoly_32 : decode cX16_putPoly 32 = .ok (.getfield 162, 3) := dk_180 0 162 (dk_at dksX16_putPoly_1 9 rfl rfl)
theorem dX16_putPoly_35 : decode cX16_putPoly 35 = .ok (.if_icmp .ge 104, 3) := dk_162 0 104 (dk_at dksX16_putPoly_1 12 rfl rfl)
theorem dX16_putPoly_38 : decode cX16_putPoly 38 = .ok (.iconst (-1), 1) := dk_2 (dk_at dksX16_putPoly_1 15 rfl rfl)
theorem dX16_putPoly_39 : decode cX16_putPoly 39 = .ok (.istore 5, 2) := dk_54 5 (dk_at dksX16_putPoly_1 16 rfl rfl)
theorem dX16_putPoly_41 : decode cX16_putPoly 41 = .ok (.iconst 0, 1) := dk_3 (dk_at dksX16_putPoly_1 18 rfl rfl)
theorem dX16_putPoly_42 : decode cX16_putPoly 42 = .ok (.istore 6, 2) := dk_54 6 (dk_at dksX16_putPoly_1 19 rfl rfl)
theorem dX16_putPoly_44 : decode cX16_putPoly 44 = .ok (.iload 6, 2) := dk_21 6 (dk_at dksX16_putPoly_1 21 rfl rfl)
theorem dX16_putPoly_46 : decode cX16_putPoly 46 = .ok (.aload_n 1, 1) := dk_43 (dk_at dksX16_putPoly_1 23 rfl rfl)
theorem dX16_putPoly_47 : decode cX16_putPoly 47 = .ok (.getfield 162, 3) := dk_180 0 162 (dk_at dksX16_putPoly_2 0 rfl rfl)
theorem dX16_putPoly_50 : decode cX16_putPoly 50 = .ok (.if_icmp .ge 50, 3) := dk_162 0 50 (dk_at dksX16_putPoly_2 3 rfl rfl)
theorem dX16_putPoly_53 : decode cX16_putPoly 53 = .ok (.aload_n 0, 1) := dk_42 (dk_at dksX16_putPoly_2 6 rfl rfl)
theorem dX16_putPoly_54 : decode cX16_putPoly 54 = .ok (.getfield 259, 3) := dk_180 1 3 (dk_at dksX16_putPoly_2 7 rfl rfl)
theorem dX16_putPoly_57 : decode cX16_putPoly 57 = .ok (.iload 6, 2) := dk_21 6 (dk_at dksX16_putPoly_2 10 rfl rfl)
theorem dX16_putPoly_59 : decode cX16_putPoly 59 = .ok (.baload, 1) := dk_51 (dk_at dksX16_putPoly_2 12 rfl rfl)
theorem dX16_putPoly_60 : decode cX16_putPoly 60 = .ok (.ifCond .ne 34, 3) := dk_154 0 34 (dk_at dksX16_putPoly_2 13 rfl rfl)
theorem dX16_putPoly_63 : decode cX16_putPoly 63 = .ok (.iload 5, 2) := dk_21 5 (dk_at dksX16_putPoly_2 16 rfl rfl)
theorem dX16_putPoly_65 : decode cX16_putPoly 65 = .ok (.ifCond .lt 25, 3) := dk_155 0 25 (dk_at dksX16_putPoly_2 18 rfl rfl)
theorem dX16_putPoly_68 : decode cX16_putPoly 68 = .ok (.aload_n 1, 1) := dk_43 (dk_at dksX16_putPoly_2 21 rfl rfl)
theorem dX16_putPoly_69 : decode cX16_putPoly 69 = .ok (.getfield 167, 3) := dk_180 0 167 (dk_at dksX16_putPoly_3 0 rfl rfl)
theorem dX16_putPoly_72 : decode cX16_putPoly 72 = .ok (.iload 6, 2) := dk_21 6 (dk_at dksX16_putPoly_3 3 rfl rfl)
theorem dX16_putPoly_74 : decode cX16_putPoly 74 = .ok (.iaload, 1) := dk_46 (dk_at dksX16_putPoly_3 5 rfl rfl)
theorem dX16_putPoly_75 : decode cX16_putPoly 75 = .ok (.aload_n 1, 1) := dk_43 (dk_at dksX16_putPoly_3 6 rfl rfl)
theorem dX16_putPoly_76 : decode cX16_putPoly 76 = .ok (.getfield 167, 3) := dk_180 0 167 (dk_at dksX16_putPoly_3 7 rfl rfl)
theorem dX16_putPoly_79 : decode cX16_putPoly 79 = .ok (.iload 5, 2) := dk_21 5 (dk_at dksX16_putPoly_3 10 rfl rfl)
theorem dX16_putPoly_81 : decode cX16_putPoly 81 = .ok (.iaload, 1) := dk_46 (dk_at dksX16_putPoly_3 12 rfl rfl)
theorem dX16_putPoly_82 : decode cX16_putPoly 82 = .ok (.iload_n 2, 1) := dk_28 (dk_at dksX16_putPoly_3 13 rfl rfl)
theorem dX16_putPoly_83 : decode cX16_putPoly 83 = .ok (.iload_n 3, 1) := dk_29 (dk_at dksX16_putPoly_3 14 rfl rfl)
theorem dX16_putPoly_84 : decode cX16_putPoly 84 = .ok (.invokestatic 459, 3) := dk_184 1 203 (dk_at dksX16_putPoly_3 15 rfl rfl)
theorem dX16_putPoly_87 : decode cX16_putPoly 87 = .ok (.ifCond .le 7, 3) := dk_158 0 7 (dk_at dksX16_putPoly_3 18 rfl rfl)
theorem dX16_putPoly_90 : decode cX16_putPoly 90 = .ok (.iload 6, 2) := dk_21 6 (dk_at dksX16_putPoly_3 21 rfl rfl)
theorem dX16_putPoly_92 : decode cX16_putPoly 92 = .ok (.istore 5, 2) := dk_54 5 (dk_at dksX16_putPoly_4 0 rfl rfl)
theorem dX16_putPoly_94 : decode cX16_putPoly 94 = .ok (.iinc 6 1, 3) := dk_132 6 1 (dk_at dksX16_putPoly_4 2 rfl rfl)
theorem dX16_putPoly_97 : decode cX16_putPoly 97 = .ok (.goto (-53), 3) := dk_167 255 203 (dk_at dksX16_putPoly_4 5 rfl rfl)
theorem dX16_putPoly_100 : decode cX16_putPoly 100 = .ok (.aload_n 0, 1) := dk_42 (dk_at dksX16_putPoly_4 8 rfl rfl)
theorem dX16_putPoly_101 : decode cX16_putPoly 101 = .ok (.getfield 259, 3) := dk_180 1 3 (dk_at dksX16_putPoly_4 9 rfl rfl)
theorem dX16_putPoly_104 : decode cX16_putPoly 104 = .ok (.iload 5, 2) := dk_21 5 (dk_at dksX16_putPoly_4 12 rfl rfl)
theorem dX16_putPoly_106 : decode cX16_putPoly 106 = .ok (.iconst 1, 1) := dk_4 (dk_at dksX16_putPoly_4 14 rfl rfl)
theorem dX16_putPoly_107 : decode cX16_putPoly 107 = .ok (.bastore, 1) := dk_84 (dk_at dksX16_putPoly_4 15 rfl rfl)
theorem dX16_putPoly_108 : decode cX16_putPoly 108 = .ok (.aload_n 0, 1) := dk_42 (dk_at dksX16_putPoly_4 16 rfl rfl)
theorem dX16_putPoly_109 : decode cX16_putPoly 109 = .ok (.aload_n 1, 1) := dk_43 (dk_at dksX16_putPoly_4 17 rfl rfl)
theorem dX16_putPoly_110 : decode cX16_putPoly 110 = .ok (.getfield 167, 3) := dk_180 0 167 (dk_at dksX16_putPoly_4 18 rfl rfl)
theorem dX16_putPoly_113 : decode cX16_putPoly 113 = .ok (.iload 5, 2) := dk_21 5 (dk_at dksX16_putPoly_4 21 rfl rfl)
theorem dX16_putPoly_115 : decode cX16_putPoly 115 = .ok (.iaload, 1) := dk_46 (dk_at dksX16_putPoly_4 23 rfl rfl)
theorem dX16_putPoly_116 : decode cX16_putPoly 116 = .ok (.aload_n 1, 1) := dk_43 (dk_at dksX16_putPoly_5 0 rfl rfl)
theorem dX16_putPoly_117 : decode cX16_putPoly 117 = .ok (.getfield 170, 3) := dk_180 0 170 (dk_at dksX16_putPoly_5 1 rfl rfl)
theorem dX16_putPoly_120 : decode cX16_putPoly 120 = .ok (.iload 5, 2) := dk_21 5 (dk_at dksX16_putPoly_5 4 rfl rfl)
theorem dX16_putPoly_122 : decode cX16_putPoly 122 = .ok (.aaload, 1) := dk_50 (dk_at dksX16_putPoly_5 6 rfl rfl)
theorem dX16_putPoly_123 : decode cX16_putPoly 123 = .ok (.aload_n 1, 1) := dk_43 (dk_at dksX16_putPoly_5 7 rfl rfl)
theorem dX16_putPoly_124 : decode cX16_putPoly 124 = .ok (.getfield 171, 3) := dk_180 0 171 (dk_at dksX16_putPoly_5 8 rfl rfl)
theorem dX16_putPoly_127 : decode cX16_putPoly 127 = .ok (.iload 5, 2) := dk_21 5 (dk_at dksX16_putPoly_5 11 rfl rfl)
theorem dX16_putPoly_129 : decode cX16_putPoly 129 = .ok (.aaload, 1) := dk_50 (dk_at dksX16_putPoly_5 13 rfl rfl)
theorem dX16_putPoly_130 : decode cX16_putPoly 130 = .ok (.invokevirtual 462, 3) := dk_182 1 206 (dk_at dksX16_putPoly_5 14 rfl rfl)
theorem dX16_putPoly_133 : decode cX16_putPoly 133 = .ok (.iinc 4 1, 3) := dk_132 4 1 (dk_at dksX16_putPoly_5 17 rfl rfl)
theorem dX16_putPoly_136 : decode cX16_putPoly 136 = .ok (.goto (-107), 3) := dk_167 255 149 (dk_at dksX16_putPoly_5 20 rfl rfl)
theorem dX16_putPoly_139 : decode cX16_putPoly 139 = .ok (.aload_n 1, 1) := dk_43 (dk_at dksX16_putPoly_5 23 rfl rfl)
theorem dX16_putPoly_140 : decode cX16_putPoly 140 = .ok (.getfield 162, 3) := dk_180 0 162 (dk_at dksX16_putPoly_6 0 rfl rfl)
theorem dX16_putPoly_143 : decode cX16_putPoly 143 = .ok (.ifCond .ne 9, 3) := dk_154 0 9 (dk_at dksX16_putPoly_6 3 rfl rfl)
theorem dX16_putPoly_146 : decode cX16_putPoly 146 = .ok (.aload_n 0, 1) := dk_42 (dk_at dksX16_putPoly_6 6 rfl rfl)
theorem dX16_putPoly_147 : decode cX16_putPoly 147 = .ok (.bipush 48, 2) := dk_16 48 (dk_at dksX16_putPoly_6 7 rfl rfl)
theorem dX16_putPoly_149 : decode cX16_putPoly 149 = .ok (.invokevirtual 449, 3) := dk_182 1 193 (dk_at dksX16_putPoly_6 9 rfl rfl)
theorem dX16_putPoly_152 : decode cX16_putPoly 152 = .ok (.return_, 1) := dk_177 (dk_at dksX16_putPoly_6 12 rfl rfl)
abbrev cX16_putTerm : ByteArray := prog_21_method_41_code
def yX16_putTerm : MethodName := ⟨RX16, "putTerm", "(ILIdealCourtModel$Num;LIdealCourtModel$Num;)V"⟩
def dkwX16_putTerm_6 : List UInt8 := [182, 1, 193, 132, 5, 1, 167, 255, 188, 177]
abbrev dktX16_putTerm_6 : List UInt8 := dkwX16_putTerm_6 ++ []
def dkwX16_putTerm_5 : List UInt8 := [21, 6, 16, 9, 164, 0, 9, 42, 16, 49, 182, 1, 193, 42, 16, 48, 21, 6, 16, 10, 112, 96]
abbrev dktX16_putTerm_5 : List UInt8 := dkwX16_putTerm_5 ++ dktX16_putTerm_6
def dkwX16_putTerm_4 : List UInt8 := [158, 0, 12, 42, 16, 120, 21, 5, 96, 182, 1, 193, 21, 6, 4, 164, 0, 34, 42, 16, 94, 182, 1, 193]
abbrev dktX16_putTerm_4 : List UInt8 := dkwX16_putTerm_4 ++ dktX16_putTerm_5
def dkwX16_putTerm_3 : List UInt8 := [45, 182, 1, 200, 3, 54, 5, 21, 5, 6, 162, 0, 68, 27, 21, 5, 184, 0, 119, 54, 6, 21, 6]
abbrev dktX16_putTerm_3 : List UInt8 := dkwX16_putTerm_3 ++ dktX16_putTerm_4
def dkwX16_putTerm_2 : List UInt8 := [182, 0, 91, 153, 0, 7, 4, 167, 0, 4, 3, 54, 4, 21, 4, 153, 0, 7, 27, 154, 0, 9, 42, 44]
abbrev dktX16_putTerm_2 : List UInt8 := dkwX16_putTerm_2 ++ dktX16_putTerm_3
def dkwX16_putTerm_1 : List UInt8 := [16, 43, 182, 1, 193, 44, 180, 0, 7, 4, 160, 0, 24, 44, 180, 0, 11, 3, 46, 4, 160, 0, 14, 45]
abbrev dktX16_putTerm_1 : List UInt8 := dkwX16_putTerm_1 ++ dktX16_putTerm_2
def dkwX16_putTerm_0 : List UInt8 := [44, 180, 0, 15, 156, 0, 12, 42, 16, 45, 182, 1, 193, 167, 0, 16, 42, 180, 1, 0, 158, 0, 9, 42]
abbrev dktX16_putTerm_0 : List UInt8 := dkwX16_putTerm_0 ++ dktX16_putTerm_1
theorem dksX16_putTerm_0 : cX16_putTerm.data.toList.drop 0 = dktX16_putTerm_0 := by decide +kernel
theorem dksX16_putTerm_1 : cX16_putTerm.data.toList.drop 24 = dktX16_putTerm_1 := dk_seg dksX16_putTerm_0 24 rfl rfl
theorem dksX16_putTerm_2 : cX16_putTerm.data.toList.drop 48 = dktX16_putTerm_2 := dk_seg dksX16_putTerm_1 24 rfl rfl
theorem dksX16_putTerm_3 : cX16_putTerm.data.toList.drop 72 = dktX16_putTerm_3 := dk_seg dksX16_putTerm_2 24 rfl rfl
theorem dksX16_putTerm_4 : cX16_putTerm.data.toList.drop 95 = dktX16_putTerm_4 := dk_seg dksX16_putTerm_3 23 rfl rfl
theorem dksX16_putTerm_5 : cX16_putTerm.data.toList.drop 119 = dktX16_putTerm_5 := dk_seg dksX16_putTerm_4 24 rfl rfl
theorem dksX16_putTerm_6 : cX16_putTerm.data.toList.drop 141 = dktX16_putTerm_6 := dk_seg dksX16_putTerm_5 22 rfl rfl
theorem dX16_putTerm_0 : decode cX16_putTerm 0 = .ok (.aload_n 2, 1) := dk_44 (dk_at dksX16_putTerm_0 0 rfl rfl)
theorem dX16_putTerm_1 : decode cX16_putTerm 1 = .ok (.getfield 15, 3) := dk_180 0 15 (dk_at dksX16_putTerm_0 1 rfl rfl)
theorem dX16_putTerm_4 : decode cX16_putTerm 4 = .ok (.ifCond .ge 12, 3) := dk_156 0 12 (dk_at dksX16_putTerm_0 4 rfl rfl)
theorem dX16_putTerm_7 : decode cX16_putTerm 7 = .ok (.aload_n 0, 1) := dk_42 (dk_at dksX16_putTerm_0 7 rfl rfl)
theorem dX16_putTerm_8 : decode cX16_putTerm 8 = .ok (.bipush 45, 2) := dk_16 45 (dk_at dksX16_putTerm_0 8 rfl rfl)
theorem dX16_putTerm_10 : decode cX16_putTerm 10 = .ok (.invokevirtual 449, 3) := dk_182 1 193 (dk_at dksX16_putTerm_0 10 rfl rfl)
theorem dX16_putTerm_13 : decode cX16_putTerm 13 = .ok (.goto 16, 3) := dk_167 0 16 (dk_at dksX16_putTerm_0 13 rfl rfl)
theorem dX16_putTerm_16 : decode cX16_putTerm 16 = .ok (.aload_n 0, 1) := dk_42 (dk_at dksX16_putTerm_0 16 rfl rfl)
theorem dX16_putTerm_17 : decode cX16_putTerm 17 = .ok (.getfield 256, 3) := dk_180 1 0 (dk_at dksX16_putTerm_0 17 rfl rfl)
theorem dX16_putTerm_20 : decode cX16_putTerm 20 = .ok (.ifCond .le 9, 3) := dk_158 0 9 (dk_at dksX16_putTerm_0 20 rfl rfl)
theorem dX16_putTerm_23 : decode cX16_putTerm 23 = .ok (.aload_n 0, 1) := dk_42 (dk_at dksX16_putTerm_0 23 rfl rfl)
theorem dX16_putTerm_24 : decode cX16_putTerm 24 = .ok (.bipush 43, 2) := dk_16 43 (dk_at dksX16_putTerm_1 0 rfl rfl)
theorem dX16_putTerm_26 : decode cX16_putTerm 26 = .ok (.invokevirtual 449, 3) := dk_182 1 193 (dk_at dksX16_putTerm_1 2 rfl rfl)
theorem dX16_putTerm_29 : decode cX16_putTerm 29 = .ok (.aload_n 2, 1) := dk_44 (dk_at dksX16_putTerm_1 5 rfl rfl)
theorem dX16_putTerm_30 : decode cX16_putTerm 30 = .ok (.getfield 7, 3) := dk_180 0 7 (dk_at dksX16_putTerm_1 6 rfl rfl)
theorem dX16_putTerm_33 : decode cX16_putTerm 33 = .ok (.iconst 1, 1) := dk_4 (dk_at dksX16_putTerm_1 9 rfl rfl)
theorem dX16_putTerm_34 : decode cX16_putTerm 34 = .ok (.if_icmp .ne 24, 3) := dk_160 0 24 (dk_at dksX16_putTerm_1 10 rfl rfl)
theorem dX16_putTerm_37 : decode cX16_putTerm 37 = .ok (.aload_n 2, 1) := dk_44 (dk_at dksX16_putTerm_1 13 rfl rfl)
theorem dX16_putTerm_38 : decode cX16_putTerm 38 = .ok (.getfield 11, 3) := dk_180 0 11 (dk_at dksX16_putTerm_1 14 rfl rfl)
theorem dX16_putTerm_41 : decode cX16_putTerm 41 = .ok (.iconst 0, 1) := dk_3 (dk_at dksX16_putTerm_1 17 rfl rfl)
theorem dX16_putTerm_42 : decode cX16_putTerm 42 = .ok (.iaload, 1) := dk_46 (dk_at dksX16_putTerm_1 18 rfl rfl)
theorem dX16_putTerm_43 : decode cX16_putTerm 43 = .ok (.iconst 1, 1) := dk_4 (dk_at dksX16_putTerm_1 19 rfl rfl)
theorem dX16_putTerm_44 : decode cX16_putTerm 44 = .ok (.if_icmp .ne 14, 3) := dk_160 0 14 (dk_at dksX16_putTerm_1 20 rfl rfl)
theorem dX16_putTerm_47 : decode cX16_putTerm 47 = .ok (.aload_n 3, 1) := dk_45 (dk_at dksX16_putTerm_1 23 rfl rfl)
theorem dX16_putTerm_48 : decode cX16_putTerm 48 = .ok (.invokevirtual 91, 3) := dk_182 0 91 (dk_at dksX16_putTerm_2 0 rfl rfl)
theorem dX16_putTerm_51 : decode cX16_putTerm 51 = .ok (.ifCond .eq 7, 3) := dk_153 0 7 (dk_at dksX16_putTerm_2 3 rfl rfl)
theorem dX16_putTerm_54 : decode cX16_putTerm 54 = .ok (.iconst 1, 1) := dk_4 (dk_at dksX16_putTerm_2 6 rfl rfl)
theorem dX16_putTerm_55 : decode cX16_putTerm 55 = .ok (.goto 4, 3) := dk_167 0 4 (dk_at dksX16_putTerm_2 7 rfl rfl)
theorem dX16_putTerm_58 : decode cX16_putTerm 58 = .ok (.iconst 0, 1) := dk_3 (dk_at dksX16_putTerm_2 10 rfl rfl)
theorem dX16_putTerm_59 : decode cX16_putTerm 59 = .ok (.istore 4, 2) := dk_54 4 (dk_at dksX16_putTerm_2 11 rfl rfl)
theorem dX16_putTerm_61 : decode cX16_putTerm 61 = .ok (.iload 4, 2) := dk_21 4 (dk_at dksX16_putTerm_2 13 rfl rfl)
theorem dX16_putTerm_63 : decode cX16_putTerm 63 = .ok (.ifCond .eq 7, 3) := dk_153 0 7 (dk_at dksX16_putTerm_2 15 rfl rfl)
theorem dX16_putTerm_66 : decode cX16_putTerm 66 = .ok (.iload_n 1, 1) := dk_27 (dk_at dksX16_putTerm_2 18 rfl rfl)
theorem dX16_putTerm_67 : decode cX16_putTerm 67 = .ok (.ifCond .ne 9, 3) := dk_154 0 9 (dk_at dksX16_putTerm_2 19 rfl rfl)
theorem dX16_putTerm_70 : decode cX16_putTerm 70 = .ok (.aload_n 0, 1) := dk_42 (dk_at dksX16_putTerm_2 22 rfl rfl)
theorem dX16_putTerm_71 : decode cX16_putTerm 71 = .ok (.aload_n 2, 1) := dk_44 (dk_at dksX16_putTerm_2 23 rfl rfl)
theorem dX16_putTerm_72 : decode cX16_putTerm 72 = .ok (.aload_n 3, 1) := dk_45 (dk_at dksX16_putTerm_3 0 rfl rfl)
theorem dX16_putTerm_73 : decode cX16_putTerm 73 = .ok (.invokevirtual 456, 3) := dk_182 1 200 (dk_at dksX16_putTerm_3 1 rfl rfl)
theorem dX16_putTerm_76 : decode cX16_putTerm 76 = .ok (.iconst 0, 1) := dk_3 (dk_at dksX16_putTerm_3 4 rfl rfl)
theorem dX16_putTerm_77 : decode cX16_putTerm 77 = .ok (.istore 5, 2) := dk_54 5 (dk_at dksX16_putTerm_3 5 rfl rfl)
theorem dX16_putTerm_79 : decode cX16_putTerm 79 = .ok (.iload 5, 2) := dk_21 5 (dk_at dksX16_putTerm_3 7 rfl rfl)
theorem dX16_putTerm_81 : decode cX16_putTerm 81 = .ok (.iconst 3, 1) := dk_6 (dk_at dksX16_putTerm_3 9 rfl rfl)
theorem dX16_putTerm_82 : decode cX16_putTerm 82 = .ok (.if_icmp .ge 68, 3) := dk_162 0 68 (dk_at dksX16_putTerm_3 10 rfl rfl)
theorem dX16_putTerm_85 : decode cX16_putTerm 85 = .ok (.iload_n 1, 1) := dk_27 (dk_at dksX16_putTerm_3 13 rfl rfl)
theorem dX16_putTerm_86 : decode cX16_putTerm 86 = .ok (.iload 5, 2) := dk_21 5 (dk_at dksX16_putTerm_3 14 rfl rfl)
theorem dX16_putTerm_88 : decode cX16_putTerm 88 = .ok (.invokestatic 119, 3) := dk_184 0 119 (dk_at dksX16_putTerm_3 16 rfl rfl)
theorem dX16_putTerm_91 : decode cX16_putTerm 91 = .ok (.istore 6, 2) := dk_54 6 (dk_at dksX16_putTerm_3 19 rfl rfl)
theorem dX16_putTerm_93 : decode cX16_putTerm 93 = .ok (.iload 6, 2) := dk_21 6 (dk_at dksX16_putTerm_3 21 rfl rfl)
theorem dX16_putTerm_95 : decode cX16_putTerm 95 = .ok (.ifCond .le 12, 3) := dk_158 0 12 (dk_at dksX16_putTerm_4 0 rfl rfl)
theorem dX16_putTerm_98 : decode cX16_putTerm 98 = .ok (.aload_n 0, 1) := dk_42 (dk_at dksX16_putTerm_4 3 rfl rfl)
theorem dX16_putTerm_99 : decode cX16_putTerm 99 = .ok (.bipush 120, 2) := dk_16 120 (dk_at dksX16_putTerm_4 4 rfl rfl)
theorem dX16_putTerm_101 : decode cX16_putTerm 101 = .ok (.iload 5, 2) := dk_21 5 (dk_at dksX16_putTerm_4 6 rfl rfl)
theorem dX16_putTerm_103 : decode cX16_putTerm 103 = .ok (.iadd, 1) := dk_96 (dk_at dksX16_putTerm_4 8 rfl rfl)
theorem dX16_putTerm_104 : decode cX16_putTerm 104 = .ok (.invokevirtual 449, 3) := dk_182 1 193 (dk_at dksX16_putTerm_4 9 rfl rfl)
theorem dX16_putTerm_107 : decode cX16_putTerm 107 = .ok (.iload 6, 2) := dk_21 6 (dk_at dksX16_putTerm_4 12 rfl rfl)
theorem dX16_putTerm_109 : decode cX16_putTerm 109 = .ok (.iconst 1, 1) := dk_4 (dk_at dksX16_putTerm_4 14 rfl rfl)
theorem dX16_putTerm_110 : decode cX16_putTerm 110 = .ok (.if_icmp .le 34, 3) := dk_164 0 34 (dk_at dksX16_putTerm_4 15 rfl rfl)
theorem dX16_putTerm_113 : decode cX16_putTerm 113 = .ok (.aload_n 0, 1) := dk_42 (dk_at dksX16_putTerm_4 18 rfl rfl)
theorem dX16_putTerm_114 : decode cX16_putTerm 114 = .ok (.bipush 94, 2) := dk_16 94 (dk_at dksX16_putTerm_4 19 rfl rfl)
theorem dX16_putTerm_116 : decode cX16_putTerm 116 = .ok (.invokevirtual 449, 3) := dk_182 1 193 (dk_at dksX16_putTerm_4 21 rfl rfl)
theorem dX16_putTerm_119 : decode cX16_putTerm 119 = .ok (.iload 6, 2) := dk_21 6 (dk_at dksX16_putTerm_5 0 rfl rfl)
theorem dX16_putTerm_121 : decode cX16_putTerm 121 = .ok (.bipush 9, 2) := dk_16 9 (dk_at dksX16_putTerm_5 2 rfl rfl)
theorem dX16_putTerm_123 : decode cX16_putTerm 123 = .ok (.if_icmp .le 9, 3) := dk_164 0 9 (dk_at dksX16_putTerm_5 4 rfl rfl)
theorem dX16_putTerm_126 : decode cX16_putTerm 126 = .ok (.aload_n 0, 1) := dk_42 (dk_at dksX16_putTerm_5 7 rfl rfl)
theorem dX16_putTerm_127 : decode cX16_putTerm 127 = .ok (.bipush 49, 2) := dk_16 49 (dk_at dksX16_putTerm_5 8 rfl rfl)
theorem dX16_putTerm_129 : decode cX16_putTerm 129 = .ok (.invokevirtual 449, 3) := dk_182 1 193 (dk_at dksX16_putTerm_5 10 rfl rfl)
theorem dX16_putTerm_132 : decode cX16_putTerm 132 = .ok (.aload_n 0, 1) := dk_42 (dk_at dksX16_putTerm_5 13 rfl rfl)
theorem dX16_putTerm_133 : decode cX16_putTerm 133 = .ok (.bipush 48, 2) := dk_16 48 (dk_at dksX16_putTerm_5 14 rfl rfl)
theorem dX16_putTerm_135 : decode cX16_putTerm 135 = .ok (.iload 6, 2) := dk_21 6 (dk_at dksX16_putTerm_5 16 rfl rfl)
theorem dX16_putTerm_137 : decode cX16_putTerm 137 = .ok (.bipush 10, 2) := dk_16 10 (dk_at dksX16_putTerm_5 18 rfl rfl)
theorem dX16_putTerm_139 : decode cX16_putTerm 139 = .ok (.irem, 1) := dk_112 (dk_at dksX16_putTerm_5 20 rfl rfl)
theorem dX16_putTerm_140 : decode cX16_putTerm 140 = .ok (.iadd, 1) := dk_96 (dk_at dksX16_putTerm_5 21 rfl rfl)
theorem dX16_putTerm_141 : decode cX16_putTerm 141 = .ok (.invokevirtual 449, 3) := dk_182 1 193 (dk_at dksX16_putTerm_6 0 rfl rfl)
theorem dX16_putTerm_144 : decode cX16_putTerm 144 = .ok (.iinc 5 1, 3) := dk_132 5 1 (dk_at dksX16_putTerm_6 3 rfl rfl)
theorem dX16_putTerm_147 : decode cX16_putTerm 147 = .ok (.goto (-68), 3) := dk_167 255 188 (dk_at dksX16_putTerm_6 6 rfl rfl)
theorem dX16_putTerm_150 : decode cX16_putTerm 150 = .ok (.return_, 1) := dk_177 (dk_at dksX16_putTerm_6 9 rfl rfl)
abbrev cX16_put : ByteArray := prog_21_method_38_code
def yX16_put : MethodName := ⟨RX16, "put", "(I)V"⟩
def dkwX16_put_0 : List UInt8 := [42, 180, 0, 252, 42, 180, 1, 0, 27, 145, 84, 42, 89, 180, 1, 0, 4, 96, 181, 1, 0, 177]
abbrev dktX16_put_0 : List UInt8 := dkwX16_put_0 ++ []
theorem dksX16_put_0 : cX16_put.data.toList.drop 0 = dktX16_put_0 := by decide +kernel
theorem dX16_put_0 : decode cX16_put 0 = .ok (.aload_n 0, 1) := dk_42 (dk_at dksX16_put_0 0 rfl rfl)
theorem dX16_put_1 : decode cX16_put 1 = .ok (.getfield 252, 3) := dk_180 0 252 (dk_at dksX16_put_0 1 rfl rfl)
theorem dX16_put_4 : decode cX16_put 4 = .ok (.aload_n 0, 1) := dk_42 (dk_at dksX16_put_0 4 rfl rfl)
theorem dX16_put_5 : decode cX16_put 5 = .ok (.getfield 256, 3) := dk_180 1 0 (dk_at dksX16_put_0 5 rfl rfl)
theorem dX16_put_8 : decode cX16_put 8 = .ok (.iload_n 1, 1) := dk_27 (dk_at dksX16_put_0 8 rfl rfl)
theorem dX16_put_9 : decode cX16_put 9 = .ok (.i2b, 1) := dk_145 (dk_at dksX16_put_0 9 rfl rfl)
theorem dX16_put_10 : decode cX16_put 10 = .ok (.bastore, 1) := dk_84 (dk_at dksX16_put_0 10 rfl rfl)
theorem dX16_put_11 : decode cX16_put 11 = .ok (.aload_n 0, 1) := dk_42 (dk_at dksX16_put_0 11 rfl rfl)
theorem dX16_put_12 : decode cX16_put 12 = .ok (.dup, 1) := dk_89 (dk_at dksX16_put_0 12 rfl rfl)
theorem dX16_put_13 : decode cX16_put 13 = .ok (.getfield 256, 3) := dk_180 1 0 (dk_at dksX16_put_0 13 rfl rfl)
theorem dX16_put_16 : decode cX16_put 16 = .ok (.iconst 1, 1) := dk_4 (dk_at dksX16_put_0 16 rfl rfl)
theorem dX16_put_17 : decode cX16_put 17 = .ok (.iadd, 1) := dk_96 (dk_at dksX16_put_0 17 rfl rfl)
theorem dX16_put_18 : decode cX16_put 18 = .ok (.putfield 256, 3) := dk_181 1 0 (dk_at dksX16_put_0 18 rfl rfl)
theorem dX16_put_21 : decode cX16_put 21 = .ok (.return_, 1) := dk_177 (dk_at dksX16_put_0 21 rfl rfl)
abbrev cX16_putFraction : ByteArray := prog_21_method_40_code
def yX16_putFraction : MethodName := ⟨RX16, "putFraction", "(LIdealCourtModel$Num;LIdealCourtModel$Num;)V"⟩
def dkwX16_putFraction_0 : List UInt8 := [42, 43, 182, 1, 197, 44, 182, 0, 91, 154, 0, 14, 42, 16, 47, 182, 1, 193, 42, 44, 182, 1, 197, 177]
abbrev dktX16_putFraction_0 : List UInt8 := dkwX16_putFraction_0 ++ []
theorem dksX16_putFraction_0 : cX16_putFraction.data.toList.drop 0 = dktX16_putFraction_0 := by decide +kernel
theorem dX16_putFraction_0 : decode cX16_putFraction 0 = .ok (.aload_n 0, 1) := dk_42 (dk_at dksX16_putFraction_0 0 rfl rfl)
theorem dX16_putFraction_1 : decode cX16_putFraction 1 = .ok (.aload_n 1, 1) := dk_43 (dk_at dksX16_putFraction_0 1 rfl rfl)
theorem dX16_putFraction_2 : decode cX16_putFraction 2 = .ok (.invokevirtual 453, 3) := dk_182 1 197 (dk_at dksX16_putFraction_0 2 rfl rfl)
theorem dX16_putFraction_5 : decode cX16_putFraction 5 = .ok (.aload_n 2, 1) := dk_44 (dk_at dksX16_putFraction_0 5 rfl rfl)
theorem dX16_putFraction_6 : decode cX16_putFraction 6 = .ok (.invokevirtual 91, 3) := dk_182 0 91 (dk_at dksX16_putFraction_0 6 rfl rfl)
theorem dX16_putFraction_9 : decode cX16_putFraction 9 = .ok (.ifCond .ne 14, 3) := dk_154 0 14 (dk_at dksX16_putFraction_0 9 rfl rfl)
theorem dX16_putFraction_12 : decode cX16_putFraction 12 = .ok (.aload_n 0, 1) := dk_42 (dk_at dksX16_putFraction_0 12 rfl rfl)
theorem dX16_putFraction_13 : decode cX16_putFraction 13 = .ok (.bipush 47, 2) := dk_16 47 (dk_at dksX16_putFraction_0 13 rfl rfl)
theorem dX16_putFraction_15 : decode cX16_putFraction 15 = .ok (.invokevirtual 449, 3) := dk_182 1 193 (dk_at dksX16_putFraction_0 15 rfl rfl)
theorem dX16_putFraction_18 : decode cX16_putFraction 18 = .ok (.aload_n 0, 1) := dk_42 (dk_at dksX16_putFraction_0 18 rfl rfl)
theorem dX16_putFraction_19 : decode cX16_putFraction 19 = .ok (.aload_n 2, 1) := dk_44 (dk_at dksX16_putFraction_0 19 rfl rfl)
theorem dX16_putFraction_20 : decode cX16_putFraction 20 = .ok (.invokevirtual 453, 3) := dk_182 1 197 (dk_at dksX16_putFraction_0 20 rfl rfl)
theorem dX16_putFraction_23 : decode cX16_putFraction 23 = .ok (.return_, 1) := dk_177 (dk_at dksX16_putFraction_0 23 rfl rfl)
abbrev cX16_putSize : ByteArray := prog_21_method_39_code
def yX16_putSize : MethodName := ⟨RX16, "putSize", "(LIdealCourtModel$Num;)V"⟩
def dkwX16_putSize_4 : List UInt8 := [54, 4, 167, 255, 225, 132, 2, 255, 167, 255, 174, 177]
abbrev dktX16_putSize_4 : List UInt8 := dkwX16_putSize_4 ++ []
def dkwX16_putSize_3 : List UInt8 := [16, 48, 43, 180, 0, 11, 28, 46, 21, 4, 108, 16, 10, 112, 96, 182, 1, 193, 21, 4, 16, 10, 108]
abbrev dktX16_putSize_3 : List UInt8 := dkwX16_putSize_3 ++ dktX16_putSize_4
def dkwX16_putSize_2 : List UInt8 := [46, 29, 108, 154, 0, 11, 29, 16, 10, 108, 62, 167, 255, 225, 29, 54, 4, 21, 4, 158, 0, 32, 42]
abbrev dktX16_putSize_2 : List UInt8 := dkwX16_putSize_2 ++ dktX16_putSize_3
def dkwX16_putSize_1 : List UInt8 := [19, 1, 196, 62, 28, 43, 180, 0, 7, 4, 100, 160, 0, 27, 29, 4, 164, 0, 22, 43, 180, 0, 11, 28]
abbrev dktX16_putSize_1 : List UInt8 := dkwX16_putSize_1 ++ dktX16_putSize_2
def dkwX16_putSize_0 : List UInt8 := [43, 180, 0, 7, 154, 0, 9, 42, 16, 48, 182, 1, 193, 43, 180, 0, 7, 4, 100, 61, 28, 155, 0, 84]
abbrev dktX16_putSize_0 : List UInt8 := dkwX16_putSize_0 ++ dktX16_putSize_1
theorem dksX16_putSize_0 : cX16_putSize.data.toList.drop 0 = dktX16_putSize_0 := by decide +kernel
theorem dksX16_putSize_1 : cX16_putSize.data.toList.drop 24 = dktX16_putSize_1 := dk_seg dksX16_putSize_0 24 rfl rfl
theorem dksX16_putSize_2 : cX16_putSize.data.toList.drop 48 = dktX16_putSize_2 := dk_seg dksX16_putSize_1 24 rfl rfl
theorem dksX16_putSize_3 : cX16_putSize.data.toList.drop 71 = dktX16_putSize_3 := dk_seg dksX16_putSize_2 23 rfl rfl
theorem dksX16_putSize_4 : cX16_putSize.data.toList.drop 94 = dktX16_putSize_4 := dk_seg dksX16_putSize_3 23 rfl rfl
theorem dX16_putSize_0 : decode cX16_putSize 0 = .ok (.aload_n 1, 1) := dk_43 (dk_at dksX16_putSize_0 0 rfl rfl)
theorem dX16_putSize_1 : decode cX16_putSize 1 = .ok (.getfield 7, 3) := dk_180 0 7 (dk_at dksX16_putSize_0 1 rfl rfl)
theorem dX16_putSize_4 : decode cX16_putSize 4 = .ok (.ifCond .ne 9, 3) := dk_154 0 9 (dk_at dksX16_putSize_0 4 rfl rfl)
theorem dX16_putSize_7 : decode cX16_putSize 7 = .ok (.aload_n 0, 1) := dk_42 (dk_at dksX16_putSize_0 7 rfl rfl)
theorem dX16_putSize_8 : decode cX16_putSize 8 = .ok (.bipush 48, 2) := dk_16 48 (dk_at dksX16_putSize_0 8 rfl rfl)
theorem dX16_putSize_10 : decode cX16_putSize 10 = .ok (.invokevirtual 449, 3) := dk_182 1 193 (dk_at dksX16_putSize_0 10 rfl rfl)
theorem dX16_putSize_13 : decode cX16_putSize 13 = .ok (.aload_n 1, 1) := dk_43 (dk_at dksX16_putSize_0 13 rfl rfl)
theorem dX16_putSize_14 : decode cX16_putSize 14 = .ok (.getfield 7, 3) := dk_180 0 7 (dk_at dksX16_putSize_0 14 rfl rfl)
theorem dX16_putSize_17 : decode cX16_putSize 17 = .ok (.iconst 1, 1) := dk_4 (dk_at dksX16_putSize_0 17 rfl rfl)
theorem dX16_putSize_18 : decode cX16_putSize 18 = .ok (.isub, 1) := dk_100 (dk_at dksX16_putSize_0 18 rfl rfl)
theorem dX16_putSize_19 : decode cX16_putSize 19 = .ok (.istore_n 2, 1) := dk_61 (dk_at dksX16_putSize_0 19 rfl rfl)
theorem dX16_putSize_20 : decode cX16_putSize 20 = .ok (.iload_n 2, 1) := dk_28 (dk_at dksX16_putSize_0 20 rfl rfl)
theorem dX16_putSize_21 : decode cX16_putSize 21 = .ok (.ifCond .lt 84, 3) := dk_155 0 84 (dk_at dksX16_putSize_0 21 rfl rfl)
theorem dX16_putSize_24 : decode cX16_putSize 24 = .ok (.ldc_w 452, 3) := dk_19 1 196 (dk_at dksX16_putSize_1 0 rfl rfl)
theorem dX16_putSize_27 : decode cX16_putSize 27 = .ok (.istore_n 3, 1) := dk_62 (dk_at dksX16_putSize_1 3 rfl rfl)
theorem dX16_putSize_28 : decode cX16_putSize 28 = .ok (.iload_n 2, 1) := dk_28 (dk_at dksX16_putSize_1 4 rfl rfl)
theorem dX16_putSize_29 : decode cX16_putSize 29 = .ok (.aload_n 1, 1) := dk_43 (dk_at dksX16_putSize_1 5 rfl rfl)
theorem dX16_putSize_30 : decode cX16_putSize 30 = .ok (.getfield 7, 3) := dk_180 0 7 (dk_at dksX16_putSize_1 6 rfl rfl)
theorem dX16_putSize_33 : decode cX16_putSize 33 = .ok (.iconst 1, 1) := dk_4 (dk_at dksX16_putSize_1 9 rfl rfl)
theorem dX16_putSize_34 : decode cX16_putSize 34 = .ok (.isub, 1) := dk_100 (dk_at dksX16_putSize_1 10 rfl rfl)
theorem dX16_putSize_35 : decode cX16_putSize 35 = .ok (.if_icmp .ne 27, 3) := dk_160 0 27 (dk_at dksX16_putSize_1 11 rfl rfl)
theorem dX16_putSize_38 : decode cX16_putSize 38 = .ok (.iload_n 3, 1) := dk_29 (dk_at dksX16_putSize_1 14 rfl rfl)
theorem dX16_putSize_39 : decode cX16_putSize 39 = .ok (.iconst 1, 1) := dk_4 (dk_at dksX16_putSize_1 15 rfl rfl)
theorem dX16_putSize_40 : decode cX16_putSize 40 = .ok (.if_icmp .le 22, 3) := dk_164 0 22 (dk_at dksX16_putSize_1 16 rfl rfl)
theorem dX16_putSize_43 : decode cX16_putSize 43 = .ok (.aload_n 1, 1) := dk_43 (dk_at dksX16_putSize_1 19 rfl rfl)
theorem dX16_putSize_44 : decode cX16_putSize 44 = .ok (.getfield 11, 3) := dk_180 0 11 (dk_at dksX16_putSize_1 20 rfl rfl)
theorem dX16_putSize_47 : decode cX16_putSize 47 = .ok (.iload_n 2, 1) := dk_28 (dk_at dksX16_putSize_1 23 rfl rfl)
theorem dX16_putSize_48 : decode cX16_putSize 48 = .ok (.iaload, 1) := dk_46 (dk_at dksX16_putSize_2 0 rfl rfl)
theorem dX16_putSize_49 : decode cX16_putSize 49 = .ok (.iload_n 3, 1) := dk_29 (dk_at dksX16_putSize_2 1 rfl rfl)
theorem dX16_putSize_50 : decode cX16_putSize 50 = .ok (.idiv, 1) := dk_108 (dk_at dksX16_putSize_2 2 rfl rfl)
theorem dX16_putSize_51 : decode cX16_putSize 51 = .ok (.ifCond .ne 11, 3) := dk_154 0 11 (dk_at dksX16_putSize_2 3 rfl rfl)
theorem dX16_putSize_54 : decode cX16_putSize 54 = .ok (.iload_n 3, 1) := dk_29 (dk_at dksX16_putSize_2 6 rfl rfl)
theorem dX16_putSize_55 : decode cX16_putSize 55 = .ok (.bipush 10, 2) := dk_16 10 (dk_at dksX16_putSize_2 7 rfl rfl)
theorem dX16_putSize_57 : decode cX16_putSize 57 = .ok (.idiv, 1) := dk_108 (dk_at dksX16_putSize_2 9 rfl rfl)
theorem dX16_putSize_58 : decode cX16_putSize 58 = .ok (.istore_n 3, 1) := dk_62 (dk_at dksX16_putSize_2 10 rfl rfl)
theorem dX16_putSize_59 : decode cX16_putSize 59 = .ok (.goto (-31), 3) := dk_167 255 225 (dk_at dksX16_putSize_2 11 rfl rfl)
theorem dX16_putSize_62 : decode cX16_putSize 62 = .ok (.iload_n 3, 1) := dk_29 (dk_at dksX16_putSize_2 14 rfl rfl)
theorem dX16_putSize_63 : decode cX16_putSize 63 = .ok (.istore 4, 2) := dk_54 4 (dk_at dksX16_putSize_2 15 rfl rfl)
theorem dX16_putSize_65 : decode cX16_putSize 65 = .ok (.iload 4, 2) := dk_21 4 (dk_at dksX16_putSize_2 17 rfl rfl)
theorem dX16_putSize_67 : decode cX16_putSize 67 = .ok (.ifCond .le 32, 3) := dk_158 0 32 (dk_at dksX16_putSize_2 19 rfl rfl)
theorem dX16_putSize_70 : decode cX16_putSize 70 = .ok (.aload_n 0, 1) := dk_42 (dk_at dksX16_putSize_2 22 rfl rfl)
theorem dX16_putSize_71 : decode cX16_putSize 71 = .ok (.bipush 48, 2) := dk_16 48 (dk_at dksX16_putSize_3 0 rfl rfl)
theorem dX16_putSize_73 : decode cX16_putSize 73 = .ok (.aload_n 1, 1) := dk_43 (dk_at dksX16_putSize_3 2 rfl rfl)
theorem dX16_putSize_74 : decode cX16_putSize 74 = .ok (.getfield 11, 3) := dk_180 0 11 (dk_at dksX16_putSize_3 3 rfl rfl)
theorem dX16_putSize_77 : decode cX16_putSize 77 = .ok (.iload_n 2, 1) := dk_28 (dk_at dksX16_putSize_3 6 rfl rfl)
theorem dX16_putSize_78 : decode cX16_putSize 78 = .ok (.iaload, 1) := dk_46 (dk_at dksX16_putSize_3 7 rfl rfl)
theorem dX16_putSize_79 : decode cX16_putSize 79 = .ok (.iload 4, 2) := dk_21 4 (dk_at dksX16_putSize_3 8 rfl rfl)
theorem dX16_putSize_81 : decode cX16_putSize 81 = .ok (.idiv, 1) := dk_108 (dk_at dksX16_putSize_3 10 rfl rfl)
theorem dX16_putSize_82 : decode cX16_putSize 82 = .ok (.bipush 10, 2) := dk_16 10 (dk_at dksX16_putSize_3 11 rfl rfl)
theorem dX16_putSize_84 : decode cX16_putSize 84 = .ok (.irem, 1) := dk_112 (dk_at dksX16_putSize_3 13 rfl rfl)
theorem dX16_putSize_85 : decode cX16_putSize 85 = .ok (.iadd, 1) := dk_96 (dk_at dksX16_putSize_3 14 rfl rfl)
theorem dX16_putSize_86 : decode cX16_putSize 86 = .ok (.invokevirtual 449, 3) := dk_182 1 193 (dk_at dksX16_putSize_3 15 rfl rfl)
theorem dX16_putSize_89 : decode cX16_putSize 89 = .ok (.iload 4, 2) := dk_21 4 (dk_at dksX16_putSize_3 18 rfl rfl)
theorem dX16_putSize_91 : decode cX16_putSize 91 = .ok (.bipush 10, 2) := dk_16 10 (dk_at dksX16_putSize_3 20 rfl rfl)
theorem dX16_putSize_93 : decode cX16_putSize 93 = .ok (.idiv, 1) := dk_108 (dk_at dksX16_putSize_3 22 rfl rfl)
theorem dX16_putSize_94 : decode cX16_putSize 94 = .ok (.istore 4, 2) := dk_54 4 (dk_at dksX16_putSize_4 0 rfl rfl)
theorem dX16_putSize_96 : decode cX16_putSize 96 = .ok (.goto (-31), 3) := dk_167 255 225 (dk_at dksX16_putSize_4 2 rfl rfl)
theorem dX16_putSize_99 : decode cX16_putSize 99 = .ok (.iinc 2 (-1), 3) := dk_132 2 255 (dk_at dksX16_putSize_4 5 rfl rfl)
theorem dX16_putSize_102 : decode cX16_putSize 102 = .ok (.goto (-82), 3) := dk_167 255 174 (dk_at dksX16_putSize_4 8 rfl rfl)
theorem dX16_putSize_105 : decode cX16_putSize 105 = .ok (.return_, 1) := dk_177 (dk_at dksX16_putSize_4 11 rfl rfl)
abbrev cX16_putWord : ByteArray := prog_21_method_43_code
def yX16_putWord : MethodName := ⟨RX16, "putWord", "(Ljava/lang/String;)V"⟩
def dkwX16_putWord_1 : List UInt8 := [167, 255, 236, 177]
abbrev dktX16_putWord_1 : List UInt8 := dkwX16_putWord_1 ++ []
def dkwX16_putWord_0 : List UInt8 := [3, 61, 28, 43, 182, 1, 210, 162, 0, 18, 42, 43, 28, 182, 1, 215, 182, 1, 193, 132, 2, 1]
abbrev dktX16_putWord_0 : List UInt8 := dkwX16_putWord_0 ++ dktX16_putWord_1
theorem dksX16_putWord_0 : cX16_putWord.data.toList.drop 0 = dktX16_putWord_0 := by decide +kernel
theorem dksX16_putWord_1 : cX16_putWord.data.toList.drop 22 = dktX16_putWord_1 := dk_seg dksX16_putWord_0 22 rfl rfl
theorem dX16_putWord_0 : decode cX16_putWord 0 = .ok (.iconst 0, 1) := dk_3 (dk_at dksX16_putWord_0 0 rfl rfl)
theorem dX16_putWord_1 : decode cX16_putWord 1 = .ok (.istore_n 2, 1) := dk_61 (dk_at dksX16_putWord_0 1 rfl rfl)
theorem dX16_putWord_2 : decode cX16_putWord 2 = .ok (.iload_n 2, 1) := dk_28 (dk_at dksX16_putWord_0 2 rfl rfl)
theorem dX16_putWord_3 : decode cX16_putWord 3 = .ok (.aload_n 1, 1) := dk_43 (dk_at dksX16_putWord_0 3 rfl rfl)
theorem dX16_putWord_4 : decode cX16_putWord 4 = .ok (.invokevirtual 466, 3) := dk_182 1 210 (dk_at dksX16_putWord_0 4 rfl rfl)
theorem dX16_putWord_7 : decode cX16_putWord 7 = .ok (.if_icmp .ge 18, 3) := dk_162 0 18 (dk_at dksX16_putWord_0 7 rfl rfl)
theorem dX16_putWord_10 : decode cX16_putWord 10 = .ok (.aload_n 0, 1) := dk_42 (dk_at dksX16_putWord_0 10 rfl rfl)
theorem dX16_putWord_11 : decode cX16_putWord 11 = .ok (.aload_n 1, 1) := dk_43 (dk_at dksX16_putWord_0 11 rfl rfl)
theorem dX16_putWord_12 : decode cX16_putWord 12 = .ok (.iload_n 2, 1) := dk_28 (dk_at dksX16_putWord_0 12 rfl rfl)
theorem dX16_putWord_13 : decode cX16_putWord 13 = .ok (.invokevirtual 471, 3) := dk_182 1 215 (dk_at dksX16_putWord_0 13 rfl rfl)
theorem dX16_putWord_16 : decode cX16_putWord 16 = .ok (.invokevirtual 449, 3) := dk_182 1 193 (dk_at dksX16_putWord_0 16 rfl rfl)
theorem dX16_putWord_19 : decode cX16_putWord 19 = .ok (.iinc 2 1, 3) := dk_132 2 1 (dk_at dksX16_putWord_0 19 rfl rfl)
theorem dX16_putWord_22 : decode cX16_putWord 22 = .ok (.goto (-20), 3) := dk_167 255 236 (dk_at dksX16_putWord_1 0 rfl rfl)
theorem dX16_putWord_25 : decode cX16_putWord 25 = .ok (.return_, 1) := dk_177 (dk_at dksX16_putWord_1 3 rfl rfl)
abbrev cX16_putEnd : ByteArray := prog_21_method_44_code
def yX16_putEnd : MethodName := ⟨RX16, "putEnd", "(LIdealCourtModel$Num;I)V"⟩
def dkwX16_putEnd_4 : List UInt8 := [16, 45, 182, 1, 193, 42, 42, 180, 0, 246, 42, 180, 0, 249, 182, 1, 200, 177]
abbrev dktX16_putEnd_4 : List UInt8 := dkwX16_putEnd_4 ++ []
def dkwX16_putEnd_3 : List UInt8 := [42, 42, 180, 0, 246, 42, 180, 0, 249, 182, 0, 115, 42, 180, 0, 246, 180, 0, 15, 156, 0, 9, 42]
abbrev dktX16_putEnd_3 : List UInt8 := dkwX16_putEnd_3 ++ dktX16_putEnd_4
def dkwX16_putEnd_2 : List UInt8 := [180, 0, 246, 42, 180, 1, 70, 182, 0, 105, 167, 0, 26, 42, 180, 0, 249, 42, 180, 1, 70, 182, 0, 18]
abbrev dktX16_putEnd_2 : List UInt8 := dkwX16_putEnd_2 ++ dktX16_putEnd_3
def dkwX16_putEnd_1 : List UInt8 := [156, 0, 8, 28, 116, 167, 0, 4, 28, 182, 1, 219, 28, 155, 0, 22, 42, 42, 180, 0, 246, 42]
abbrev dktX16_putEnd_1 : List UInt8 := dkwX16_putEnd_1 ++ dktX16_putEnd_2
def dkwX16_putEnd_0 : List UInt8 := [42, 180, 0, 246, 43, 182, 0, 18, 42, 180, 0, 249, 10, 182, 0, 83, 42, 42, 180, 1, 70, 28]
abbrev dktX16_putEnd_0 : List UInt8 := dkwX16_putEnd_0 ++ dktX16_putEnd_1
theorem dksX16_putEnd_0 : cX16_putEnd.data.toList.drop 0 = dktX16_putEnd_0 := by decide +kernel
theorem dksX16_putEnd_1 : cX16_putEnd.data.toList.drop 22 = dktX16_putEnd_1 := dk_seg dksX16_putEnd_0 22 rfl rfl
theorem dksX16_putEnd_2 : cX16_putEnd.data.toList.drop 44 = dktX16_putEnd_2 := dk_seg dksX16_putEnd_1 22 rfl rfl
theorem dksX16_putEnd_3 : cX16_putEnd.data.toList.drop 68 = dktX16_putEnd_3 := dk_seg dksX16_putEnd_2 24 rfl rfl
theorem dksX16_putEnd_4 : cX16_putEnd.data.toList.drop 91 = dktX16_putEnd_4 := dk_seg dksX16_putEnd_3 23 rfl rfl
theorem dX16_putEnd_0 : decode cX16_putEnd 0 = .ok (.aload_n 0, 1) := dk_42 (dk_at dksX16_putEnd_0 0 rfl rfl)
theorem dX16_putEnd_1 : decode cX16_putEnd 1 = .ok (.getfield 246, 3) := dk_180 0 246 (dk_at dksX16_putEnd_0 1 rfl rfl)
theorem dX16_putEnd_4 : decode cX16_putEnd 4 = .ok (.aload_n 1, 1) := dk_43 (dk_at dksX16_putEnd_0 4 rfl rfl)
theorem dX16_putEnd_5 : decode cX16_putEnd 5 = .ok (.invokevirtual 18, 3) := dk_182 0 18 (dk_at dksX16_putEnd_0 5 rfl rfl)
theorem dX16_putEnd_8 : decode cX16_putEnd 8 = .ok (.aload_n 0, 1) := dk_42 (dk_at dksX16_putEnd_0 8 rfl rfl)
theorem dX16_putEnd_9 : decode cX16_putEnd 9 = .ok (.getfield 249, 3) := dk_180 0 249 (dk_at dksX16_putEnd_0 9 rfl rfl)
theorem dX16_putEnd_12 : decode cX16_putEnd 12 = .ok (.lconst 1, 1) := dk_10 (dk_at dksX16_putEnd_0 12 rfl rfl)
theorem dX16_putEnd_13 : decode cX16_putEnd 13 = .ok (.invokevirtual 83, 3) := dk_182 0 83 (dk_at dksX16_putEnd_0 13 rfl rfl)
theorem dX16_putEnd_16 : decode cX16_putEnd 16 = .ok (.aload_n 0, 1) := dk_42 (dk_at dksX16_putEnd_0 16 rfl rfl)
theorem dX16_putEnd_17 : decode cX16_putEnd 17 = .ok (.aload_n 0, 1) := dk_42 (dk_at dksX16_putEnd_0 17 rfl rfl)
theorem dX16_putEnd_18 : decode cX16_putEnd 18 = .ok (.getfield 326, 3) := dk_180 1 70 (dk_at dksX16_putEnd_0 18 rfl rfl)
theorem dX16_putEnd_21 : decode cX16_putEnd 21 = .ok (.iload_n 2, 1) := dk_28 (dk_at dksX16_putEnd_0 21 rfl rfl)
theorem dX16_putEnd_22 : decode cX16_putEnd 22 = .ok (.ifCond .ge 8, 3) := dk_156 0 8 (dk_at dksX16_putEnd_1 0 rfl rfl)
theorem dX16_putEnd_25 : decode cX16_putEnd 25 = .ok (.iload_n 2, 1) := dk_28 (dk_at dksX16_putEnd_1 3 rfl rfl)
theorem dX16_putEnd_26 : decode cX16_putEnd 26 = .ok (.ineg, 1) := dk_116 (dk_at dksX16_putEnd_1 4 rfl rfl)
theorem dX16_putEnd_27 : decode cX16_putEnd 27 = .ok (.goto 4, 3) := dk_167 0 4 (dk_at dksX16_putEnd_1 5 rfl rfl)
theorem dX16_putEnd_30 : decode cX16_putEnd 30 = .ok (.iload_n 2, 1) := dk_28 (dk_at dksX16_putEnd_1 8 rfl rfl)
theorem dX16_putEnd_31 : decode cX16_putEnd 31 = .ok (.invokevirtual 475, 3) := dk_182 1 219 (dk_at dksX16_putEnd_1 9 rfl rfl)
theorem dX16_putEnd_34 : decode cX16_putEnd 34 = .ok (.iload_n 2, 1) := dk_28 (dk_at dksX16_putEnd_1 12 rfl rfl)
theorem dX16_putEnd_35 : decode cX16_putEnd 35 = .ok (.ifCond .lt 22, 3) := dk_155 0 22 (dk_at dksX16_putEnd_1 13 rfl rfl)
theorem dX16_putEnd_38 : decode cX16_putEnd 38 = .ok (.aload_n 0, 1) := dk_42 (dk_at dksX16_putEnd_1 16 rfl rfl)
theorem dX16_putEnd_39 : decode cX16_putEnd 39 = .ok (.aload_n 0, 1) := dk_42 (dk_at dksX16_putEnd_1 17 rfl rfl)
theorem dX16_putEnd_40 : decode cX16_putEnd 40 = .ok (.getfield 246, 3) := dk_180 0 246 (dk_at dksX16_putEnd_1 18 rfl rfl)
theorem dX16_putEnd_43 : decode cX16_putEnd 43 = .ok (.aload_n 0, 1) := dk_42 (dk_at dksX16_putEnd_1 21 rfl rfl)
theorem dX16_putEnd_44 : decode cX16_putEnd 44 = .ok (.getfield 246, 3) := dk_180 0 246 (dk_at dksX16_putEnd_2 0 rfl rfl)
theorem dX16_putEnd_47 : decode cX16_putEnd 47 = .ok (.aload_n 0, 1) := dk_42 (dk_at dksX16_putEnd_2 3 rfl rfl)
theorem dX16_putEnd_48 : decode cX16_putEnd 48 = .ok (.getfield 326, 3) := dk_180 1 70 (dk_at dksX16_putEnd_2 4 rfl rfl)
theorem dX16_putEnd_51 : decode cX16_putEnd 51 = .ok (.invokevirtual 105, 3) := dk_182 0 105 (dk_at dksX16_putEnd_2 7 rfl rfl)
theorem dX16_putEnd_54 : decode cX16_putEnd 54 = .ok (.goto 26, 3) := dk_167 0 26 (dk_at dksX16_putEnd_2 10 rfl rfl)
theorem dX16_putEnd_57 : decode cX16_putEnd 57 = .ok (.aload_n 0, 1) := dk_42 (dk_at dksX16_putEnd_2 13 rfl rfl)
theorem dX16_putEnd_58 : decode cX16_putEnd 58 = .ok (.getfield 249, 3) := dk_180 0 249 (dk_at dksX16_putEnd_2 14 rfl rfl)
theorem dX16_putEnd_61 : decode cX16_putEnd 61 = .ok (.aload_n 0, 1) := dk_42 (dk_at dksX16_putEnd_2 17 rfl rfl)
theorem dX16_putEnd_62 : decode cX16_putEnd 62 = .ok (.getfield 326, 3) := dk_180 1 70 (dk_at dksX16_putEnd_2 18 rfl rfl)
theorem dX16_putEnd_65 : decode cX16_putEnd 65 = .ok (.invokevirtual 18, 3) := dk_182 0 18 (dk_at dksX16_putEnd_2 21 rfl rfl)
theorem dX16_putEnd_68 : decode cX16_putEnd 68 = .ok (.aload_n 0, 1) := dk_42 (dk_at dksX16_putEnd_3 0 rfl rfl)
theorem dX16_putEnd_69 : decode cX16_putEnd 69 = .ok (.aload_n 0, 1) := dk_42 (dk_at dksX16_putEnd_3 1 rfl rfl)
theorem dX16_putEnd_70 : decode cX16_putEnd 70 = .ok (.getfield 246, 3) := dk_180 0 246 (dk_at dksX16_putEnd_3 2 rfl rfl)
theorem dX16_putEnd_73 : decode cX16_putEnd 73 = .ok (.aload_n 0, 1) := dk_42 (dk_at dksX16_putEnd_3 5 rfl rfl)
theorem dX16_putEnd_74 : decode cX16_putEnd 74 = .ok (.getfield 249, 3) := dk_180 0 249 (dk_at dksX16_putEnd_3 6 rfl rfl)
theorem dX16_putEnd_77 : decode cX16_putEnd 77 = .ok (.invokevirtual 115, 3) := dk_182 0 115 (dk_at dksX16_putEnd_3 9 rfl rfl)
theorem dX16_putEnd_80 : decode cX16_putEnd 80 = .ok (.aload_n 0, 1) := dk_42 (dk_at dksX16_putEnd_3 12 rfl rfl)
theorem dX16_putEnd_81 : decode cX16_putEnd 81 = .ok (.getfield 246, 3) := dk_180 0 246 (dk_at dksX16_putEnd_3 13 rfl rfl)
theorem dX16_putEnd_84 : decode cX16_putEnd 84 = .ok (.getfield 15, 3) := dk_180 0 15 (dk_at dksX16_putEnd_3 16 rfl rfl)
theorem dX16_putEnd_87 : decode cX16_putEnd 87 = .ok (.ifCond .ge 9, 3) := dk_156 0 9 (dk_at dksX16_putEnd_3 19 rfl rfl)
theorem dX16_putEnd_90 : decode cX16_putEnd 90 = .ok (.aload_n 0, 1) := dk_42 (dk_at dksX16_putEnd_3 22 rfl rfl)
theorem dX16_putEnd_91 : decode cX16_putEnd 91 = .ok (.bipush 45, 2) := dk_16 45 (dk_at dksX16_putEnd_4 0 rfl rfl)
theorem dX16_putEnd_93 : decode cX16_putEnd 93 = .ok (.invokevirtual 449, 3) := dk_182 1 193 (dk_at dksX16_putEnd_4 2 rfl rfl)
theorem dX16_putEnd_96 : decode cX16_putEnd 96 = .ok (.aload_n 0, 1) := dk_42 (dk_at dksX16_putEnd_4 5 rfl rfl)
theorem dX16_putEnd_97 : decode cX16_putEnd 97 = .ok (.aload_n 0, 1) := dk_42 (dk_at dksX16_putEnd_4 6 rfl rfl)
theorem dX16_putEnd_98 : decode cX16_putEnd 98 = .ok (.getfield 246, 3) := dk_180 0 246 (dk_at dksX16_putEnd_4 7 rfl rfl)
theorem dX16_putEnd_101 : decode cX16_putEnd 101 = .ok (.aload_n 0, 1) := dk_42 (dk_at dksX16_putEnd_4 10 rfl rfl)
theorem dX16_putEnd_102 : decode cX16_putEnd 102 = .ok (.getfield 249, 3) := dk_180 0 249 (dk_at dksX16_putEnd_4 11 rfl rfl)
theorem dX16_putEnd_105 : decode cX16_putEnd 105 = .ok (.invokevirtual 456, 3) := dk_182 1 200 (dk_at dksX16_putEnd_4 14 rfl rfl)
theorem dX16_putEnd_108 : decode cX16_putEnd 108 = .ok (.return_, 1) := dk_177 (dk_at dksX16_putEnd_4 17 rfl rfl)
abbrev cX16_pow : ByteArray := prog_21_method_76_code
def yX16_pow : MethodName := ⟨RX16, "pow", "(LIdealCourtModel$Num;I)V"⟩
def dkwX16_pow_2 : List UInt8 := [28, 16, 29, 112, 121, 182, 0, 83, 42, 43, 43, 42, 180, 1, 99, 182, 0, 105, 177]
abbrev dktX16_pow_2 : List UInt8 := dkwX16_pow_2 ++ []
def dkwX16_pow_1 : List UInt8 := [162, 0, 19, 42, 43, 43, 42, 180, 1, 99, 182, 0, 105, 132, 3, 1, 167, 255, 235, 42, 180, 1, 99, 10]
abbrev dktX16_pow_1 : List UInt8 := dkwX16_pow_1 ++ dktX16_pow_2
def dkwX16_pow_0 : List UInt8 := [43, 10, 182, 0, 83, 42, 180, 1, 99, 20, 2, 79, 182, 0, 83, 3, 62, 29, 28, 16, 29, 108]
abbrev dktX16_pow_0 : List UInt8 := dkwX16_pow_0 ++ dktX16_pow_1
theorem dksX16_pow_0 : cX16_pow.data.toList.drop 0 = dktX16_pow_0 := by decide +kernel
theorem dksX16_pow_1 : cX16_pow.data.toList.drop 22 = dktX16_pow_1 := dk_seg dksX16_pow_0 22 rfl rfl
theorem dksX16_pow_2 : cX16_pow.data.toList.drop 46 = dktX16_pow_2 := dk_seg dksX16_pow_1 24 rfl rfl
theorem dX16_pow_0 : decode cX16_pow 0 = .ok (.aload_n 1, 1) := dk_43 (dk_at dksX16_pow_0 0 rfl rfl)
theorem dX16_pow_1 : decode cX16_pow 1 = .ok (.lconst 1, 1) := dk_10 (dk_at dksX16_pow_0 1 rfl rfl)
theorem dX16_pow_2 : decode cX16_pow 2 = .ok (.invokevirtual 83, 3) := dk_182 0 83 (dk_at dksX16_pow_0 2 rfl rfl)
theorem dX16_pow_5 : decode cX16_pow 5 = .ok (.aload_n 0, 1) := dk_42 (dk_at dksX16_pow_0 5 rfl rfl)
theorem dX16_pow_6 : decode cX16_pow 6 = .ok (.getfield 355, 3) := dk_180 1 99 (dk_at dksX16_pow_0 6 rfl rfl)
theorem dX16_pow_9 : decode cX16_pow 9 = .ok (.ldc2_w 591, 3) := dk_20 2 79 (dk_at dksX16_pow_0 9 rfl rfl)
theorem dX16_pow_12 : decode cX16_pow 12 = .ok (.invokevirtual 83, 3) := dk_182 0 83 (dk_at dksX16_pow_0 12 rfl rfl)
theorem dX16_pow_15 : decode cX16_pow 15 = .ok (.iconst 0, 1) := dk_3 (dk_at dksX16_pow_0 15 rfl rfl)
theorem dX16_pow_16 : decode cX16_pow 16 = .ok (.istore_n 3, 1) := dk_62 (dk_at dksX16_pow_0 16 rfl rfl)
theorem dX16_pow_17 : decode cX16_pow 17 = .ok (.iload_n 3, 1) := dk_29 (dk_at dksX16_pow_0 17 rfl rfl)
theorem dX16_pow_18 : decode cX16_pow 18 = .ok (.iload_n 2, 1) := dk_28 (dk_at dksX16_pow_0 18 rfl rfl)
theorem dX16_pow_19 : decode cX16_pow 19 = .ok (.bipush 29, 2) := dk_16 29 (dk_at dksX16_pow_0 19 rfl rfl)
theorem dX16_pow_21 : decode cX16_pow 21 = .ok (.idiv, 1) := dk_108 (dk_at dksX16_pow_0 21 rfl rfl)
theorem dX16_pow_22 : decode cX16_pow 22 = .ok (.if_icmp .ge 19, 3) := dk_162 0 19 (dk_at dksX16_pow_1 0 rfl rfl)
theorem dX16_pow_25 : decode cX16_pow 25 = .ok (.aload_n 0, 1) := dk_42 (dk_at dksX16_pow_1 3 rfl rfl)
theorem dX16_pow_26 : decode cX16_pow 26 = .ok (.aload_n 1, 1) := dk_43 (dk_at dksX16_pow_1 4 rfl rfl)
theorem dX16_pow_27 : decode cX16_pow 27 = .ok (.aload_n 1, 1) := dk_43 (dk_at dksX16_pow_1 5 rfl rfl)
theorem dX16_pow_28 : decode cX16_pow 28 = .ok (.aload_n 0, 1) := dk_42 (dk_at dksX16_pow_1 6 rfl rfl)
theorem dX16_pow_29 : decode cX16_pow 29 = .ok (.getfield 355, 3) := dk_180 1 99 (dk_at dksX16_pow_1 7 rfl rfl)
theorem dX16_pow_32 : decode cX16_pow 32 = .ok (.invokevirtual 105, 3) := dk_182 0 105 (dk_at dksX16_pow_1 10 rfl rfl)
theorem dX16_pow_35 : decode cX16_pow 35 = .ok (.iinc 3 1, 3) := dk_132 3 1 (dk_at dksX16_pow_1 13 rfl rfl)
theorem dX16_pow_38 : decode cX16_pow 38 = .ok (.goto (-21), 3) := dk_167 255 235 (dk_at dksX16_pow_1 16 rfl rfl)
theorem dX16_pow_41 : decode cX16_pow 41 = .ok (.aload_n 0, 1) := dk_42 (dk_at dksX16_pow_1 19 rfl rfl)
theorem dX16_pow_42 : decode cX16_pow 42 = .ok (.getfield 355, 3) := dk_180 1 99 (dk_at dksX16_pow_1 20 rfl rfl)
theorem dX16_pow_45 : decode cX16_pow 45 = .ok (.lconst 1, 1) := dk_10 (dk_at dksX16_pow_1 23 rfl rfl)
theorem dX16_pow_46 : decode cX16_pow 46 = .ok (.iload_n 2, 1) := dk_28 (dk_at dksX16_pow_2 0 rfl rfl)
theorem dX16_pow_47 : decode cX16_pow 47 = .ok (.bipush 29, 2) := dk_16 29 (dk_at dksX16_pow_2 1 rfl rfl)
theorem dX16_pow_49 : decode cX16_pow 49 = .ok (.irem, 1) := dk_112 (dk_at dksX16_pow_2 3 rfl rfl)
theorem dX16_pow_50 : decode cX16_pow 50 = .ok (.lshl, 1) := dk_121 (dk_at dksX16_pow_2 4 rfl rfl)
theorem dX16_pow_51 : decode cX16_pow 51 = .ok (.invokevirtual 83, 3) := dk_182 0 83 (dk_at dksX16_pow_2 5 rfl rfl)
theorem dX16_pow_54 : decode cX16_pow 54 = .ok (.aload_n 0, 1) := dk_42 (dk_at dksX16_pow_2 8 rfl rfl)
theorem dX16_pow_55 : decode cX16_pow 55 = .ok (.aload_n 1, 1) := dk_43 (dk_at dksX16_pow_2 9 rfl rfl)
theorem dX16_pow_56 : decode cX16_pow 56 = .ok (.aload_n 1, 1) := dk_43 (dk_at dksX16_pow_2 10 rfl rfl)
theorem dX16_pow_57 : decode cX16_pow 57 = .ok (.aload_n 0, 1) := dk_42 (dk_at dksX16_pow_2 11 rfl rfl)
theorem dX16_pow_58 : decode cX16_pow 58 = .ok (.getfield 355, 3) := dk_180 1 99 (dk_at dksX16_pow_2 12 rfl rfl)
theorem dX16_pow_61 : decode cX16_pow 61 = .ok (.invokevirtual 105, 3) := dk_182 0 105 (dk_at dksX16_pow_2 15 rfl rfl)
theorem dX16_pow_64 : decode cX16_pow 64 = .ok (.return_, 1) := dk_177 (dk_at dksX16_pow_2 18 rfl rfl)
abbrev cX16_letter : ByteArray := prog_21_method_46_code
def yX16_letter : MethodName := ⟨RX16, "letter", "(I)I"⟩
def dkwX16_letter_1 : List UInt8 := [182, 1, 151, 172]
abbrev dktX16_letter_1 : List UInt8 := dkwX16_letter_1 ++ []
def dkwX16_letter_0 : List UInt8 := [27, 155, 0, 20, 27, 42, 180, 1, 0, 162, 0, 12, 42, 180, 0, 252, 27, 51, 167, 0, 9, 42, 16, 249]
abbrev dktX16_letter_0 : List UInt8 := dkwX16_letter_0 ++ dktX16_letter_1
theorem dksX16_letter_0 : cX16_letter.data.toList.drop 0 = dktX16_letter_0 := by decide +kernel
theorem dksX16_letter_1 : cX16_letter.data.toList.drop 24 = dktX16_letter_1 := dk_seg dksX16_letter_0 24 rfl rfl
theorem dX16_letter_0 : decode cX16_letter 0 = .ok (.iload_n 1, 1) := dk_27 (dk_at dksX16_letter_0 0 rfl rfl)
theorem dX16_letter_1 : decode cX16_letter 1 = .ok (.ifCond .lt 20, 3) := dk_155 0 20 (dk_at dksX16_letter_0 1 rfl rfl)
theorem dX16_letter_4 : decode cX16_letter 4 = .ok (.iload_n 1, 1) := dk_27 (dk_at dksX16_letter_0 4 rfl rfl)
theorem dX16_letter_5 : decode cX16_letter 5 = .ok (.aload_n 0, 1) := dk_42 (dk_at dksX16_letter_0 5 rfl rfl)
theorem dX16_letter_6 : decode cX16_letter 6 = .ok (.getfield 256, 3) := dk_180 1 0 (dk_at dksX16_letter_0 6 rfl rfl)
theorem dX16_letter_9 : decode cX16_letter 9 = .ok (.if_icmp .ge 12, 3) := dk_162 0 12 (dk_at dksX16_letter_0 9 rfl rfl)
theorem dX16_letter_12 : decode cX16_letter 12 = .ok (.aload_n 0, 1) := dk_42 (dk_at dksX16_letter_0 12 rfl rfl)
theorem dX16_letter_13 : decode cX16_letter 13 = .ok (.getfield 252, 3) := dk_180 0 252 (dk_at dksX16_letter_0 13 rfl rfl)
theorem dX16_letter_16 : decode cX16_letter 16 = .ok (.iload_n 1, 1) := dk_27 (dk_at dksX16_letter_0 16 rfl rfl)
theorem dX16_letter_17 : decode cX16_letter 17 = .ok (.baload, 1) := dk_51 (dk_at dksX16_letter_0 17 rfl rfl)
theorem dX16_letter_18 : decode cX16_letter 18 = .ok (.goto 9, 3) := dk_167 0 9 (dk_at dksX16_letter_0 18 rfl rfl)
theorem dX16_letter_21 : decode cX16_letter 21 = .ok (.aload_n 0, 1) := dk_42 (dk_at dksX16_letter_0 21 rfl rfl)
theorem dX16_letter_22 : decode cX16_letter 22 = .ok (.bipush (-7), 2) := dk_16 249 (dk_at dksX16_letter_0 22 rfl rfl)
theorem dX16_letter_24 : decode cX16_letter 24 = .ok (.invokevirtual 407, 3) := dk_182 1 151 (dk_at dksX16_letter_1 0 rfl rfl)
theorem dX16_letter_27 : decode cX16_letter 27 = .ok (.ireturn, 1) := dk_172 (dk_at dksX16_letter_1 3 rfl rfl)
abbrev cX16_row : ByteArray := prog_21_method_47_code
def yX16_row : MethodName := ⟨RX16, "row", "(I)I"⟩
def dkwX16_row_2 : List UInt8 := [180, 0, 184, 27, 50, 182, 1, 144, 42, 89, 180, 1, 242, 4, 96, 181, 1, 242, 42, 180, 1, 242, 172]
abbrev dktX16_row_2 : List UInt8 := dkwX16_row_2 ++ []
def dkwX16_row_1 : List UInt8 := [156, 0, 7, 28, 167, 0, 5, 16, 250, 182, 1, 151, 172, 42, 180, 0, 215, 42, 180, 1, 242, 50, 42]
abbrev dktX16_row_1 : List UInt8 := dkwX16_row_1 ++ dktX16_row_2
def dkwX16_row_0 : List UInt8 := [42, 27, 4, 182, 1, 164, 61, 28, 155, 0, 12, 42, 180, 1, 242, 16, 6, 160, 0, 18, 42, 28]
abbrev dktX16_row_0 : List UInt8 := dkwX16_row_0 ++ dktX16_row_1
theorem dksX16_row_0 : cX16_row.data.toList.drop 0 = dktX16_row_0 := by decide +kernel
theorem dksX16_row_1 : cX16_row.data.toList.drop 22 = dktX16_row_1 := dk_seg dksX16_row_0 22 rfl rfl
theorem dksX16_row_2 : cX16_row.data.toList.drop 45 = dktX16_row_2 := dk_seg dksX16_row_1 23 rfl rfl
theorem dX16_row_0 : decode cX16_row 0 = .ok (.aload_n 0, 1) := dk_42 (dk_at dksX16_row_0 0 rfl rfl)
theorem dX16_row_1 : decode cX16_row 1 = .ok (.iload_n 1, 1) := dk_27 (dk_at dksX16_row_0 1 rfl rfl)
theorem dX16_row_2 : decode cX16_row 2 = .ok (.iconst 1, 1) := dk_4 (dk_at dksX16_row_0 2 rfl rfl)
theorem dX16_row_3 : decode cX16_row 3 = .ok (.invokevirtual 420, 3) := dk_182 1 164 (dk_at dksX16_row_0 3 rfl rfl)
theorem dX16_row_6 : decode cX16_row 6 = .ok (.istore_n 2, 1) := dk_61 (dk_at dksX16_row_0 6 rfl rfl)
theorem dX16_row_7 : decode cX16_row 7 = .ok (.iload_n 2, 1) := dk_28 (dk_at dksX16_row_0 7 rfl rfl)
theorem dX16_row_8 : decode cX16_row 8 = .ok (.ifCond .lt 12, 3) := dk_155 0 12 (dk_at dksX16_row_0 8 rfl rfl)
theorem dX16_row_11 : decode cX16_row 11 = .ok (.aload_n 0, 1) := dk_42 (dk_at dksX16_row_0 11 rfl rfl)
theorem dX16_row_12 : decode cX16_row 12 = .ok (.getfield 498, 3) := dk_180 1 242 (dk_at dksX16_row_0 12 rfl rfl)
theorem dX16_row_15 : decode cX16_row 15 = .ok (.bipush 6, 2) := dk_16 6 (dk_at dksX16_row_0 15 rfl rfl)
theorem dX16_row_17 : decode cX16_row 17 = .ok (.if_icmp .ne 18, 3) := dk_160 0 18 (dk_at dksX16_row_0 17 rfl rfl)
theorem dX16_row_20 : decode cX16_row 20 = .ok (.aload_n 0, 1) := dk_42 (dk_at dksX16_row_0 20 rfl rfl)
theorem dX16_row_21 : decode cX16_row 21 = .ok (.iload_n 2, 1) := dk_28 (dk_at dksX16_row_0 21 rfl rfl)
theorem dX16_row_22 : decode cX16_row 22 = .ok (.ifCond .ge 7, 3) := dk_156 0 7 (dk_at dksX16_row_1 0 rfl rfl)
theorem dX16_row_25 : decode cX16_row 25 = .ok (.iload_n 2, 1) := dk_28 (dk_at dksX16_row_1 3 rfl rfl)
theorem dX16_row_26 : decode cX16_row 26 = .ok (.goto 5, 3) := dk_167 0 5 (dk_at dksX16_row_1 4 rfl rfl)
theorem dX16_row_29 : decode cX16_row 29 = .ok (.bipush (-6), 2) := dk_16 250 (dk_at dksX16_row_1 7 rfl rfl)
theorem dX16_row_31 : decode cX16_row 31 = .ok (.invokevirtual 407, 3) := dk_182 1 151 (dk_at dksX16_row_1 9 rfl rfl)
theorem dX16_row_34 : decode cX16_row 34 = .ok (.ireturn, 1) := dk_172 (dk_at dksX16_row_1 12 rfl rfl)
theorem dX16_row_35 : decode cX16_row 35 = .ok (.aload_n 0, 1) := dk_42 (dk_at dksX16_row_1 13 rfl rfl)
theorem dX16_row_36 : decode cX16_row 36 = .ok (.getfield 215, 3) := dk_180 0 215 (dk_at dksX16_row_1 14 rfl rfl)
theorem dX16_row_39 : decode cX16_row 39 = .ok (.aload_n 0, 1) := dk_42 (dk_at dksX16_row_1 17 rfl rfl)
theorem dX16_row_40 : decode cX16_row 40 = .ok (.getfield 498, 3) := dk_180 1 242 (dk_at dksX16_row_1 18 rfl rfl)
theorem dX16_row_43 : decode cX16_row 43 = .ok (.aaload, 1) := dk_50 (dk_at dksX16_row_1 21 rfl rfl)
theorem dX16_row_44 : decode cX16_row 44 = .ok (.aload_n 0, 1) := dk_42 (dk_at dksX16_row_1 22 rfl rfl)
theorem dX16_row_45 : decode cX16_row 45 = .ok (.getfield 184, 3) := dk_180 0 184 (dk_at dksX16_row_2 0 rfl rfl)
theorem dX16_row_48 : decode cX16_row 48 = .ok (.iload_n 1, 1) := dk_27 (dk_at dksX16_row_2 3 rfl rfl)
theorem dX16_row_49 : decode cX16_row 49 = .ok (.aaload, 1) := dk_50 (dk_at dksX16_row_2 4 rfl rfl)
theorem dX16_row_50 : decode cX16_row 50 = .ok (.invokevirtual 400, 3) := dk_182 1 144 (dk_at dksX16_row_2 5 rfl rfl)
theorem dX16_row_53 : decode cX16_row 53 = .ok (.aload_n 0, 1) := dk_42 (dk_at dksX16_row_2 8 rfl rfl)
theorem dX16_row_54 : decode cX16_row 54 = .ok (.dup, 1) := dk_89 (dk_at dksX16_row_2 9 rfl rfl)
theorem dX16_row_55 : decode cX16_row 55 = .ok (.getfield 498, 3) := dk_180 1 242 (dk_at dksX16_row_2 10 rfl rfl)
theorem dX16_row_58 : decode cX16_row 58 = .ok (.iconst 1, 1) := dk_4 (dk_at dksX16_row_2 13 rfl rfl)
theorem dX16_row_59 : decode cX16_row 59 = .ok (.iadd, 1) := dk_96 (dk_at dksX16_row_2 14 rfl rfl)
theorem dX16_row_60 : decode cX16_row 60 = .ok (.putfield 498, 3) := dk_181 1 242 (dk_at dksX16_row_2 15 rfl rfl)
theorem dX16_row_63 : decode cX16_row 63 = .ok (.aload_n 0, 1) := dk_42 (dk_at dksX16_row_2 18 rfl rfl)
theorem dX16_row_64 : decode cX16_row 64 = .ok (.getfield 498, 3) := dk_180 1 242 (dk_at dksX16_row_2 19 rfl rfl)
theorem dX16_row_67 : decode cX16_row 67 = .ok (.ireturn, 1) := dk_172 (dk_at dksX16_row_2 22 rfl rfl)
abbrev cX16_unrow : ByteArray := prog_21_method_48_code
def yX16_unrow : MethodName := ⟨RX16, "unrow", "()I"⟩
def dkwX16_unrow_0 : List UInt8 := [42, 180, 1, 242, 60, 42, 3, 181, 1, 242, 27, 172]
abbrev dktX16_unrow_0 : List UInt8 := dkwX16_unrow_0 ++ []
theorem dksX16_unrow_0 : cX16_unrow.data.toList.drop 0 = dktX16_unrow_0 := by decide +kernel
theorem dX16_unrow_0 : decode cX16_unrow 0 = .ok (.aload_n 0, 1) := dk_42 (dk_at dksX16_unrow_0 0 rfl rfl)
theorem dX16_unrow_1 : decode cX16_unrow 1 = .ok (.getfield 498, 3) := dk_180 1 242 (dk_at dksX16_unrow_0 1 rfl rfl)
theorem dX16_unrow_4 : decode cX16_unrow 4 = .ok (.istore_n 1, 1) := dk_60 (dk_at dksX16_unrow_0 4 rfl rfl)
theorem dX16_unrow_5 : decode cX16_unrow 5 = .ok (.aload_n 0, 1) := dk_42 (dk_at dksX16_unrow_0 5 rfl rfl)
theorem dX16_unrow_6 : decode cX16_unrow 6 = .ok (.iconst 0, 1) := dk_3 (dk_at dksX16_unrow_0 6 rfl rfl)
theorem dX16_unrow_7 : decode cX16_unrow 7 = .ok (.putfield 498, 3) := dk_181 1 242 (dk_at dksX16_unrow_0 7 rfl rfl)
theorem dX16_unrow_10 : decode cX16_unrow 10 = .ok (.iload_n 1, 1) := dk_27 (dk_at dksX16_unrow_0 10 rfl rfl)
theorem dX16_unrow_11 : decode cX16_unrow 11 = .ok (.ireturn, 1) := dk_172 (dk_at dksX16_unrow_0 11 rfl rfl)
abbrev cX16_divide_2 : ByteArray := prog_21_method_52_code
def yX16_divide_2 : MethodName := ⟨RX16, "divide", "(II)I"⟩
def dkwX16_divide_2_6 : List UInt8 := [132, 4, 1, 167, 255, 227, 42, 180, 0, 222, 180, 0, 162, 172]
abbrev dktX16_divide_2_6 : List UInt8 := dkwX16_divide_2_6 ++ []
def dkwX16_divide_2_5 : List UInt8 := [180, 1, 242, 162, 0, 26, 42, 180, 0, 218, 21, 4, 50, 42, 180, 1, 20, 21, 4, 50, 182, 1, 144]
abbrev dktX16_divide_2_5 : List UInt8 := dkwX16_divide_2_5 ++ dktX16_divide_2_6
def dkwX16_divide_2_4 : List UInt8 := [182, 1, 154, 42, 4, 181, 2, 3, 42, 42, 180, 1, 242, 181, 2, 7, 3, 54, 4, 21, 4, 42]
abbrev dktX16_divide_2_4 : List UInt8 := dkwX16_divide_2_4 ++ dktX16_divide_2_5
def dkwX16_divide_2_3 : List UInt8 := [46, 4, 182, 1, 255, 154, 0, 10, 42, 16, 250, 182, 1, 151, 172, 42, 180, 0, 234, 42, 180, 0, 222]
abbrev dktX16_divide_2_3 : List UInt8 := dkwX16_divide_2_3 ++ dktX16_divide_2_4
def dkwX16_divide_2_2 : List UInt8 := [182, 1, 170, 87, 42, 42, 180, 0, 215, 42, 180, 1, 242, 42, 180, 0, 188, 28, 46, 42, 180, 0, 191, 28]
abbrev dktX16_divide_2_2 : List UInt8 := dkwX16_divide_2_2 ++ dktX16_divide_2_3
def dkwX16_divide_2_1 : List UInt8 := [182, 1, 151, 172, 42, 180, 0, 230, 182, 1, 167, 42, 42, 180, 0, 230, 42, 180, 0, 184, 27, 50, 4]
abbrev dktX16_divide_2_1 : List UInt8 := dkwX16_divide_2_1 ++ dktX16_divide_2_2
def dkwX16_divide_2_0 : List UInt8 := [42, 27, 4, 182, 1, 164, 42, 28, 5, 182, 1, 164, 184, 1, 188, 62, 29, 156, 0, 9, 42, 29]
abbrev dktX16_divide_2_0 : List UInt8 := dkwX16_divide_2_0 ++ dktX16_divide_2_1
theorem dksX16_divide_2_0 : cX16_divide_2.data.toList.drop 0 = dktX16_divide_2_0 := by decide +kernel
theorem dksX16_divide_2_1 : cX16_divide_2.data.toList.drop 22 = dktX16_divide_2_1 := dk_seg dksX16_divide_2_0 22 rfl rfl
theorem dksX16_divide_2_2 : cX16_divide_2.data.toList.drop 45 = dktX16_divide_2_2 := dk_seg dksX16_divide_2_1 23 rfl rfl
theorem dksX16_divide_2_3 : cX16_divide_2.data.toList.drop 69 = dktX16_divide_2_3 := dk_seg dksX16_divide_2_2 24 rfl rfl
theorem dksX16_divide_2_4 : cX16_divide_2.data.toList.drop 92 = dktX16_divide_2_4 := dk_seg dksX16_divide_2_3 23 rfl rfl
theorem dksX16_divide_2_5 : cX16_divide_2.data.toList.drop 114 = dktX16_divide_2_5 := dk_seg dksX16_divide_2_4 22 rfl rfl
theorem dksX16_divide_2_6 : cX16_divide_2.data.toList.drop 137 = dktX16_divide_2_6 := dk_seg dksX16_divide_2_5 23 rfl rfl
theorem dX16_divide_2_0 : decode cX16_divide_2 0 = .ok (.aload_n 0, 1) := dk_42 (dk_at dksX16_divide_2_0 0 rfl rfl)
theorem dX16_divide_2_1 : decode cX16_divide_2 1 = .ok (.iload_n 1, 1) := dk_27 (dk_at dksX16_divide_2_0 1 rfl rfl)
theorem dX16_divide_2_2 : decode cX16_divide_2 2 = .ok (.iconst 1, 1) := dk_4 (dk_at dksX16_divide_2_0 2 rfl rfl)
theorem dX16_divide_2_3 : decode cX16_divide_2 3 = .ok (.invokevirtual 420, 3) := dk_182 1 164 (dk_at dksX16_divide_2_0 3 rfl rfl)
theorem dX16_divide_2_6 : decode cX16_divide_2 6 = .ok (.aload_n 0, 1) := dk_42 (dk_at dksX16_divide_2_0 6 rfl rfl)
theorem dX16_divide_2_7 : decode cX16_divide_2 7 = .ok (.iload_n 2, 1) := dk_28 (dk_at dksX16_divide_2_0 7 rfl rfl)
theorem dX16_divide_2_8 : decode cX16_divide_2 8 = .ok (.iconst 2, 1) := dk_5 (dk_at dksX16_divide_2_0 8 rfl rfl)
theorem dX16_divide_2_9 : decode cX16_divide_2 9 = .ok (.invokevirtual 420, 3) := dk_182 1 164 (dk_at dksX16_divide_2_0 9 rfl rfl)
theorem dX16_divide_2_12 : decode cX16_divide_2 12 = .ok (.invokestatic 444, 3) := dk_184 1 188 (dk_at dksX16_divide_2_0 12 rfl rfl)
theorem dX16_divide_2_15 : decode cX16_divide_2 15 = .ok (.istore_n 3, 1) := dk_62 (dk_at dksX16_divide_2_0 15 rfl rfl)
theorem dX16_divide_2_16 : decode cX16_divide_2 16 = .ok (.iload_n 3, 1) := dk_29 (dk_at dksX16_divide_2_0 16 rfl rfl)
theorem dX16_divide_2_17 : decode cX16_divide_2 17 = .ok (.ifCond .ge 9, 3) := dk_156 0 9 (dk_at dksX16_divide_2_0 17 rfl rfl)
theorem dX16_divide_2_20 : decode cX16_divide_2 20 = .ok (.aload_n 0, 1) := dk_42 (dk_at dksX16_divide_2_0 20 rfl rfl)
theorem dX16_divide_2_21 : decode cX16_divide_2 21 = .ok (.iload_n 3, 1) := dk_29 (dk_at dksX16_divide_2_0 21 rfl rfl)
theorem dX16_divide_2_22 : decode cX16_divide_2 22 = .ok (.invokevirtual 407, 3) := dk_182 1 151 (dk_at dksX16_divide_2_1 0 rfl rfl)
theorem dX16_divide_2_25 : decode cX16_divide_2 25 = .ok (.ireturn, 1) := dk_172 (dk_at dksX16_divide_2_1 3 rfl rfl)
theorem dX16_divide_2_26 : decode cX16_divide_2 26 = .ok (.aload_n 0, 1) := dk_42 (dk_at dksX16_divide_2_1 4 rfl rfl)
theorem dX16_divide_2_27 : decode cX16_divide_2 27 = .ok (.getfield 230, 3) := dk_180 0 230 (dk_at dksX16_divide_2_1 5 rfl rfl)
theorem dX16_divide_2_30 : decode cX16_divide_2 30 = .ok (.invokevirtual 423, 3) := dk_182 1 167 (dk_at dksX16_divide_2_1 8 rfl rfl)
theorem dX16_divide_2_33 : decode cX16_divide_2 33 = .ok (.aload_n 0, 1) := dk_42 (dk_at dksX16_divide_2_1 11 rfl rfl)
theorem dX16_divide_2_34 : decode cX16_divide_2 34 = .ok (.aload_n 0, 1) := dk_42 (dk_at dksX16_divide_2_1 12 rfl rfl)
theorem dX16_divide_2_35 : decode cX16_divide_2 35 = .ok (.getfield 230, 3) := dk_180 0 230 (dk_at dksX16_divide_2_1 13 rfl rfl)
theorem dX16_divide_2_38 : decode cX16_divide_2 38 = .ok (.aload_n 0, 1) := dk_42 (dk_at dksX16_divide_2_1 16 rfl rfl)
theorem dX16_divide_2_39 : decode cX16_divide_2 39 = .ok (.getfield 184, 3) := dk_180 0 184 (dk_at dksX16_divide_2_1 17 rfl rfl)
theorem dX16_divide_2_42 : decode cX16_divide_2 42 = .ok (.iload_n 1, 1) := dk_27 (dk_at dksX16_divide_2_1 20 rfl rfl)
theorem dX16_divide_2_43 : decode cX16_divide_2 43 = .ok (.aaload, 1) := dk_50 (dk_at dksX16_divide_2_1 21 rfl rfl)
theorem dX16_divide_2_44 : decode cX16_divide_2 44 = .ok (.iconst 1, 1) := dk_4 (dk_at dksX16_divide_2_1 22 rfl rfl)
theorem dX16_divide_2_45 : decode cX16_divide_2 45 = .ok (.invokevirtual 426, 3) := dk_182 1 170 (dk_at dksX16_divide_2_2 0 rfl rfl)
theorem dX16_divide_2_48 : decode cX16_divide_2 48 = .ok (.pop, 1) := dk_87 (dk_at dksX16_divide_2_2 3 rfl rfl)
theorem dX16_divide_2_49 : decode cX16_divide_2 49 = .ok (.aload_n 0, 1) := dk_42 (dk_at dksX16_divide_2_2 4 rfl rfl)
theorem dX16_divide_2_50 : decode cX16_divide_2 50 = .ok (.aload_n 0, 1) := dk_42 (dk_at dksX16_divide_2_2 5 rfl rfl)
theorem dX16_divide_2_51 : decode cX16_divide_2 51 = .ok (.getfield 215, 3) := dk_180 0 215 (dk_at dksX16_divide_2_2 6 rfl rfl)
theorem dX16_divide_2_54 : decode cX16_divide_2 54 = .ok (.aload_n 0, 1) := dk_42 (dk_at dksX16_divide_2_2 9 rfl rfl)
theorem dX16_divide_2_55 : decode cX16_divide_2 55 = .ok (.getfield 498, 3) := dk_180 1 242 (dk_at dksX16_divide_2_2 10 rfl rfl)
theorem dX16_divide_2_58 : decode cX16_divide_2 58 = .ok (.aload_n 0, 1) := dk_42 (dk_at dksX16_divide_2_2 13 rfl rfl)
theorem dX16_divide_2_59 : decode cX16_divide_2 59 = .ok (.getfield 188, 3) := dk_180 0 188 (dk_at dksX16_divide_2_2 14 rfl rfl)
theorem dX16_divide_2_62 : decode cX16_divide_2 62 = .ok (.iload_n 2, 1) := dk_28 (dk_at dksX16_divide_2_2 17 rfl rfl)
theorem dX16_divide_2_63 : decode cX16_divide_2 63 = .ok (.iaload, 1) := dk_46 (dk_at dksX16_divide_2_2 18 rfl rfl)
theorem dX16_divide_2_64 : decode cX16_divide_2 64 = .ok (.aload_n 0, 1) := dk_42 (dk_at dksX16_divide_2_2 19 rfl rfl)
theorem dX16_divide_2_65 : decode cX16_divide_2 65 = .ok (.getfield 191, 3) := dk_180 0 191 (dk_at dksX16_divide_2_2 20 rfl rfl)
theorem dX16_divide_2_68 : decode cX16_divide_2 68 = .ok (.iload_n 2, 1) := dk_28 (dk_at dksX16_divide_2_2 23 rfl rfl)
theorem dX16_divide_2_69 : decode cX16_divide_2 69 = .ok (.iaload, 1) := dk_46 (dk_at dksX16_divide_2_3 0 rfl rfl)
theorem dX16_divide_2_70 : decode cX16_divide_2 70 = .ok (.iconst 1, 1) := dk_4 (dk_at dksX16_divide_2_3 1 rfl rfl)
theorem dX16_divide_2_71 : decode cX16_divide_2 71 = .ok (.invokevirtual 511, 3) := dk_182 1 255 (dk_at dksX16_divide_2_3 2 rfl rfl)
theorem dX16_divide_2_74 : decode cX16_divide_2 74 = .ok (.ifCond .ne 10, 3) := dk_154 0 10 (dk_at dksX16_divide_2_3 5 rfl rfl)
theorem dX16_divide_2_77 : decode cX16_divide_2 77 = .ok (.aload_n 0, 1) := dk_42 (dk_at dksX16_divide_2_3 8 rfl rfl)
theorem dX16_divide_2_78 : decode cX16_divide_2 78 = .ok (.bipush (-6), 2) := dk_16 250 (dk_at dksX16_divide_2_3 9 rfl rfl)
theorem dX16_divide_2_80 : decode cX16_divide_2 80 = .ok (.invokevirtual 407, 3) := dk_182 1 151 (dk_at dksX16_divide_2_3 11 rfl rfl)
theorem dX16_divide_2_83 : decode cX16_divide_2 83 = .ok (.ireturn, 1) := dk_172 (dk_at dksX16_divide_2_3 14 rfl rfl)
theorem dX16_divide_2_84 : decode cX16_divide_2 84 = .ok (.aload_n 0, 1) := dk_42 (dk_at dksX16_divide_2_3 15 rfl rfl)
theorem dX16_divide_2_85 : decode cX16_divide_2 85 = .ok (.getfield 234, 3) := dk_180 0 234 (dk_at dksX16_divide_2_3 16 rfl rfl)
theorem dX16_divide_2_88 : decode cX16_divide_2 88 = .ok (.aload_n 0, 1) := dk_42 (dk_at dksX16_divide_2_3 19 rfl rfl)
theorem dX16_divide_2_89 : decode cX16_divide_2 89 = .ok (.getfield 222, 3) := dk_180 0 222 (dk_at dksX16_divide_2_3 20 rfl rfl)
theorem dX16_divide_2_92 : decode cX16_divide_2 92 = .ok (.invokevirtual 410, 3) := dk_182 1 154 (dk_at dksX16_divide_2_4 0 rfl rfl)
theorem dX16_divide_2_95 : decode cX16_divide_2 95 = .ok (.aload_n 0, 1) := dk_42 (dk_at dksX16_divide_2_4 3 rfl rfl)
theorem dX16_divide_2_96 : decode cX16_divide_2 96 = .ok (.iconst 1, 1) := dk_4 (dk_at dksX16_divide_2_4 4 rfl rfl)
theorem dX16_divide_2_97 : decode cX16_divide_2 97 = .ok (.putfield 515, 3) := dk_181 2 3 (dk_at dksX16_divide_2_4 5 rfl rfl)
theorem dX16_divide_2_100 : decode cX16_divide_2 100 = .ok (.aload_n 0, 1) := dk_42 (dk_at dksX16_divide_2_4 8 rfl rfl)
theorem dX16_divide_2_101 : decode cX16_divide_2 101 = .ok (.aload_n 0, 1) := dk_42 (dk_at dksX16_divide_2_4 9 rfl rfl)
theorem dX16_divide_2_102 : decode cX16_divide_2 102 = .ok (.getfield 498, 3) := dk_180 1 242 (dk_at dksX16_divide_2_4 10 rfl rfl)
theorem dX16_divide_2_105 : decode cX16_divide_2 105 = .ok (.putfield 519, 3) := dk_181 2 7 (dk_at dksX16_divide_2_4 13 rfl rfl)
theorem dX16_divide_2_108 : decode cX16_divide_2 108 = .ok (.iconst 0, 1) := dk_3 (dk_at dksX16_divide_2_4 16 rfl rfl)
theorem dX16_divide_2_109 : decode cX16_divide_2 109 = .ok (.istore 4, 2) := dk_54 4 (dk_at dksX16_divide_2_4 17 rfl rfl)
theorem dX16_divide_2_111 : decode cX16_divide_2 111 = .ok (.iload 4, 2) := dk_21 4 (dk_at dksX16_divide_2_4 19 rfl rfl)
theorem dX16_divide_2_113 : decode cX16_divide_2 113 = .ok (.aload_n 0, 1) := dk_42 (dk_at dksX16_divide_2_4 21 rfl rfl)
theorem dX16_divide_2_114 : decode cX16_divide_2 114 = .ok (.getfield 498, 3) := dk_180 1 242 (dk_at dksX16_divide_2_5 0 rfl rfl)
theorem dX16_divide_2_117 : decode cX16_divide_2 117 = .ok (.if_icmp .ge 26, 3) := dk_162 0 26 (dk_at dksX16_divide_2_5 3 rfl rfl)
theorem dX16_divide_2_120 : decode cX16_divide_2 120 = .ok (.aload_n 0, 1) := dk_42 (dk_at dksX16_divide_2_5 6 rfl rfl)
theorem dX16_divide_2_121 : decode cX16_divide_2 121 = .ok (.getfield 218, 3) := dk_180 0 218 (dk_at dksX16_divide_2_5 7 rfl rfl)
theorem dX16_divide_2_124 : decode cX16_divide_2 124 = .ok (.iload 4, 2) := dk_21 4 (dk_at dksX16_divide_2_5 10 rfl rfl)
theorem dX16_divide_2_126 : decode cX16_divide_2 126 = .ok (.aaload, 1) := dk_50 (dk_at dksX16_divide_2_5 12 rfl rfl)
theorem dX16_divide_2_127 : decode cX16_divide_2 127 = .ok (.aload_n 0, 1) := dk_42 (dk_at dksX16_divide_2_5 13 rfl rfl)
theorem dX16_divide_2_128 : decode cX16_divide_2 128 = .ok (.getfield 276, 3) := dk_180 1 20 (dk_at dksX16_divide_2_5 14 rfl rfl)
theorem dX16_divide_2_131 : decode cX16_divide_2 131 = .ok (.iload 4, 2) := dk_21 4 (dk_at dksX16_divide_2_5 17 rfl rfl)
theorem dX16_divide_2_133 : decode cX16_divide_2 133 = .ok (.aaload, 1) := dk_50 (dk_at dksX16_divide_2_5 19 rfl rfl)
theorem dX16_divide_2_134 : decode cX16_divide_2 134 = .ok (.invokevirtual 400, 3) := dk_182 1 144 (dk_at dksX16_divide_2_5 20 rfl rfl)
theorem dX16_divide_2_137 : decode cX16_divide_2 137 = .ok (.iinc 4 1, 3) := dk_132 4 1 (dk_at dksX16_divide_2_6 0 rfl rfl)
theorem dX16_divide_2_140 : decode cX16_divide_2 140 = .ok (.goto (-29), 3) := dk_167 255 227 (dk_at dksX16_divide_2_6 3 rfl rfl)
theorem dX16_divide_2_143 : decode cX16_divide_2 143 = .ok (.aload_n 0, 1) := dk_42 (dk_at dksX16_divide_2_6 6 rfl rfl)
theorem dX16_divide_2_144 : decode cX16_divide_2 144 = .ok (.getfield 222, 3) := dk_180 0 222 (dk_at dksX16_divide_2_6 7 rfl rfl)
theorem dX16_divide_2_147 : decode cX16_divide_2 147 = .ok (.getfield 162, 3) := dk_180 0 162 (dk_at dksX16_divide_2_6 10 rfl rfl)
theorem dX16_divide_2_150 : decode cX16_divide_2 150 = .ok (.ireturn, 1) := dk_172 (dk_at dksX16_divide_2_6 13 rfl rfl)
abbrev cX16_isDivided : ByteArray := prog_21_method_51_code
def yX16_isDivided : MethodName := ⟨RX16, "isDivided", "([LIdealCourtModel$Poly;IIIZ)Z"⟩
def dkwX16_isDivided_23 : List UInt8 := [182, 1, 245, 54, 6, 167, 254, 34, 4, 172]
abbrev dktX16_isDivided_23 : List UInt8 := dkwX16_isDivided_23 ++ []
def dkwX16_isDivided_22 : List UInt8 := [167, 255, 146, 42, 180, 0, 230, 182, 1, 147, 16, 60, 164, 0, 5, 3, 172, 42, 180, 0, 230, 29, 21, 4]
abbrev dktX16_isDivided_22 : List UInt8 := dkwX16_isDivided_22 ++ dktX16_isDivided_23
def dkwX16_isDivided_21 : List UInt8 := [21, 12, 46, 96, 42, 180, 0, 246, 42, 180, 0, 249, 2, 182, 0, 172, 154, 0, 5, 3, 172, 132, 12, 1]
abbrev dktX16_isDivided_21 : List UInt8 := dkwX16_isDivided_21 ++ dktX16_isDivided_22
def dkwX16_isDivided_20 : List UInt8 := [25, 9, 180, 0, 171, 21, 12, 50, 182, 0, 105, 42, 42, 180, 0, 230, 21, 11, 25, 9, 180, 0, 167]
abbrev dktX16_isDivided_20 : List UInt8 := dkwX16_isDivided_20 ++ dktX16_isDivided_21
def dkwX16_isDivided_19 : List UInt8 := [180, 1, 10, 25, 9, 180, 0, 170, 21, 12, 50, 182, 0, 105, 42, 42, 180, 0, 249, 42, 180, 1, 13]
abbrev dktX16_isDivided_19 : List UInt8 := dkwX16_isDivided_19 ++ dktX16_isDivided_20
def dkwX16_isDivided_18 : List UInt8 := [180, 0, 167, 21, 12, 46, 184, 0, 125, 96, 16, 12, 164, 0, 5, 3, 172, 42, 42, 180, 0, 246, 42]
abbrev dktX16_isDivided_18 : List UInt8 := dkwX16_isDivided_18 ++ dktX16_isDivided_19
def dkwX16_isDivided_17 : List UInt8 := [184, 1, 251, 3, 54, 12, 21, 12, 25, 9, 180, 0, 162, 162, 0, 106, 21, 11, 184, 0, 125, 25, 9]
abbrev dktX16_isDivided_17 : List UInt8 := dkwX16_isDivided_17 ++ dktX16_isDivided_18
def dkwX16_isDivided_16 : List UInt8 := [21, 5, 153, 0, 23, 42, 180, 1, 20, 21, 8, 50, 21, 11, 42, 180, 1, 10, 42, 180, 1, 13]
abbrev dktX16_isDivided_16 : List UInt8 := dkwX16_isDivided_16 ++ dktX16_isDivided_17
def dkwX16_isDivided_15 : List UInt8 := [21, 8, 46, 16, 60, 164, 0, 5, 3, 172, 21, 7, 25, 9, 180, 0, 167, 21, 10, 46, 100, 54, 11]
abbrev dktX16_isDivided_15 : List UInt8 := dkwX16_isDivided_15 ++ dktX16_isDivided_16
def dkwX16_isDivided_14 : List UInt8 := [180, 1, 10, 182, 0, 159, 154, 0, 25, 42, 180, 1, 13, 182, 0, 159, 154, 0, 15, 42, 180, 1, 7]
abbrev dktX16_isDivided_14 : List UInt8 := dkwX16_isDivided_14 ++ dktX16_isDivided_15
def dkwX16_isDivided_13 : List UInt8 := [180, 1, 10, 42, 180, 1, 13, 182, 0, 115, 42, 180, 1, 7, 21, 8, 92, 46, 4, 96, 79, 42]
abbrev dktX16_isDivided_13 : List UInt8 := dkwX16_isDivided_13 ++ dktX16_isDivided_14
def dkwX16_isDivided_12 : List UInt8 := [180, 0, 230, 180, 0, 152, 21, 6, 50, 25, 9, 180, 0, 170, 21, 10, 50, 182, 0, 105, 42, 42]
abbrev dktX16_isDivided_12 : List UInt8 := dkwX16_isDivided_12 ++ dktX16_isDivided_13
def dkwX16_isDivided_11 : List UInt8 := [180, 0, 145, 21, 6, 50, 25, 9, 180, 0, 171, 21, 10, 50, 182, 0, 105, 42, 42, 180, 1, 13, 42]
abbrev dktX16_isDivided_11 : List UInt8 := dkwX16_isDivided_11 ++ dktX16_isDivided_12
def dkwX16_isDivided_10 : List UInt8 := [50, 58, 9, 25, 9, 29, 21, 4, 182, 1, 190, 54, 10, 42, 42, 180, 1, 10, 42, 180, 0, 230]
abbrev dktX16_isDivided_10 : List UInt8 := dkwX16_isDivided_10 ++ dktX16_isDivided_11
def dkwX16_isDivided_9 : List UInt8 := [21, 6, 50, 10, 182, 0, 83, 42, 180, 0, 234, 182, 1, 147, 16, 60, 164, 1, 42, 3, 172, 43, 21, 8]
abbrev dktX16_isDivided_9 : List UInt8 := dkwX16_isDivided_9 ++ dktX16_isDivided_10
def dkwX16_isDivided_8 : List UInt8 := [182, 0, 18, 42, 180, 0, 230, 180, 0, 145, 21, 6, 50, 9, 182, 0, 83, 42, 180, 0, 230, 180, 0, 152]
abbrev dktX16_isDivided_8 : List UInt8 := dkwX16_isDivided_8 ++ dktX16_isDivided_9
def dkwX16_isDivided_7 : List UInt8 := [182, 0, 18, 42, 180, 0, 234, 180, 0, 152, 21, 9, 50, 42, 180, 0, 230, 180, 0, 152, 21, 6, 50]
abbrev dktX16_isDivided_7 : List UInt8 := dkwX16_isDivided_7 ++ dktX16_isDivided_8
def dkwX16_isDivided_6 : List UInt8 := [54, 9, 42, 180, 0, 234, 180, 0, 145, 21, 9, 50, 42, 180, 0, 230, 180, 0, 145, 21, 6, 50]
abbrev dktX16_isDivided_6 : List UInt8 := dkwX16_isDivided_6 ++ dktX16_isDivided_7
def dkwX16_isDivided_5 : List UInt8 := [154, 0, 9, 132, 8, 1, 167, 255, 211, 21, 8, 28, 160, 0, 102, 42, 180, 0, 234, 21, 7, 182, 0, 137]
abbrev dktX16_isDivided_5 : List UInt8 := dkwX16_isDivided_5 ++ dktX16_isDivided_6
def dkwX16_isDivided_4 : List UInt8 := [43, 21, 8, 50, 180, 0, 167, 43, 21, 8, 50, 29, 21, 4, 182, 1, 190, 46, 21, 7, 184, 1, 247]
abbrev dktX16_isDivided_4 : List UInt8 := dkwX16_isDivided_4 ++ dktX16_isDivided_5
def dkwX16_isDivided_3 : List UInt8 := [21, 6, 46, 54, 7, 3, 54, 8, 21, 8, 28, 162, 0, 45, 43, 21, 8, 50, 180, 0, 162, 153, 0, 29]
abbrev dktX16_isDivided_3 : List UInt8 := dkwX16_isDivided_3 ++ dktX16_isDivided_4
def dkwX16_isDivided_2 : List UInt8 := [180, 0, 230, 29, 21, 4, 182, 1, 245, 54, 6, 21, 6, 155, 1, 223, 42, 180, 0, 230, 180, 1, 246]
abbrev dktX16_isDivided_2 : List UInt8 := dkwX16_isDivided_2 ++ dktX16_isDivided_3
def dkwX16_isDivided_1 : List UInt8 := [21, 5, 153, 0, 14, 42, 180, 1, 20, 21, 6, 50, 3, 181, 0, 162, 132, 6, 1, 167, 255, 223, 42]
abbrev dktX16_isDivided_1 : List UInt8 := dkwX16_isDivided_1 ++ dktX16_isDivided_2
def dkwX16_isDivided_0 : List UInt8 := [42, 180, 0, 234, 182, 1, 167, 3, 54, 6, 21, 6, 28, 162, 0, 33, 42, 180, 1, 7, 21, 6, 3, 79]
abbrev dktX16_isDivided_0 : List UInt8 := dkwX16_isDivided_0 ++ dktX16_isDivided_1
theorem dksX16_isDivided_0 : cX16_isDivided.data.toList.drop 0 = dktX16_isDivided_0 := by decide +kernel
theorem dksX16_isDivided_1 : cX16_isDivided.data.toList.drop 24 = dktX16_isDivided_1 := dk_seg dksX16_isDivided_0 24 rfl rfl
theorem dksX16_isDivided_2 : cX16_isDivided.data.toList.drop 47 = dktX16_isDivided_2 := dk_seg dksX16_isDivided_1 23 rfl rfl
theorem dksX16_isDivided_3 : cX16_isDivided.data.toList.drop 70 = dktX16_isDivided_3 := dk_seg dksX16_isDivided_2 23 rfl rfl
theorem dksX16_isDivided_4 : cX16_isDivided.data.toList.drop 94 = dktX16_isDivided_4 := dk_seg dksX16_isDivided_3 24 rfl rfl
theorem dksX16_isDivided_5 : cX16_isDivided.data.toList.drop 117 = dktX16_isDivided_5 := dk_seg dksX16_isDivided_4 23 rfl rfl
theorem dksX16_isDivided_6 : cX16_isDivided.data.toList.drop 141 = dktX16_isDivided_6 := dk_seg dksX16_isDivided_5 24 rfl rfl
theorem dksX16_isDivided_7 : cX16_isDivided.data.toList.drop 163 = dktX16_isDivided_7 := dk_seg dksX16_isDivided_6 22 rfl rfl
theorem dksX16_isDivided_8 : cX16_isDivided.data.toList.drop 186 = dktX16_isDivided_8 := dk_seg dksX16_isDivided_7 23 rfl rfl
theorem dksX16_isDivided_9 : cX16_isDivided.data.toList.drop 210 = dktX16_isDivided_9 := dk_seg dksX16_isDivided_8 24 rfl rfl
theorem dksX16_isDivided_10 : cX16_isDivided.data.toList.drop 234 = dktX16_isDivided_10 := dk_seg dksX16_isDivided_9 24 rfl rfl
theorem dksX16_isDivided_11 : cX16_isDivided.data.toList.drop 256 = dktX16_isDivided_11 := dk_seg dksX16_isDivided_10 22 rfl rfl
theorem dksX16_isDivided_12 : cX16_isDivided.data.toList.drop 279 = dktX16_isDivided_12 := dk_seg dksX16_isDivided_11 23 rfl rfl
theorem dksX16_isDivided_13 : cX16_isDivided.data.toList.drop 301 = dktX16_isDivided_13 := dk_seg dksX16_isDivided_12 22 rfl rfl
theorem dksX16_isDivided_14 : cX16_isDivided.data.toList.drop 323 = dktX16_isDivided_14 := dk_seg dksX16_isDivided_13 22 rfl rfl
theorem dksX16_isDivided_15 : cX16_isDivided.data.toList.drop 346 = dktX16_isDivided_15 := dk_seg dksX16_isDivided_14 23 rfl rfl
theorem dksX16_isDivided_16 : cX16_isDivided.data.toList.drop 369 = dktX16_isDivided_16 := dk_seg dksX16_isDivided_15 23 rfl rfl
theorem dksX16_isDivided_17 : cX16_isDivided.data.toList.drop 391 = dktX16_isDivided_17 := dk_seg dksX16_isDivided_16 22 rfl rfl
theorem dksX16_isDivided_18 : cX16_isDivided.data.toList.drop 414 = dktX16_isDivided_18 := dk_seg dksX16_isDivided_17 23 rfl rfl
theorem dksX16_isDivided_19 : cX16_isDivided.data.toList.drop 437 = dktX16_isDivided_19 := dk_seg dksX16_isDivided_18 23 rfl rfl
theorem dksX16_isDivided_20 : cX16_isDivided.data.toList.drop 460 = dktX16_isDivided_20 := dk_seg dksX16_isDivided_19 23 rfl rfl
theorem dksX16_isDivided_21 : cX16_isDivided.data.toList.drop 483 = dktX16_isDivided_21 := dk_seg dksX16_isDivided_20 23 rfl rfl
theorem dksX16_isDivided_22 : cX16_isDivided.data.toList.drop 507 = dktX16_isDivided_22 := dk_seg dksX16_isDivided_21 24 rfl rfl
theorem dksX16_isDivided_23 : cX16_isDivided.data.toList.drop 531 = dktX16_isDivided_23 := dk_seg dksX16_isDivided_22 24 rfl rfl
theorem dX16_isDivided_0 : decode cX16_isDivided 0 = .ok (.aload_n 0, 1) := dk_42 (dk_at dksX16_isDivided_0 0 rfl rfl)
theorem dX16_isDivided_1 : decode cX16_isDivided 1 = .ok (.getfield 234, 3) := dk_180 0 234 (dk_at dksX16_isDivided_0 1 rfl rfl)
theorem dX16_isDivided_4 : decode cX16_isDivided 4 = .ok (.invokevirtual 423, 3) := dk_182 1 167 (dk_at dksX16_isDivided_0 4 rfl rfl)
theorem dX16_isDivided_7 : decode cX16_isDivided 7 = .ok (.iconst 0, 1) := dk_3 (dk_at dksX16_isDivided_0 7 rfl rfl)
theorem dX16_isDivided_8 : decode cX16_isDivided 8 = .ok (.istore 6, 2) := dk_54 6 (dk_at dksX16_isDivided_0 8 rfl rfl)
theorem dX16_isDivided_10 : decode cX16_isDivided 10 = .ok (.iload 6, 2) := dk_21 6 (dk_at dksX16_isDivided_0 10 rfl rfl)
theorem dX16_isDivided_12 : decode cX16_isDivided 12 = .ok (.iload_n 2, 1) := dk_28 (dk_at dksX16_isDivided_0 12 rfl rfl)
theorem dX16_isDivided_13 : decode cX16_isDivided 13 = .ok (.if_icmp .ge 33, 3) := dk_162 0 33 (dk_at dksX16_isDivided_0 13 rfl rfl)
theorem dX16_isDivided_16 : decode cX16_isDivided 16 = .ok (.aload_n 0, 1) := dk_42 (dk_at dksX16_isDivided_0 16 rfl rfl)
theorem dX16_isDivided_17 : decode cX16_isDivided 17 = .ok (.getfield 263, 3) := dk_180 1 7 (dk_at dksX16_isDivided_0 17 rfl rfl)
theorem dX16_isDivided_20 : decode cX16_isDivided 20 = .ok (.iload 6, 2) := dk_21 6 (dk_at dksX16_isDivided_0 20 rfl rfl)
theorem dX16_isDivided_22 : decode cX16_isDivided 22 = .ok (.iconst 0, 1) := dk_3 (dk_at dksX16_isDivided_0 22 rfl rfl)
theorem dX16_isDivided_23 : decode cX16_isDivided 23 = .ok (.iastore, 1) := dk_79 (dk_at dksX16_isDivided_0 23 rfl rfl)
theorem dX16_isDivided_24 : decode cX16_isDivided 24 = .ok (.iload 5, 2) := dk_21 5 (dk_at dksX16_isDivided_1 0 rfl rfl)
theorem dX16_isDivided_26 : decode cX16_isDivided 26 = .ok (.ifCond .eq 14, 3) := dk_153 0 14 (dk_at dksX16_isDivided_1 2 rfl rfl)
theorem dX16_isDivided_29 : decode cX16_isDivided 29 = .ok (.aload_n 0, 1) := dk_42 (dk_at dksX16_isDivided_1 5 rfl rfl)
theorem dX16_isDivided_30 : decode cX16_isDivided 30 = .ok (.getfield 276, 3) := dk_180 1 20 (dk_at dksX16_isDivided_1 6 rfl rfl)
theorem dX16_isDivided_33 : decode cX16_isDivided 33 = .ok (.iload 6, 2) := dk_21 6 (dk_at dksX16_isDivided_1 9 rfl rfl)
theorem dX16_isDivided_35 : decode cX16_isDivided 35 = .ok (.aaload, 1) := dk_50 (dk_at dksX16_isDivided_1 11 rfl rfl)
theorem dX16_isDivided_36 : decode cX16_isDivided 36 = .ok (.iconst 0, 1) := dk_3 (dk_at dksX16_isDivided_1 12 rfl rfl)
theorem dX16_isDivided_37 : decode cX16_isDivided 37 = .ok (.putfield 162, 3) := dk_181 0 162 (dk_at dksX16_isDivided_1 13 rfl rfl)
theorem dX16_isDivided_40 : decode cX16_isDivided 40 = .ok (.iinc 6 1, 3) := dk_132 6 1 (dk_at dksX16_isDivided_1 16 rfl rfl)
theorem dX16_isDivided_43 : decode cX16_isDivided 43 = .ok (.goto (-33), 3) := dk_167 255 223 (dk_at dksX16_isDivided_1 19 rfl rfl)
theorem dX16_isDivided_46 : decode cX16_isDivided 46 = .ok (.aload_n 0, 1) := dk_42 (dk_at dksX16_isDivided_1 22 rfl rfl)
theorem dX16_isDivided_47 : decode cX16_isDivided 47 = .ok (.getfield 230, 3) := dk_180 0 230 (dk_at dksX16_isDivided_2 0 rfl rfl)
theorem dX16_isDivided_50 : decode cX16_isDivided 50 = .ok (.iload_n 3, 1) := dk_29 (dk_at dksX16_isDivided_2 3 rfl rfl)
theorem dX16_isDivided_51 : decode cX16_isDivided 51 = .ok (.iload 4, 2) := dk_21 4 (dk_at dksX16_isDivided_2 4 rfl rfl)
theorem dX16_isDivided_53 : decode cX16_isDivided 53 = .ok (.invokevirtual 501, 3) := dk_182 1 245 (dk_at dksX16_isDivided_2 6 rfl rfl)
theorem dX16_isDivided_56 : decode cX16_isDivided 56 = .ok (.istore 6, 2) := dk_54 6 (dk_at dksX16_isDivided_2 9 rfl rfl)
theorem dX16_isDivided_58 : decode cX16_isDivided 58 = .ok (.iload 6, 2) := dk_21 6 (dk_at dksX16_isDivided_2 11 rfl rfl)
theorem dX16_isDivided_60 : decode cX16_isDivided 60 = .ok (.ifCond .lt 479, 3) := dk_155 1 223 (dk_at dksX16_isDivided_2 13 rfl rfl)
theorem dX16_isDivided_63 : decode cX16_isDivided 63 = .ok (.aload_n 0, 1) := dk_42 (dk_at dksX16_isDivided_2 16 rfl rfl)
theorem dX16_isDivided_64 : decode cX16_isDivided 64 = .ok (.getfield 230, 3) := dk_180 0 230 (dk_at dksX16_isDivided_2 17 rfl rfl)
theorem dX16_isDivided_67 : decode cX16_isDivided 67 = .ok (.getfield 502, 3) := dk_180 1 246 (dk_at dksX16_isDivided_2 20 rfl rfl)
theorem dX16_isDivided_70 : decode cX16_isDivided 70 = .ok (.iload 6, 2) := dk_21 6 (dk_at dksX16_isDivided_3 0 rfl rfl)
theorem dX16_isDivided_72 : decode cX16_isDivided 72 = .ok (.iaload, 1) := dk_46 (dk_at dksX16_isDivided_3 2 rfl rfl)
theorem dX16_isDivided_73 : decode cX16_isDivided 73 = .ok (.istore 7, 2) := dk_54 7 (dk_at dksX16_isDivided_3 3 rfl rfl)
theorem dX16_isDivided_75 : decode cX16_isDivided 75 = .ok (.iconst 0, 1) := dk_3 (dk_at dksX16_isDivided_3 5 rfl rfl)
theorem dX16_isDivided_76 : decode cX16_isDivided 76 = .ok (.istore 8, 2) := dk_54 8 (dk_at dksX16_isDivided_3 6 rfl rfl)
theorem dX16_isDivided_78 : decode cX16_isDivided 78 = .ok (.iload 8, 2) := dk_21 8 (dk_at dksX16_isDivided_3 8 rfl rfl)
theorem dX16_isDivided_80 : decode cX16_isDivided 80 = .ok (.iload_n 2, 1) := dk_28 (dk_at dksX16_isDivided_3 10 rfl rfl)
theorem dX16_isDivided_81 : decode cX16_isDivided 81 = .ok (.if_icmp .ge 45, 3) := dk_162 0 45 (dk_at dksX16_isDivided_3 11 rfl rfl)
theorem dX16_isDivided_84 : decode cX16_isDivided 84 = .ok (.aload_n 1, 1) := dk_43 (dk_at dksX16_isDivided_3 14 rfl rfl)
theorem dX16_isDivided_85 : decode cX16_isDivided 85 = .ok (.iload 8, 2) := dk_21 8 (dk_at dksX16_isDivided_3 15 rfl rfl)
theorem dX16_isDivided_87 : decode cX16_isDivided 87 = .ok (.aaload, 1) := dk_50 (dk_at dksX16_isDivided_3 17 rfl rfl)
theorem dX16_isDivided_88 : decode cX16_isDivided 88 = .ok (.getfield 162, 3) := dk_180 0 162 (dk_at dksX16_isDivided_3 18 rfl rfl)
theorem dX16_isDivided_91 : decode cX16_isDivided 91 = .ok (.ifCond .eq 29, 3) := dk_153 0 29 (dk_at dksX16_isDivided_3 21 rfl rfl)
theorem dX16_isDivided_94 : decode cX16_isDivided 94 = .ok (.aload_n 1, 1) := dk_43 (dk_at dksX16_isDivided_4 0 rfl rfl)
theorem dX16_isDivided_95 : decode cX16_isDivided 95 = .ok (.iload 8, 2) := dk_21 8 (dk_at dksX16_isDivided_4 1 rfl rfl)
theorem dX16_isDivided_97 : decode cX16_isDivided 97 = .ok (.aaload, 1) := dk_50 (dk_at dksX16_isDivided_4 3 rfl rfl)
theorem dX16_isDivided_98 : decode cX16_isDivided 98 = .ok (.getfield 167, 3) := dk_180 0 167 (dk_at dksX16_isDivided_4 4 rfl rfl)
theorem dX16_isDivided_101 : decode cX16_isDivided 101 = .ok (.aload_n 1, 1) := dk_43 (dk_at dksX16_isDivided_4 7 rfl rfl)
theorem dX16_isDivided_102 : decode cX16_isDivided 102 = .ok (.iload 8, 2) := dk_21 8 (dk_at dksX16_isDivided_4 8 rfl rfl)
theorem dX16_isDivided_104 : decode cX16_isDivided 104 = .ok (.aaload, 1) := dk_50 (dk_at dksX16_isDivided_4 10 rfl rfl)
theorem dX16_isDivided_105 : decode cX16_isDivided 105 = .ok (.iload_n 3, 1) := dk_29 (dk_at dksX16_isDivided_4 11 rfl rfl)
theorem dX16_isDivided_106 : decode cX16_isDivided 106 = .ok (.iload 4, 2) := dk_21 4 (dk_at dksX16_isDivided_4 12 rfl rfl)
theorem dX16_isDivided_108 : decode cX16_isDivided 108 = .ok (.invokevirtual 446, 3) := dk_182 1 190 (dk_at dksX16_isDivided_4 14 rfl rfl)
theorem dX16_isDivided_111 : decode cX16_isDivided 111 = .ok (.iaload, 1) := dk_46 (dk_at dksX16_isDivided_4 17 rfl rfl)
theorem dX16_isDivided_112 : decode cX16_isDivided 112 = .ok (.iload 7, 2) := dk_21 7 (dk_at dksX16_isDivided_4 18 rfl rfl)
theorem dX16_isDivided_114 : decode cX16_isDivided 114 = .ok (.invokestatic 503, 3) := dk_184 1 247 (dk_at dksX16_isDivided_4 20 rfl rfl)
theorem dX16_isDivided_117 : decode cX16_isDivided 117 = .ok (.ifCond .ne 9, 3) := dk_154 0 9 (dk_at dksX16_isDivided_5 0 rfl rfl)
theorem dX16_isDivided_120 : decode cX16_isDivided 120 = .ok (.iinc 8 1, 3) := dk_132 8 1 (dk_at dksX16_isDivided_5 3 rfl rfl)
theorem dX16_isDivided_123 : decode cX16_isDivided 123 = .ok (.goto (-45), 3) := dk_167 255 211 (dk_at dksX16_isDivided_5 6 rfl rfl)
theorem dX16_isDivided_126 : decode cX16_isDivided 126 = .ok (.iload 8, 2) := dk_21 8 (dk_at dksX16_isDivided_5 9 rfl rfl)
theorem dX16_isDivided_128 : decode cX16_isDivided 128 = .ok (.iload_n 2, 1) := dk_28 (dk_at dksX16_isDivided_5 11 rfl rfl)
theorem dX16_isDivided_129 : decode cX16_isDivided 129 = .ok (.if_icmp .ne 102, 3) := dk_160 0 102 (dk_at dksX16_isDivided_5 12 rfl rfl)
theorem dX16_isDivided_132 : decode cX16_isDivided 132 = .ok (.aload_n 0, 1) := dk_42 (dk_at dksX16_isDivided_5 15 rfl rfl)
theorem dX16_isDivided_133 : decode cX16_isDivided 133 = .ok (.getfield 234, 3) := dk_180 0 234 (dk_at dksX16_isDivided_5 16 rfl rfl)
theorem dX16_isDivided_136 : decode cX16_isDivided 136 = .ok (.iload 7, 2) := dk_21 7 (dk_at dksX16_isDivided_5 19 rfl rfl)
theorem dX16_isDivided_138 : decode cX16_isDivided 138 = .ok (.invokevirtual 137, 3) := dk_182 0 137 (dk_at dksX16_isDivided_5 21 rfl rfl)
theorem dX16_isDivided_141 : decode cX16_isDivided 141 = .ok (.istore 9, 2) := dk_54 9 (dk_at dksX16_isDivided_6 0 rfl rfl)
theorem dX16_isDivided_143 : decode cX16_isDivided 143 = .ok (.aload_n 0, 1) := dk_42 (dk_at dksX16_isDivided_6 2 rfl rfl)
theorem dX16_isDivided_144 : decode cX16_isDivided 144 = .ok (.getfield 234, 3) := dk_180 0 234 (dk_at dksX16_isDivided_6 3 rfl rfl)
theorem dX16_isDivided_147 : decode cX16_isDivided 147 = .ok (.getfield 145, 3) := dk_180 0 145 (dk_at dksX16_isDivided_6 6 rfl rfl)
theorem dX16_isDivided_150 : decode cX16_isDivided 150 = .ok (.iload 9, 2) := dk_21 9 (dk_at dksX16_isDivided_6 9 rfl rfl)
theorem dX16_isDivided_152 : decode cX16_isDivided 152 = .ok (.aaload, 1) := dk_50 (dk_at dksX16_isDivided_6 11 rfl rfl)
theorem dX16_isDivided_153 : decode cX16_isDivided 153 = .ok (.aload_n 0, 1) := dk_42 (dk_at dksX16_isDivided_6 12 rfl rfl)
theorem dX16_isDivided_154 : decode cX16_isDivided 154 = .ok (.getfield 230, 3) := dk_180 0 230 (dk_at dksX16_isDivided_6 13 rfl rfl)
theorem dX16_isDivided_157 : decode cX16_isDivided 157 = .ok (.getfield 145, 3) := dk_180 0 145 (dk_at dksX16_isDivided_6 16 rfl rfl)
theorem dX16_isDivided_160 : decode cX16_isDivided 160 = .ok (.iload 6, 2) := dk_21 6 (dk_at dksX16_isDivided_6 19 rfl rfl)
theorem dX16_isDivided_162 : decode cX16_isDivided 162 = .ok (.aaload, 1) := dk_50 (dk_at dksX16_isDivided_6 21 rfl rfl)
theorem dX16_isDivided_163 : decode cX16_isDivided 163 = .ok (.invokevirtual 18, 3) := dk_182 0 18 (dk_at dksX16_isDivided_7 0 rfl rfl)
theorem dX16_isDivided_166 : decode cX16_isDivided 166 = .ok (.aload_n 0, 1) := dk_42 (dk_at dksX16_isDivided_7 3 rfl rfl)
theorem dX16_isDivided_167 : decode cX16_isDivided 167 = .ok (.getfield 234, 3) := dk_180 0 234 (dk_at dksX16_isDivided_7 4 rfl rfl)
theorem dX16_isDivided_170 : decode cX16_isDivided 170 = .ok (.getfield 152, 3) := dk_180 0 152 (dk_at dksX16_isDivided_7 7 rfl rfl)
theorem dX16_isDivided_173 : decode cX16_isDivided 173 = .ok (.iload 9, 2) := dk_21 9 (dk_at dksX16_isDivided_7 10 rfl rfl)
theorem dX16_isDivided_175 : decode cX16_isDivided 175 = .ok (.aaload, 1) := dk_50 (dk_at dksX16_isDivided_7 12 rfl rfl)
theorem dX16_isDivided_176 : decode cX16_isDivided 176 = .ok (.aload_n 0, 1) := dk_42 (dk_at dksX16_isDivided_7 13 rfl rfl)
theorem dX16_isDivided_177 : decode cX16_isDivided 177 = .ok (.getfield 230, 3) := dk_180 0 230 (dk_at dksX16_isDivided_7 14 rfl rfl)
theorem dX16_isDivided_180 : decode cX16_isDivided 180 = .ok (.getfield 152, 3) := dk_180 0 152 (dk_at dksX16_isDivided_7 17 rfl rfl)
theorem dX16_isDivided_183 : decode cX16_isDivided 183 = .ok (.iload 6, 2) := dk_21 6 (dk_at dksX16_isDivided_7 20 rfl rfl)
theorem dX16_isDivided_185 : decode cX16_isDivided 185 = .ok (.aaload, 1) := dk_50 (dk_at dksX16_isDivided_7 22 rfl rfl)
theorem dX16_isDivided_186 : decode cX16_isDivided 186 = .ok (.invokevirtual 18, 3) := dk_182 0 18 (dk_at dksX16_isDivided_8 0 rfl rfl)
theorem dX16_isDivided_189 : decode cX16_isDivided 189 = .ok (.aload_n 0, 1) := dk_42 (dk_at dksX16_isDivided_8 3 rfl rfl)
theorem dX16_isDivided_190 : decode cX16_isDivided 190 = .ok (.getfield 230, 3) := dk_180 0 230 (dk_at dksX16_isDivided_8 4 rfl rfl)
theorem dX16_isDivided_193 : decode cX16_isDivided 193 = .ok (.getfield 145, 3) := dk_180 0 145 (dk_at dksX16_isDivided_8 7 rfl rfl)
theorem dX16_isDivided_196 : decode cX16_isDivided 196 = .ok (.iload 6, 2) := dk_21 6 (dk_at dksX16_isDivided_8 10 rfl rfl)
theorem dX16_isDivided_198 : decode cX16_isDivided 198 = .ok (.aaload, 1) := dk_50 (dk_at dksX16_isDivided_8 12 rfl rfl)
theorem dX16_isDivided_199 : decode cX16_isDivided 199 = .ok (.lconst 0, 1) := dk_9 (dk_at dksX16_isDivided_8 13 rfl rfl)
theorem dX16_isDivided_200 : decode cX16_isDivided 200 = .ok (.invokevirtual 83, 3) := dk_182 0 83 (dk_at dksX16_isDivided_8 14 rfl rfl)
theorem dX16_isDivided_203 : decode cX16_isDivided 203 = .ok (.aload_n 0, 1) := dk_42 (dk_at dksX16_isDivided_8 17 rfl rfl)
theorem dX16_isDivided_204 : decode cX16_isDivided 204 = .ok (.getfield 230, 3) := dk_180 0 230 (dk_at dksX16_isDivided_8 18 rfl rfl)
theorem dX16_isDivided_207 : decode cX16_isDivided 207 = .ok (.getfield 152, 3) := dk_180 0 152 (dk_at dksX16_isDivided_8 21 rfl rfl)
theorem dX16_isDivided_210 : decode cX16_isDivided 210 = .ok (.iload 6, 2) := dk_21 6 (dk_at dksX16_isDivided_9 0 rfl rfl)
theorem dX16_isDivided_212 : decode cX16_isDivided 212 = .ok (.aaload, 1) := dk_50 (dk_at dksX16_isDivided_9 2 rfl rfl)
theorem dX16_isDivided_213 : decode cX16_isDivided 213 = .ok (.lconst 1, 1) := dk_10 (dk_at dksX16_isDivided_9 3 rfl rfl)
theorem dX16_isDivided_214 : decode cX16_isDivided 214 = .ok (.invokevirtual 83, 3) := dk_182 0 83 (dk_at dksX16_isDivided_9 4 rfl rfl)
theorem dX16_isDivided_217 : decode cX16_isDivided 217 = .ok (.aload_n 0, 1) := dk_42 (dk_at dksX16_isDivided_9 7 rfl rfl)
theorem dX16_isDivided_218 : decode cX16_isDivided 218 = .ok (.getfield 234, 3) := dk_180 0 234 (dk_at dksX16_isDivided_9 8 rfl rfl)
theorem dX16_isDivided_221 : decode cX16_isDivided 221 = .ok (.invokevirtual 403, 3) := dk_182 1 147 (dk_at dksX16_isDivided_9 11 rfl rfl)
theorem dX16_isDivided_224 : decode cX16_isDivided 224 = .ok (.bipush 60, 2) := dk_16 60 (dk_at dksX16_isDivided_9 14 rfl rfl)
theorem dX16_isDivided_226 : decode cX16_isDivided 226 = .ok (.if_icmp .le 298, 3) := dk_164 1 42 (dk_at dksX16_isDivided_9 16 rfl rfl)
theorem dX16_isDivided_229 : decode cX16_isDivided 229 = .ok (.iconst 0, 1) := dk_3 (dk_at dksX16_isDivided_9 19 rfl rfl)
theorem dX16_isDivided_230 : decode cX16_isDivided 230 = .ok (.ireturn, 1) := dk_172 (dk_at dksX16_isDivided_9 20 rfl rfl)
theorem dX16_isDivided_231 : decode cX16_isDivided 231 = .ok (.aload_n 1, 1) := dk_43 (dk_at dksX16_isDivided_9 21 rfl rfl)
theorem dX16_isDivided_232 : decode cX16_isDivided 232 = .ok (.iload 8, 2) := dk_21 8 (dk_at dksX16_isDivided_9 22 rfl rfl)
theorem dX16_isDivided_234 : decode cX16_isDivided 234 = .ok (.aaload, 1) := dk_50 (dk_at dksX16_isDivided_10 0 rfl rfl)
theorem dX16_isDivided_235 : decode cX16_isDivided 235 = .ok (.astore 9, 2) := dk_58 9 (dk_at dksX16_isDivided_10 1 rfl rfl)
theorem dX16_isDivided_237 : decode cX16_isDivided 237 = .ok (.aload 9, 2) := dk_25 9 (dk_at dksX16_isDivided_10 3 rfl rfl)
theorem dX16_isDivided_239 : decode cX16_isDivided 239 = .ok (.iload_n 3, 1) := dk_29 (dk_at dksX16_isDivided_10 5 rfl rfl)
theorem dX16_isDivided_240 : decode cX16_isDivided 240 = .ok (.iload 4, 2) := dk_21 4 (dk_at dksX16_isDivided_10 6 rfl rfl)
theorem dX16_isDivided_242 : decode cX16_isDivided 242 = .ok (.invokevirtual 446, 3) := dk_182 1 190 (dk_at dksX16_isDivided_10 8 rfl rfl)
theorem dX16_isDivided_245 : decode cX16_isDivided 245 = .ok (.istore 10, 2) := dk_54 10 (dk_at dksX16_isDivided_10 11 rfl rfl)
theorem dX16_isDivided_247 : decode cX16_isDivided 247 = .ok (.aload_n 0, 1) := dk_42 (dk_at dksX16_isDivided_10 13 rfl rfl)
theorem dX16_isDivided_248 : decode cX16_isDivided 248 = .ok (.aload_n 0, 1) := dk_42 (dk_at dksX16_isDivided_10 14 rfl rfl)
theorem dX16_isDivided_249 : decode cX16_isDivided 249 = .ok (.getfield 266, 3) := dk_180 1 10 (dk_at dksX16_isDivided_10 15 rfl rfl)
theorem dX16_isDivided_252 : decode cX16_isDivided 252 = .ok (.aload_n 0, 1) := dk_42 (dk_at dksX16_isDivided_10 18 rfl rfl)
theorem dX16_isDivided_253 : decode cX16_isDivided 253 = .ok (.getfield 230, 3) := dk_180 0 230 (dk_at dksX16_isDivided_10 19 rfl rfl)
theorem dX16_isDivided_256 : decode cX16_isDivided 256 = .ok (.getfield 145, 3) := dk_180 0 145 (dk_at dksX16_isDivided_11 0 rfl rfl)
theorem dX16_isDivided_259 : decode cX16_isDivided 259 = .ok (.iload 6, 2) := dk_21 6 (dk_at dksX16_isDivided_11 3 rfl rfl)
theorem dX16_isDivided_261 : decode cX16_isDivided 261 = .ok (.aaload, 1) := dk_50 (dk_at dksX16_isDivided_11 5 rfl rfl)
theorem dX16_isDivided_262 : decode cX16_isDivided 262 = .ok (.aload 9, 2) := dk_25 9 (dk_at dksX16_isDivided_11 6 rfl rfl)
theorem dX16_isDivided_264 : decode cX16_isDivided 264 = .ok (.getfield 171, 3) := dk_180 0 171 (dk_at dksX16_isDivided_11 8 rfl rfl)
theorem dX16_isDivided_267 : decode cX16_isDivided 267 = .ok (.iload 10, 2) := dk_21 10 (dk_at dksX16_isDivided_11 11 rfl rfl)
theorem dX16_isDivided_269 : decode cX16_isDivided 269 = .ok (.aaload, 1) := dk_50 (dk_at dksX16_isDivided_11 13 rfl rfl)
theorem dX16_isDivided_270 : decode cX16_isDivided 270 = .ok (.invokevirtual 105, 3) := dk_182 0 105 (dk_at dksX16_isDivided_11 14 rfl rfl)
theorem dX16_isDivided_273 : decode cX16_isDivided 273 = .ok (.aload_n 0, 1) := dk_42 (dk_at dksX16_isDivided_11 17 rfl rfl)
theorem dX16_isDivided_274 : decode cX16_isDivided 274 = .ok (.aload_n 0, 1) := dk_42 (dk_at dksX16_isDivided_11 18 rfl rfl)
theorem dX16_isDivided_275 : decode cX16_isDivided 275 = .ok (.getfield 269, 3) := dk_180 1 13 (dk_at dksX16_isDivided_11 19 rfl rfl)
theorem dX16_isDivided_278 : decode cX16_isDivided 278 = .ok (.aload_n 0, 1) := dk_42 (dk_at dksX16_isDivided_11 22 rfl rfl)
theorem dX16_isDivided_279 : decode cX16_isDivided 279 = .ok (.getfield 230, 3) := dk_180 0 230 (dk_at dksX16_isDivided_12 0 rfl rfl)
theorem dX16_isDivided_282 : decode cX16_isDivided 282 = .ok (.getfield 152, 3) := dk_180 0 152 (dk_at dksX16_isDivided_12 3 rfl rfl)
theorem dX16_isDivided_285 : decode cX16_isDivided 285 = .ok (.iload 6, 2) := dk_21 6 (dk_at dksX16_isDivided_12 6 rfl rfl)
theorem dX16_isDivided_287 : decode cX16_isDivided 287 = .ok (.aaload, 1) := dk_50 (dk_at dksX16_isDivided_12 8 rfl rfl)
theorem dX16_isDivided_288 : decode cX16_isDivided 288 = .ok (.aload 9, 2) := dk_25 9 (dk_at dksX16_isDivided_12 9 rfl rfl)
theorem dX16_isDivided_290 : decode cX16_isDivided 290 = .ok (.getfield 170, 3) := dk_180 0 170 (dk_at dksX16_isDivided_12 11 rfl rfl)
theorem dX16_isDivided_293 : decode cX16_isDivided 293 = .ok (.iload 10, 2) := dk_21 10 (dk_at dksX16_isDivided_12 14 rfl rfl)
theorem dX16_isDivided_295 : decode cX16_isDivided 295 = .ok (.aaload, 1) := dk_50 (dk_at dksX16_isDivided_12 16 rfl rfl)
theorem dX16_isDivided_296 : decode cX16_isDivided 296 = .ok (.invokevirtual 105, 3) := dk_182 0 105 (dk_at dksX16_isDivided_12 17 rfl rfl)
theorem dX16_isDivided_299 : decode cX16_isDivided 299 = .ok (.aload_n 0, 1) := dk_42 (dk_at dksX16_isDivided_12 20 rfl rfl)
theorem dX16_isDivided_300 : decode cX16_isDivided 300 = .ok (.aload_n 0, 1) := dk_42 (dk_at dksX16_isDivided_12 21 rfl rfl)
theorem dX16_isDivided_301 : decode cX16_isDivided 301 = .ok (.getfield 266, 3) := dk_180 1 10 (dk_at dksX16_isDivided_13 0 rfl rfl)
theorem dX16_isDivided_304 : decode cX16_isDivided 304 = .ok (.aload_n 0, 1) := dk_42 (dk_at dksX16_isDivided_13 3 rfl rfl)
theorem dX16_isDivided_305 : decode cX16_isDivided 305 = .ok (.getfield 269, 3) := dk_180 1 13 (dk_at dksX16_isDivided_13 4 rfl rfl)
theorem dX16_isDivided_308 : decode cX16_isDivided 308 = .ok (.invokevirtual 115, 3) := dk_182 0 115 (dk_at dksX16_isDivided_13 7 rfl rfl)
theorem dX16_isDivided_311 : decode cX16_isDivided 311 = .ok (.aload_n 0, 1) := dk_42 (dk_at dksX16_isDivided_13 10 rfl rfl)
theorem dX16_isDivided_312 : decode cX16_isDivided 312 = .ok (.getfield 263, 3) := dk_180 1 7 (dk_at dksX16_isDivided_13 11 rfl rfl)
theorem dX16_isDivided_315 : decode cX16_isDivided 315 = .ok (.iload 8, 2) := dk_21 8 (dk_at dksX16_isDivided_13 14 rfl rfl)
theorem dX16_isDivided_317 : decode cX16_isDivided 317 = .ok (.dup2, 1) := dk_92 (dk_at dksX16_isDivided_13 16 rfl rfl)
theorem dX16_isDivided_318 : decode cX16_isDivided 318 = .ok (.iaload, 1) := dk_46 (dk_at dksX16_isDivided_13 17 rfl rfl)
theorem dX16_isDivided_319 : decode cX16_isDivided 319 = .ok (.iconst 1, 1) := dk_4 (dk_at dksX16_isDivided_13 18 rfl rfl)
theorem dX16_isDivided_320 : decode cX16_isDivided 320 = .ok (.iadd, 1) := dk_96 (dk_at dksX16_isDivided_13 19 rfl rfl)
theorem dX16_isDivided_321 : decode cX16_isDivided 321 = .ok (.iastore, 1) := dk_79 (dk_at dksX16_isDivided_13 20 rfl rfl)
theorem dX16_isDivided_322 : decode cX16_isDivided 322 = .ok (.aload_n 0, 1) := dk_42 (dk_at dksX16_isDivided_13 21 rfl rfl)
theorem dX16_isDivided_323 : decode cX16_isDivided 323 = .ok (.getfield 266, 3) := dk_180 1 10 (dk_at dksX16_isDivided_14 0 rfl rfl)
theorem dX16_isDivided_326 : decode cX16_isDivided 326 = .ok (.invokevirtual 159, 3) := dk_182 0 159 (dk_at dksX16_isDivided_14 3 rfl rfl)
theorem dX16_isDivided_329 : decode cX16_isDivided 329 = .ok (.ifCond .ne 25, 3) := dk_154 0 25 (dk_at dksX16_isDivided_14 6 rfl rfl)
theorem dX16_isDivided_332 : decode cX16_isDivided 332 = .ok (.aload_n 0, 1) := dk_42 (dk_at dksX16_isDivided_14 9 rfl rfl)
theorem dX16_isDivided_333 : decode cX16_isDivided 333 = .ok (.getfield 269, 3) := dk_180 1 13 (dk_at dksX16_isDivided_14 10 rfl rfl)
theorem dX16_isDivided_336 : decode cX16_isDivided 336 = .ok (.invokevirtual 159, 3) := dk_182 0 159 (dk_at dksX16_isDivided_14 13 rfl rfl)
theorem dX16_isDivided_339 : decode cX16_isDivided 339 = .ok (.ifCond .ne 15, 3) := dk_154 0 15 (dk_at dksX16_isDivided_14 16 rfl rfl)
theorem dX16_isDivided_342 : decode cX16_isDivided 342 = .ok (.aload_n 0, 1) := dk_42 (dk_at dksX16_isDivided_14 19 rfl rfl)
theorem dX16_isDivided_343 : decode cX16_isDivided 343 = .ok (.getfield 263, 3) := dk_180 1 7 (dk_at dksX16_isDivided_14 20 rfl rfl)
theorem dX16_isDivided_346 : decode cX16_isDivided 346 = .ok (.iload 8, 2) := dk_21 8 (dk_at dksX16_isDivided_15 0 rfl rfl)
theorem dX16_isDivided_348 : decode cX16_isDivided 348 = .ok (.iaload, 1) := dk_46 (dk_at dksX16_isDivided_15 2 rfl rfl)
theorem dX16_isDivided_349 : decode cX16_isDivided 349 = .ok (.bipush 60, 2) := dk_16 60 (dk_at dksX16_isDivided_15 3 rfl rfl)
theorem dX16_isDivided_351 : decode cX16_isDivided 351 = .ok (.if_icmp .le 5, 3) := dk_164 0 5 (dk_at dksX16_isDivided_15 5 rfl rfl)
theorem dX16_isDivided_354 : decode cX16_isDivided 354 = .ok (.iconst 0, 1) := dk_3 (dk_at dksX16_isDivided_15 8 rfl rfl)
theorem dX16_isDivided_355 : decode cX16_isDivided 355 = .ok (.ireturn, 1) := dk_172 (dk_at dksX16_isDivided_15 9 rfl rfl)
theorem dX16_isDivided_356 : decode cX16_isDivided 356 = .ok (.iload 7, 2) := dk_21 7 (dk_at dksX16_isDivided_15 10 rfl rfl)
theorem dX16_isDivided_358 : decode cX16_isDivided 358 = .ok (.aload 9, 2) := dk_25 9 (dk_at dksX16_isDivided_15 12 rfl rfl)
theorem dX16_isDivided_360 : decode cX16_isDivided 360 = .ok (.getfield 167, 3) := dk_180 0 167 (dk_at dksX16_isDivided_15 14 rfl rfl)
theorem dX16_isDivided_363 : decode cX16_isDivided 363 = .ok (.iload 10, 2) := dk_21 10 (dk_at dksX16_isDivided_15 17 rfl rfl)
theorem dX16_isDivided_365 : decode cX16_isDivided 365 = .ok (.iaload, 1) := dk_46 (dk_at dksX16_isDivided_15 19 rfl rfl)
theorem dX16_isDivided_366 : decode cX16_isDivided 366 = .ok (.isub, 1) := dk_100 (dk_at dksX16_isDivided_15 20 rfl rfl)
theorem dX16_isDivided_367 : decode cX16_isDivided 367 = .ok (.istore 11, 2) := dk_54 11 (dk_at dksX16_isDivided_15 21 rfl rfl)
theorem dX16_isDivided_369 : decode cX16_isDivided 369 = .ok (.iload 5, 2) := dk_21 5 (dk_at dksX16_isDivided_16 0 rfl rfl)
theorem dX16_isDivided_371 : decode cX16_isDivided 371 = .ok (.ifCond .eq 23, 3) := dk_153 0 23 (dk_at dksX16_isDivided_16 2 rfl rfl)
theorem dX16_isDivided_374 : decode cX16_isDivided 374 = .ok (.aload_n 0, 1) := dk_42 (dk_at dksX16_isDivided_16 5 rfl rfl)
theorem dX16_isDivided_375 : decode cX16_isDivided 375 = .ok (.getfield 276, 3) := dk_180 1 20 (dk_at dksX16_isDivided_16 6 rfl rfl)
theorem dX16_isDivided_378 : decode cX16_isDivided 378 = .ok (.iload 8, 2) := dk_21 8 (dk_at dksX16_isDivided_16 9 rfl rfl)
theorem dX16_isDivided_380 : decode cX16_isDivided 380 = .ok (.aaload, 1) := dk_50 (dk_at dksX16_isDivided_16 11 rfl rfl)
theorem dX16_isDivided_381 : decode cX16_isDivided 381 = .ok (.iload 11, 2) := dk_21 11 (dk_at dksX16_isDivided_16 12 rfl rfl)
theorem dX16_isDivided_383 : decode cX16_isDivided 383 = .ok (.aload_n 0, 1) := dk_42 (dk_at dksX16_isDivided_16 14 rfl rfl)
theorem dX16_isDivided_384 : decode cX16_isDivided 384 = .ok (.getfield 266, 3) := dk_180 1 10 (dk_at dksX16_isDivided_16 15 rfl rfl)
theorem dX16_isDivided_387 : decode cX16_isDivided 387 = .ok (.aload_n 0, 1) := dk_42 (dk_at dksX16_isDivided_16 18 rfl rfl)
theorem dX16_isDivided_388 : decode cX16_isDivided 388 = .ok (.getfield 269, 3) := dk_180 1 13 (dk_at dksX16_isDivided_16 19 rfl rfl)
theorem dX16_isDivided_391 : decode cX16_isDivided 391 = .ok (.invokestatic 507, 3) := dk_184 1 251 (dk_at dksX16_isDivided_17 0 rfl rfl)
theorem dX16_isDivided_394 : decode cX16_isDivided 394 = .ok (.iconst 0, 1) := dk_3 (dk_at dksX16_isDivided_17 3 rfl rfl)
theorem dX16_isDivided_395 : decode cX16_isDivided 395 = .ok (.istore 12, 2) := dk_54 12 (dk_at dksX16_isDivided_17 4 rfl rfl)
theorem dX16_isDivided_397 : decode cX16_isDivided 397 = .ok (.iload 12, 2) := dk_21 12 (dk_at dksX16_isDivided_17 6 rfl rfl)
theorem dX16_isDivided_399 : decode cX16_isDivided 399 = .ok (.aload 9, 2) := dk_25 9 (dk_at dksX16_isDivided_17 8 rfl rfl)
theorem dX16_isDivided_401 : decode cX16_isDivided 401 = .ok (.getfield 162, 3) := dk_180 0 162 (dk_at dksX16_isDivided_17 10 rfl rfl)
theorem dX16_isDivided_404 : decode cX16_isDivided 404 = .ok (.if_icmp .ge 106, 3) := dk_162 0 106 (dk_at dksX16_isDivided_17 13 rfl rfl)
theorem dX16_isDivided_407 : decode cX16_isDivided 407 = .ok (.iload 11, 2) := dk_21 11 (dk_at dksX16_isDivided_17 16 rfl rfl)
theorem dX16_isDivided_409 : decode cX16_isDivided 409 = .ok (.invokestatic 125, 3) := dk_184 0 125 (dk_at dksX16_isDivided_17 18 rfl rfl)
theorem dX16_isDivided_412 : decode cX16_isDivided 412 = .ok (.aload 9, 2) := dk_25 9 (dk_at dksX16_isDivided_17 21 rfl rfl)
theorem dX16_isDivided_414 : decode cX16_isDivided 414 = .ok (.getfield 167, 3) := dk_180 0 167 (dk_at dksX16_isDivided_18 0 rfl rfl)
theorem dX16_isDivided_417 : decode cX16_isDivided 417 = .ok (.iload 12, 2) := dk_21 12 (dk_at dksX16_isDivided_18 3 rfl rfl)
theorem dX16_isDivided_419 : decode cX16_isDivided 419 = .ok (.iaload, 1) := dk_46 (dk_at dksX16_isDivided_18 5 rfl rfl)
theorem dX16_isDivided_420 : decode cX16_isDivided 420 = .ok (.invokestatic 125, 3) := dk_184 0 125 (dk_at dksX16_isDivided_18 6 rfl rfl)
theorem dX16_isDivided_423 : decode cX16_isDivided 423 = .ok (.iadd, 1) := dk_96 (dk_at dksX16_isDivided_18 9 rfl rfl)
theorem dX16_isDivided_424 : decode cX16_isDivided 424 = .ok (.bipush 12, 2) := dk_16 12 (dk_at dksX16_isDivided_18 10 rfl rfl)
theorem dX16_isDivided_426 : decode cX16_isDivided 426 = .ok (.if_icmp .le 5, 3) := dk_164 0 5 (dk_at dksX16_isDivided_18 12 rfl rfl)
theorem dX16_isDivided_429 : decode cX16_isDivided 429 = .ok (.iconst 0, 1) := dk_3 (dk_at dksX16_isDivided_18 15 rfl rfl)
theorem dX16_isDivided_430 : decode cX16_isDivided 430 = .ok (.ireturn, 1) := dk_172 (dk_at dksX16_isDivided_18 16 rfl rfl)
theorem dX16_isDivided_431 : decode cX16_isDivided 431 = .ok (.aload_n 0, 1) := dk_42 (dk_at dksX16_isDivided_18 17 rfl rfl)
theorem dX16_isDivided_432 : decode cX16_isDivided 432 = .ok (.aload_n 0, 1) := dk_42 (dk_at dksX16_isDivided_18 18 rfl rfl)
theorem dX16_isDivided_433 : decode cX16_isDivided 433 = .ok (.getfield 246, 3) := dk_180 0 246 (dk_at dksX16_isDivided_18 19 rfl rfl)
theorem dX16_isDivided_436 : decode cX16_isDivided 436 = .ok (.aload_n 0, 1) := dk_42 (dk_at dksX16_isDivided_18 22 rfl rfl)
theorem dX16_isDivided_437 : decode cX16_isDivided 437 = .ok (.getfield 266, 3) := dk_180 1 10 (dk_at dksX16_isDivided_19 0 rfl rfl)
theorem dX16_isDivided_440 : decode cX16_isDivided 440 = .ok (.aload 9, 2) := dk_25 9 (dk_at dksX16_isDivided_19 3 rfl rfl)
theorem dX16_isDivided_442 : decode cX16_isDivided 442 = .ok (.getfield 170, 3) := dk_180 0 170 (dk_at dksX16_isDivided_19 5 rfl rfl)
theorem dX16_isDivided_445 : decode cX16_isDivided 445 = .ok (.iload 12, 2) := dk_21 12 (dk_at dksX16_isDivided_19 8 rfl rfl)
theorem dX16_isDivided_447 : decode cX16_isDivided 447 = .ok (.aaload, 1) := dk_50 (dk_at dksX16_isDivided_19 10 rfl rfl)
theorem dX16_isDivided_448 : decode cX16_isDivided 448 = .ok (.invokevirtual 105, 3) := dk_182 0 105 (dk_at dksX16_isDivided_19 11 rfl rfl)
theorem dX16_isDivided_451 : decode cX16_isDivided 451 = .ok (.aload_n 0, 1) := dk_42 (dk_at dksX16_isDivided_19 14 rfl rfl)
theorem dX16_isDivided_452 : decode cX16_isDivided 452 = .ok (.aload_n 0, 1) := dk_42 (dk_at dksX16_isDivided_19 15 rfl rfl)
theorem dX16_isDivided_453 : decode cX16_isDivided 453 = .ok (.getfield 249, 3) := dk_180 0 249 (dk_at dksX16_isDivided_19 16 rfl rfl)
theorem dX16_isDivided_456 : decode cX16_isDivided 456 = .ok (.aload_n 0, 1) := dk_42 (dk_at dksX16_isDivided_19 19 rfl rfl)
theorem dX16_isDivided_457 : decode cX16_isDivided 457 = .ok (.getfield 269, 3) := dk_180 1 13 (dk_at dksX16_isDivided_19 20 rfl rfl)
theorem dX16_isDivided_460 : decode cX16_isDivided 460 = .ok (.aload 9, 2) := dk_25 9 (dk_at dksX16_isDivided_20 0 rfl rfl)
theorem dX16_isDivided_462 : decode cX16_isDivided 462 = .ok (.getfield 171, 3) := dk_180 0 171 (dk_at dksX16_isDivided_20 2 rfl rfl)
theorem dX16_isDivided_465 : decode cX16_isDivided 465 = .ok (.iload 12, 2) := dk_21 12 (dk_at dksX16_isDivided_20 5 rfl rfl)
theorem dX16_isDivided_467 : decode cX16_isDivided 467 = .ok (.aaload, 1) := dk_50 (dk_at dksX16_isDivided_20 7 rfl rfl)
theorem dX16_isDivided_468 : decode cX16_isDivided 468 = .ok (.invokevirtual 105, 3) := dk_182 0 105 (dk_at dksX16_isDivided_20 8 rfl rfl)
theorem dX16_isDivided_471 : decode cX16_isDivided 471 = .ok (.aload_n 0, 1) := dk_42 (dk_at dksX16_isDivided_20 11 rfl rfl)
theorem dX16_isDivided_472 : decode cX16_isDivided 472 = .ok (.aload_n 0, 1) := dk_42 (dk_at dksX16_isDivided_20 12 rfl rfl)
theorem dX16_isDivided_473 : decode cX16_isDivided 473 = .ok (.getfield 230, 3) := dk_180 0 230 (dk_at dksX16_isDivided_20 13 rfl rfl)
theorem dX16_isDivided_476 : decode cX16_isDivided 476 = .ok (.iload 11, 2) := dk_21 11 (dk_at dksX16_isDivided_20 16 rfl rfl)
theorem dX16_isDivided_478 : decode cX16_isDivided 478 = .ok (.aload 9, 2) := dk_25 9 (dk_at dksX16_isDivided_20 18 rfl rfl)
theorem dX16_isDivided_480 : decode cX16_isDivided 480 = .ok (.getfield 167, 3) := dk_180 0 167 (dk_at dksX16_isDivided_20 20 rfl rfl)
theorem dX16_isDivided_483 : decode cX16_isDivided 483 = .ok (.iload 12, 2) := dk_21 12 (dk_at dksX16_isDivided_21 0 rfl rfl)
theorem dX16_isDivided_485 : decode cX16_isDivided 485 = .ok (.iaload, 1) := dk_46 (dk_at dksX16_isDivided_21 2 rfl rfl)
theorem dX16_isDivided_486 : decode cX16_isDivided 486 = .ok (.iadd, 1) := dk_96 (dk_at dksX16_isDivided_21 3 rfl rfl)
theorem dX16_isDivided_487 : decode cX16_isDivided 487 = .ok (.aload_n 0, 1) := dk_42 (dk_at dksX16_isDivided_21 4 rfl rfl)
theorem dX16_isDivided_488 : decode cX16_isDivided 488 = .ok (.getfield 246, 3) := dk_180 0 246 (dk_at dksX16_isDivided_21 5 rfl rfl)
theorem dX16_isDivided_491 : decode cX16_isDivided 491 = .ok (.aload_n 0, 1) := dk_42 (dk_at dksX16_isDivided_21 8 rfl rfl)
theorem dX16_isDivided_492 : decode cX16_isDivided 492 = .ok (.getfield 249, 3) := dk_180 0 249 (dk_at dksX16_isDivided_21 9 rfl rfl)
theorem dX16_isDivided_495 : decode cX16_isDivided 495 = .ok (.iconst (-1), 1) := dk_2 (dk_at dksX16_isDivided_21 12 rfl rfl)
theorem dX16_isDivided_496 : decode cX16_isDivided 496 = .ok (.invokevirtual 172, 3) := dk_182 0 172 (dk_at dksX16_isDivided_21 13 rfl rfl)
theorem dX16_isDivided_499 : decode cX16_isDivided 499 = .ok (.ifCond .ne 5, 3) := dk_154 0 5 (dk_at dksX16_isDivided_21 16 rfl rfl)
theorem dX16_isDivided_502 : decode cX16_isDivided 502 = .ok (.iconst 0, 1) := dk_3 (dk_at dksX16_isDivided_21 19 rfl rfl)
theorem dX16_isDivided_503 : decode cX16_isDivided 503 = .ok (.ireturn, 1) := dk_172 (dk_at dksX16_isDivided_21 20 rfl rfl)
theorem dX16_isDivided_504 : decode cX16_isDivided 504 = .ok (.iinc 12 1, 3) := dk_132 12 1 (dk_at dksX16_isDivided_21 21 rfl rfl)
theorem dX16_isDivided_507 : decode cX16_isDivided 507 = .ok (.goto (-110), 3) := dk_167 255 146 (dk_at dksX16_isDivided_22 0 rfl rfl)
theorem dX16_isDivided_510 : decode cX16_isDivided 510 = .ok (.aload_n 0, 1) := dk_42 (dk_at dksX16_isDivided_22 3 rfl rfl)
theorem dX16_isDivided_511 : decode cX16_isDivided 511 = .ok (.getfield 230, 3) := dk_180 0 230 (dk_at dksX16_isDivided_22 4 rfl rfl)
theorem dX16_isDivided_514 : decode cX16_isDivided 514 = .ok (.invokevirtual 403, 3) := dk_182 1 147 (dk_at dksX16_isDivided_22 7 rfl rfl)
theorem dX16_isDivided_517 : decode cX16_isDivided 517 = .ok (.bipush 60, 2) := dk_16 60 (dk_at dksX16_isDivided_22 10 rfl rfl)
theorem dX16_isDivided_519 : decode cX16_isDivided 519 = .ok (.if_icmp .le 5, 3) := dk_164 0 5 (dk_at dksX16_isDivided_22 12 rfl rfl)
theorem dX16_isDivided_522 : decode cX16_isDivided 522 = .ok (.iconst 0, 1) := dk_3 (dk_at dksX16_isDivided_22 15 rfl rfl)
theorem dX16_isDivided_523 : decode cX16_isDivided 523 = .ok (.ireturn, 1) := dk_172 (dk_at dksX16_isDivided_22 16 rfl rfl)
theorem dX16_isDivided_524 : decode cX16_isDivided 524 = .ok (.aload_n 0, 1) := dk_42 (dk_at dksX16_isDivided_22 17 rfl rfl)
theorem dX16_isDivided_525 : decode cX16_isDivided 525 = .ok (.getfield 230, 3) := dk_180 0 230 (dk_at dksX16_isDivided_22 18 rfl rfl)
theorem dX16_isDivided_528 : decode cX16_isDivided 528 = .ok (.iload_n 3, 1) := dk_29 (dk_at dksX16_isDivided_22 21 rfl rfl)
theorem dX16_isDivided_529 : decode cX16_isDivided 529 = .ok (.iload 4, 2) := dk_21 4 (dk_at dksX16_isDivided_22 22 rfl rfl)
theorem dX16_isDivided_531 : decode cX16_isDivided 531 = .ok (.invokevirtual 501, 3) := dk_182 1 245 (dk_at dksX16_isDivided_23 0 rfl rfl)
theorem dX16_isDivided_534 : decode cX16_isDivided 534 = .ok (.istore 6, 2) := dk_54 6 (dk_at dksX16_isDivided_23 3 rfl rfl)
theorem dX16_isDivided_536 : decode cX16_isDivided 536 = .ok (.goto (-478), 3) := dk_167 254 34 (dk_at dksX16_isDivided_23 5 rfl rfl)
theorem dX16_isDivided_539 : decode cX16_isDivided 539 = .ok (.iconst 1, 1) := dk_4 (dk_at dksX16_isDivided_23 8 rfl rfl)
theorem dX16_isDivided_540 : decode cX16_isDivided 540 = .ok (.ireturn, 1) := dk_172 (dk_at dksX16_isDivided_23 9 rfl rfl)
abbrev cX16_divides : ByteArray := prog_21_method_16_code
def yX16_divides : MethodName := ⟨RX16, "divides", "(II)Z"⟩
def dkwX16_divides_1 : List UInt8 := [163, 0, 20, 26, 5, 184, 0, 119, 27, 5, 184, 0, 119, 163, 0, 7, 4, 167, 0, 4, 3, 172]
abbrev dktX16_divides_1 : List UInt8 := dkwX16_divides_1 ++ []
def dkwX16_divides_0 : List UInt8 := [26, 3, 184, 0, 119, 27, 3, 184, 0, 119, 163, 0, 33, 26, 4, 184, 0, 119, 27, 4, 184, 0, 119]
abbrev dktX16_divides_0 : List UInt8 := dkwX16_divides_0 ++ dktX16_divides_1
theorem dksX16_divides_0 : cX16_divides.data.toList.drop 0 = dktX16_divides_0 := by decide +kernel
theorem dksX16_divides_1 : cX16_divides.data.toList.drop 23 = dktX16_divides_1 := dk_seg dksX16_divides_0 23 rfl rfl
theorem dX16_divides_0 : decode cX16_divides 0 = .ok (.iload_n 0, 1) := dk_26 (dk_at dksX16_divides_0 0 rfl rfl)
theorem dX16_divides_1 : decode cX16_divides 1 = .ok (.iconst 0, 1) := dk_3 (dk_at dksX16_divides_0 1 rfl rfl)
theorem dX16_divides_2 : decode cX16_divides 2 = .ok (.invokestatic 119, 3) := dk_184 0 119 (dk_at dksX16_divides_0 2 rfl rfl)
theorem dX16_divides_5 : decode cX16_divides 5 = .ok (.iload_n 1, 1) := dk_27 (dk_at dksX16_divides_0 5 rfl rfl)
theorem dX16_divides_6 : decode cX16_divides 6 = .ok (.iconst 0, 1) := dk_3 (dk_at dksX16_divides_0 6 rfl rfl)
theorem dX16_divides_7 : decode cX16_divides 7 = .ok (.invokestatic 119, 3) := dk_184 0 119 (dk_at dksX16_divides_0 7 rfl rfl)
theorem dX16_divides_10 : decode cX16_divides 10 = .ok (.if_icmp .gt 33, 3) := dk_163 0 33 (dk_at dksX16_divides_0 10 rfl rfl)
theorem dX16_divides_13 : decode cX16_divides 13 = .ok (.iload_n 0, 1) := dk_26 (dk_at dksX16_divides_0 13 rfl rfl)
theorem dX16_divides_14 : decode cX16_divides 14 = .ok (.iconst 1, 1) := dk_4 (dk_at dksX16_divides_0 14 rfl rfl)
theorem dX16_divides_15 : decode cX16_divides 15 = .ok (.invokestatic 119, 3) := dk_184 0 119 (dk_at dksX16_divides_0 15 rfl rfl)
theorem dX16_divides_18 : decode cX16_divides 18 = .ok (.iload_n 1, 1) := dk_27 (dk_at dksX16_divides_0 18 rfl rfl)
theorem dX16_divides_19 : decode cX16_divides 19 = .ok (.iconst 1, 1) := dk_4 (dk_at dksX16_divides_0 19 rfl rfl)
theorem dX16_divides_20 : decode cX16_divides 20 = .ok (.invokestatic 119, 3) := dk_184 0 119 (dk_at dksX16_divides_0 20 rfl rfl)
theorem dX16_divides_23 : decode cX16_divides 23 = .ok (.if_icmp .gt 20, 3) := dk_163 0 20 (dk_at dksX16_divides_1 0 rfl rfl)
theorem dX16_divides_26 : decode cX16_divides 26 = .ok (.iload_n 0, 1) := dk_26 (dk_at dksX16_divides_1 3 rfl rfl)
theorem dX16_divides_27 : decode cX16_divides 27 = .ok (.iconst 2, 1) := dk_5 (dk_at dksX16_divides_1 4 rfl rfl)
theorem dX16_divides_28 : decode cX16_divides 28 = .ok (.invokestatic 119, 3) := dk_184 0 119 (dk_at dksX16_divides_1 5 rfl rfl)
theorem dX16_divides_31 : decode cX16_divides 31 = .ok (.iload_n 1, 1) := dk_27 (dk_at dksX16_divides_1 8 rfl rfl)
theorem dX16_divides_32 : decode cX16_divides 32 = .ok (.iconst 2, 1) := dk_5 (dk_at dksX16_divides_1 9 rfl rfl)
theorem dX16_divides_33 : decode cX16_divides 33 = .ok (.invokestatic 119, 3) := dk_184 0 119 (dk_at dksX16_divides_1 10 rfl rfl)
theorem dX16_divides_36 : decode cX16_divides 36 = .ok (.if_icmp .gt 7, 3) := dk_163 0 7 (dk_at dksX16_divides_1 13 rfl rfl)
theorem dX16_divides_39 : decode cX16_divides 39 = .ok (.iconst 1, 1) := dk_4 (dk_at dksX16_divides_1 16 rfl rfl)
theorem dX16_divides_40 : decode cX16_divides 40 = .ok (.goto 4, 3) := dk_167 0 4 (dk_at dksX16_divides_1 17 rfl rfl)
theorem dX16_divides_43 : decode cX16_divides 43 = .ok (.iconst 0, 1) := dk_3 (dk_at dksX16_divides_1 20 rfl rfl)
theorem dX16_divides_44 : decode cX16_divides 44 = .ok (.ireturn, 1) := dk_172 (dk_at dksX16_divides_1 21 rfl rfl)
abbrev cX16_insert : ByteArray := prog_21_method_50_code
def yX16_insert : MethodName := ⟨RX16, "insert", "(LIdealCourtModel$Poly;ILIdealCourtModel$Num;LIdealCourtModel$Num;)V"⟩
def dkwX16_insert_5 : List UInt8 := [89, 180, 0, 162, 4, 96, 181, 0, 162, 177]
abbrev dktX16_insert_5 : List UInt8 := dkwX16_insert_5 ++ []
def dkwX16_insert_4 : List UInt8 := [79, 42, 180, 0, 170, 21, 4, 50, 44, 182, 0, 18, 42, 180, 0, 171, 21, 4, 50, 45, 182, 0, 18, 42]
abbrev dktX16_insert_4 : List UInt8 := dkwX16_insert_4 ++ dktX16_insert_5
def dkwX16_insert_3 : List UInt8 := [180, 0, 171, 21, 4, 4, 100, 50, 182, 0, 18, 132, 4, 255, 167, 255, 178, 42, 180, 0, 167, 21, 4, 27]
abbrev dktX16_insert_3 : List UInt8 := dkwX16_insert_3 ++ dktX16_insert_4
def dkwX16_insert_2 : List UInt8 := [21, 4, 50, 42, 180, 0, 170, 21, 4, 4, 100, 50, 182, 0, 18, 42, 180, 0, 171, 21, 4, 50, 42]
abbrev dktX16_insert_2 : List UInt8 := dkwX16_insert_2 ++ dktX16_insert_3
def dkwX16_insert_1 : List UInt8 := [156, 0, 63, 42, 180, 0, 167, 21, 4, 42, 180, 0, 167, 21, 4, 4, 100, 46, 79, 42, 180, 0, 170]
abbrev dktX16_insert_1 : List UInt8 := dkwX16_insert_1 ++ dktX16_insert_2
def dkwX16_insert_0 : List UInt8 := [42, 180, 0, 162, 54, 4, 21, 4, 158, 0, 79, 42, 180, 0, 167, 21, 4, 4, 100, 46, 27, 184, 0, 122]
abbrev dktX16_insert_0 : List UInt8 := dkwX16_insert_0 ++ dktX16_insert_1
theorem dksX16_insert_0 : cX16_insert.data.toList.drop 0 = dktX16_insert_0 := by decide +kernel
theorem dksX16_insert_1 : cX16_insert.data.toList.drop 24 = dktX16_insert_1 := dk_seg dksX16_insert_0 24 rfl rfl
theorem dksX16_insert_2 : cX16_insert.data.toList.drop 47 = dktX16_insert_2 := dk_seg dksX16_insert_1 23 rfl rfl
theorem dksX16_insert_3 : cX16_insert.data.toList.drop 70 = dktX16_insert_3 := dk_seg dksX16_insert_2 23 rfl rfl
theorem dksX16_insert_4 : cX16_insert.data.toList.drop 94 = dktX16_insert_4 := dk_seg dksX16_insert_3 24 rfl rfl
theorem dksX16_insert_5 : cX16_insert.data.toList.drop 118 = dktX16_insert_5 := dk_seg dksX16_insert_4 24 rfl rfl
theorem dX16_insert_0 : decode cX16_insert 0 = .ok (.aload_n 0, 1) := dk_42 (dk_at dksX16_insert_0 0 rfl rfl)
theorem dX16_insert_1 : decode cX16_insert 1 = .ok (.getfield 162, 3) := dk_180 0 162 (dk_at dksX16_insert_0 1 rfl rfl)
theorem dX16_insert_4 : decode cX16_insert 4 = .ok (.istore 4, 2) := dk_54 4 (dk_at dksX16_insert_0 4 rfl rfl)
theorem dX16_insert_6 : decode cX16_insert 6 = .ok (.iload 4, 2) := dk_21 4 (dk_at dksX16_insert_0 6 rfl rfl)
theorem dX16_insert_8 : decode cX16_insert 8 = .ok (.ifCond .le 79, 3) := dk_158 0 79 (dk_at dksX16_insert_0 8 rfl rfl)
theorem dX16_insert_11 : decode cX16_insert 11 = .ok (.aload_n 0, 1) := dk_42 (dk_at dksX16_insert_0 11 rfl rfl)
theorem dX16_insert_12 : decode cX16_insert 12 = .ok (.getfield 167, 3) := dk_180 0 167 (dk_at dksX16_insert_0 12 rfl rfl)
theorem dX16_insert_15 : decode cX16_insert 15 = .ok (.iload 4, 2) := dk_21 4 (dk_at dksX16_insert_0 15 rfl rfl)
theorem dX16_insert_17 : decode cX16_insert 17 = .ok (.iconst 1, 1) := dk_4 (dk_at dksX16_insert_0 17 rfl rfl)
theorem dX16_insert_18 : decode cX16_insert 18 = .ok (.isub, 1) := dk_100 (dk_at dksX16_insert_0 18 rfl rfl)
theorem dX16_insert_19 : decode cX16_insert 19 = .ok (.iaload, 1) := dk_46 (dk_at dksX16_insert_0 19 rfl rfl)
theorem dX16_insert_20 : decode cX16_insert 20 = .ok (.iload_n 1, 1) := dk_27 (dk_at dksX16_insert_0 20 rfl rfl)
theorem dX16_insert_21 : decode cX16_insert 21 = .ok (.invokestatic 122, 3) := dk_184 0 122 (dk_at dksX16_insert_0 21 rfl rfl)
theorem dX16_insert_24 : decode cX16_insert 24 = .ok (.ifCond .ge 63, 3) := dk_156 0 63 (dk_at dksX16_insert_1 0 rfl rfl)
theorem dX16_insert_27 : decode cX16_insert 27 = .ok (.aload_n 0, 1) := dk_42 (dk_at dksX16_insert_1 3 rfl rfl)
theorem dX16_insert_28 : decode cX16_insert 28 = .ok (.getfield 167, 3) := dk_180 0 167 (dk_at dksX16_insert_1 4 rfl rfl)
theorem dX16_insert_31 : decode cX16_insert 31 = .ok (.iload 4, 2) := dk_21 4 (dk_at dksX16_insert_1 7 rfl rfl)
theorem dX16_insert_33 : decode cX16_insert 33 = .ok (.aload_n 0, 1) := dk_42 (dk_at dksX16_insert_1 9 rfl rfl)
theorem dX16_insert_34 : decode cX16_insert 34 = .ok (.getfield 167, 3) := dk_180 0 167 (dk_at dksX16_insert_1 10 rfl rfl)
theorem dX16_insert_37 : decode cX16_insert 37 = .ok (.iload 4, 2) := dk_21 4 (dk_at dksX16_insert_1 13 rfl rfl)
theorem dX16_insert_39 : decode cX16_insert 39 = .ok (.iconst 1, 1) := dk_4 (dk_at dksX16_insert_1 15 rfl rfl)
theorem dX16_insert_40 : decode cX16_insert 40 = .ok (.isub, 1) := dk_100 (dk_at dksX16_insert_1 16 rfl rfl)
theorem dX16_insert_41 : decode cX16_insert 41 = .ok (.iaload, 1) := dk_46 (dk_at dksX16_insert_1 17 rfl rfl)
theorem dX16_insert_42 : decode cX16_insert 42 = .ok (.iastore, 1) := dk_79 (dk_at dksX16_insert_1 18 rfl rfl)
theorem dX16_insert_43 : decode cX16_insert 43 = .ok (.aload_n 0, 1) := dk_42 (dk_at dksX16_insert_1 19 rfl rfl)
theorem dX16_insert_44 : decode cX16_insert 44 = .ok (.getfield 170, 3) := dk_180 0 170 (dk_at dksX16_insert_1 20 rfl rfl)
theorem dX16_insert_47 : decode cX16_insert 47 = .ok (.iload 4, 2) := dk_21 4 (dk_at dksX16_insert_2 0 rfl rfl)
theorem dX16_insert_49 : decode cX16_insert 49 = .ok (.aaload, 1) := dk_50 (dk_at dksX16_insert_2 2 rfl rfl)
theorem dX16_insert_50 : decode cX16_insert 50 = .ok (.aload_n 0, 1) := dk_42 (dk_at dksX16_insert_2 3 rfl rfl)
theorem dX16_insert_51 : decode cX16_insert 51 = .ok (.getfield 170, 3) := dk_180 0 170 (dk_at dksX16_insert_2 4 rfl rfl)
theorem dX16_insert_54 : decode cX16_insert 54 = .ok (.iload 4, 2) := dk_21 4 (dk_at dksX16_insert_2 7 rfl rfl)
theorem dX16_insert_56 : decode cX16_insert 56 = .ok (.iconst 1, 1) := dk_4 (dk_at dksX16_insert_2 9 rfl rfl)
theorem dX16_insert_57 : decode cX16_insert 57 = .ok (.isub, 1) := dk_100 (dk_at dksX16_insert_2 10 rfl rfl)
theorem dX16_insert_58 : decode cX16_insert 58 = .ok (.aaload, 1) := dk_50 (dk_at dksX16_insert_2 11 rfl rfl)
theorem dX16_insert_59 : decode cX16_insert 59 = .ok (.invokevirtual 18, 3) := dk_182 0 18 (dk_at dksX16_insert_2 12 rfl rfl)
theorem dX16_insert_62 : decode cX16_insert 62 = .ok (.aload_n 0, 1) := dk_42 (dk_at dksX16_insert_2 15 rfl rfl)
theorem dX16_insert_63 : decode cX16_insert 63 = .ok (.getfield 171, 3) := dk_180 0 171 (dk_at dksX16_insert_2 16 rfl rfl)
theorem dX16_insert_66 : decode cX16_insert 66 = .ok (.iload 4, 2) := dk_21 4 (dk_at dksX16_insert_2 19 rfl rfl)
theorem dX16_insert_68 : decode cX16_insert 68 = .ok (.aaload, 1) := dk_50 (dk_at dksX16_insert_2 21 rfl rfl)
theorem dX16_insert_69 : decode cX16_insert 69 = .ok (.aload_n 0, 1) := dk_42 (dk_at dksX16_insert_2 22 rfl rfl)
theorem dX16_insert_70 : decode cX16_insert 70 = .ok (.getfield 171, 3) := dk_180 0 171 (dk_at dksX16_insert_3 0 rfl rfl)
theorem dX16_insert_73 : decode cX16_insert 73 = .ok (.iload 4, 2) := dk_21 4 (dk_at dksX16_insert_3 3 rfl rfl)
theorem dX16_insert_75 : decode cX16_insert 75 = .ok (.iconst 1, 1) := dk_4 (dk_at dksX16_insert_3 5 rfl rfl)
theorem dX16_insert_76 : decode cX16_insert 76 = .ok (.isub, 1) := dk_100 (dk_at dksX16_insert_3 6 rfl rfl)
theorem dX16_insert_77 : decode cX16_insert 77 = .ok (.aaload, 1) := dk_50 (dk_at dksX16_insert_3 7 rfl rfl)
theorem dX16_insert_78 : decode cX16_insert 78 = .ok (.invokevirtual 18, 3) := dk_182 0 18 (dk_at dksX16_insert_3 8 rfl rfl)
theorem dX16_insert_81 : decode cX16_insert 81 = .ok (.iinc 4 (-1), 3) := dk_132 4 255 (dk_at dksX16_insert_3 11 rfl rfl)
theorem dX16_insert_84 : decode cX16_insert 84 = .ok (.goto (-78), 3) := dk_167 255 178 (dk_at dksX16_insert_3 14 rfl rfl)
theorem dX16_insert_87 : decode cX16_insert 87 = .ok (.aload_n 0, 1) := dk_42 (dk_at dksX16_insert_3 17 rfl rfl)
theorem dX16_insert_88 : decode cX16_insert 88 = .ok (.getfield 167, 3) := dk_180 0 167 (dk_at dksX16_insert_3 18 rfl rfl)
theorem dX16_insert_91 : decode cX16_insert 91 = .ok (.iload 4, 2) := dk_21 4 (dk_at dksX16_insert_3 21 rfl rfl)
theorem dX16_insert_93 : decode cX16_insert 93 = .ok (.iload_n 1, 1) := dk_27 (dk_at dksX16_insert_3 23 rfl rfl)
theorem dX16_insert_94 : decode cX16_insert 94 = .ok (.iastore, 1) := dk_79 (dk_at dksX16_insert_4 0 rfl rfl)
theorem dX16_insert_95 : decode cX16_insert 95 = .ok (.aload_n 0, 1) := dk_42 (dk_at dksX16_insert_4 1 rfl rfl)
theorem dX16_insert_96 : decode cX16_insert 96 = .ok (.getfield 170, 3) := dk_180 0 170 (dk_at dksX16_insert_4 2 rfl rfl)
theorem dX16_insert_99 : decode cX16_insert 99 = .ok (.iload 4, 2) := dk_21 4 (dk_at dksX16_insert_4 5 rfl rfl)
theorem dX16_insert_101 : decode cX16_insert 101 = .ok (.aaload, 1) := dk_50 (dk_at dksX16_insert_4 7 rfl rfl)
theorem dX16_insert_102 : decode cX16_insert 102 = .ok (.aload_n 2, 1) := dk_44 (dk_at dksX16_insert_4 8 rfl rfl)
theorem dX16_insert_103 : decode cX16_insert 103 = .ok (.invokevirtual 18, 3) := dk_182 0 18 (dk_at dksX16_insert_4 9 rfl rfl)
theorem dX16_insert_106 : decode cX16_insert 106 = .ok (.aload_n 0, 1) := dk_42 (dk_at dksX16_insert_4 12 rfl rfl)
theorem dX16_insert_107 : decode cX16_insert 107 = .ok (.getfield 171, 3) := dk_180 0 171 (dk_at dksX16_insert_4 13 rfl rfl)
theorem dX16_insert_110 : decode cX16_insert 110 = .ok (.iload 4, 2) := dk_21 4 (dk_at dksX16_insert_4 16 rfl rfl)
theorem dX16_insert_112 : decode cX16_insert 112 = .ok (.aaload, 1) := dk_50 (dk_at dksX16_insert_4 18 rfl rfl)
theorem dX16_insert_113 : decode cX16_insert 113 = .ok (.aload_n 3, 1) := dk_45 (dk_at dksX16_insert_4 19 rfl rfl)
theorem dX16_insert_114 : decode cX16_insert 114 = .ok (.invokevirtual 18, 3) := dk_182 0 18 (dk_at dksX16_insert_4 20 rfl rfl)
theorem dX16_insert_117 : decode cX16_insert 117 = .ok (.aload_n 0, 1) := dk_42 (dk_at dksX16_insert_4 23 rfl rfl)
theorem dX16_insert_118 : decode cX16_insert 118 = .ok (.dup, 1) := dk_89 (dk_at dksX16_insert_5 0 rfl rfl)
theorem dX16_insert_119 : decode cX16_insert 119 = .ok (.getfield 162, 3) := dk_180 0 162 (dk_at dksX16_insert_5 1 rfl rfl)
theorem dX16_insert_122 : decode cX16_insert 122 = .ok (.iconst 1, 1) := dk_4 (dk_at dksX16_insert_5 4 rfl rfl)
theorem dX16_insert_123 : decode cX16_insert 123 = .ok (.iadd, 1) := dk_96 (dk_at dksX16_insert_5 5 rfl rfl)
theorem dX16_insert_124 : decode cX16_insert 124 = .ok (.putfield 162, 3) := dk_181 0 162 (dk_at dksX16_insert_5 6 rfl rfl)
theorem dX16_insert_127 : decode cX16_insert 127 = .ok (.return_, 1) := dk_177 (dk_at dksX16_insert_5 9 rfl rfl)
abbrev cX16_quotient : ByteArray := prog_21_method_53_code
def yX16_quotient : MethodName := ⟨RX16, "quotient", "(II)I"⟩
def dkwX16_quotient_2 : List UInt8 := [172]
abbrev dktX16_quotient_2 : List UInt8 := dkwX16_quotient_2 ++ []
def dkwX16_quotient_1 : List UInt8 := [156, 0, 7, 29, 167, 0, 5, 16, 249, 182, 1, 151, 172, 42, 28, 42, 180, 0, 218, 27, 50, 182, 1, 157]
abbrev dktX16_quotient_1 : List UInt8 := dkwX16_quotient_1 ++ dktX16_quotient_2
def dkwX16_quotient_0 : List UInt8 := [42, 28, 182, 1, 161, 62, 29, 155, 0, 15, 27, 155, 0, 11, 27, 42, 180, 2, 7, 161, 0, 18, 42, 29]
abbrev dktX16_quotient_0 : List UInt8 := dkwX16_quotient_0 ++ dktX16_quotient_1
theorem dksX16_quotient_0 : cX16_quotient.data.toList.drop 0 = dktX16_quotient_0 := by decide +kernel
theorem dksX16_quotient_1 : cX16_quotient.data.toList.drop 24 = dktX16_quotient_1 := dk_seg dksX16_quotient_0 24 rfl rfl
theorem dksX16_quotient_2 : cX16_quotient.data.toList.drop 48 = dktX16_quotient_2 := dk_seg dksX16_quotient_1 24 rfl rfl
theorem dX16_quotient_0 : decode cX16_quotient 0 = .ok (.aload_n 0, 1) := dk_42 (dk_at dksX16_quotient_0 0 rfl rfl)
theorem dX16_quotient_1 : decode cX16_quotient 1 = .ok (.iload_n 2, 1) := dk_28 (dk_at dksX16_quotient_0 1 rfl rfl)
theorem dX16_quotient_2 : decode cX16_quotient 2 = .ok (.invokevirtual 417, 3) := dk_182 1 161 (dk_at dksX16_quotient_0 2 rfl rfl)
theorem dX16_quotient_5 : decode cX16_quotient 5 = .ok (.istore_n 3, 1) := dk_62 (dk_at dksX16_quotient_0 5 rfl rfl)
theorem dX16_quotient_6 : decode cX16_quotient 6 = .ok (.iload_n 3, 1) := dk_29 (dk_at dksX16_quotient_0 6 rfl rfl)
theorem dX16_quotient_7 : decode cX16_quotient 7 = .ok (.ifCond .lt 15, 3) := dk_155 0 15 (dk_at dksX16_quotient_0 7 rfl rfl)
theorem dX16_quotient_10 : decode cX16_quotient 10 = .ok (.iload_n 1, 1) := dk_27 (dk_at dksX16_quotient_0 10 rfl rfl)
theorem dX16_quotient_11 : decode cX16_quotient 11 = .ok (.ifCond .lt 11, 3) := dk_155 0 11 (dk_at dksX16_quotient_0 11 rfl rfl)
theorem dX16_quotient_14 : decode cX16_quotient 14 = .ok (.iload_n 1, 1) := dk_27 (dk_at dksX16_quotient_0 14 rfl rfl)
theorem dX16_quotient_15 : decode cX16_quotient 15 = .ok (.aload_n 0, 1) := dk_42 (dk_at dksX16_quotient_0 15 rfl rfl)
theorem dX16_quotient_16 : decode cX16_quotient 16 = .ok (.getfield 519, 3) := dk_180 2 7 (dk_at dksX16_quotient_0 16 rfl rfl)
theorem dX16_quotient_19 : decode cX16_quotient 19 = .ok (.if_icmp .lt 18, 3) := dk_161 0 18 (dk_at dksX16_quotient_0 19 rfl rfl)
theorem dX16_quotient_22 : decode cX16_quotient 22 = .ok (.aload_n 0, 1) := dk_42 (dk_at dksX16_quotient_0 22 rfl rfl)
theorem dX16_quotient_23 : decode cX16_quotient 23 = .ok (.iload_n 3, 1) := dk_29 (dk_at dksX16_quotient_0 23 rfl rfl)
theorem dX16_quotient_24 : decode cX16_quotient 24 = .ok (.ifCond .ge 7, 3) := dk_156 0 7 (dk_at dksX16_quotient_1 0 rfl rfl)
theorem dX16_quotient_27 : decode cX16_quotient 27 = .ok (.iload_n 3, 1) := dk_29 (dk_at dksX16_quotient_1 3 rfl rfl)
theorem dX16_quotient_28 : decode cX16_quotient 28 = .ok (.goto 5, 3) := dk_167 0 5 (dk_at dksX16_quotient_1 4 rfl rfl)
theorem dX16_quotient_31 : decode cX16_quotient 31 = .ok (.bipush (-7), 2) := dk_16 249 (dk_at dksX16_quotient_1 7 rfl rfl)
theorem dX16_quotient_33 : decode cX16_quotient 33 = .ok (.invokevirtual 407, 3) := dk_182 1 151 (dk_at dksX16_quotient_1 9 rfl rfl)
theorem dX16_quotient_36 : decode cX16_quotient 36 = .ok (.ireturn, 1) := dk_172 (dk_at dksX16_quotient_1 12 rfl rfl)
theorem dX16_quotient_37 : decode cX16_quotient 37 = .ok (.aload_n 0, 1) := dk_42 (dk_at dksX16_quotient_1 13 rfl rfl)
theorem dX16_quotient_38 : decode cX16_quotient 38 = .ok (.iload_n 2, 1) := dk_28 (dk_at dksX16_quotient_1 14 rfl rfl)
theorem dX16_quotient_39 : decode cX16_quotient 39 = .ok (.aload_n 0, 1) := dk_42 (dk_at dksX16_quotient_1 15 rfl rfl)
theorem dX16_quotient_40 : decode cX16_quotient 40 = .ok (.getfield 218, 3) := dk_180 0 218 (dk_at dksX16_quotient_1 16 rfl rfl)
theorem dX16_quotient_43 : decode cX16_quotient 43 = .ok (.iload_n 1, 1) := dk_27 (dk_at dksX16_quotient_1 19 rfl rfl)
theorem dX16_quotient_44 : decode cX16_quotient 44 = .ok (.aaload, 1) := dk_50 (dk_at dksX16_quotient_1 20 rfl rfl)
theorem dX16_quotient_45 : decode cX16_quotient 45 = .ok (.invokevirtual 413, 3) := dk_182 1 157 (dk_at dksX16_quotient_1 21 rfl rfl)
theorem dX16_quotient_48 : decode cX16_quotient 48 = .ok (.ireturn, 1) := dk_172 (dk_at dksX16_quotient_2 0 rfl rfl)
abbrev cX16_rest : ByteArray := prog_21_method_54_code
def yX16_rest : MethodName := ⟨RX16, "rest", "(I)I"⟩
def dkwX16_rest_1 : List UInt8 := [167, 0, 5, 16, 249, 182, 1, 151, 172, 42, 27, 42, 180, 0, 222, 182, 1, 157, 172]
abbrev dktX16_rest_1 : List UInt8 := dkwX16_rest_1 ++ []
def dkwX16_rest_0 : List UInt8 := [42, 27, 182, 1, 161, 61, 28, 155, 0, 10, 42, 180, 2, 3, 154, 0, 18, 42, 28, 156, 0, 7, 28]
abbrev dktX16_rest_0 : List UInt8 := dkwX16_rest_0 ++ dktX16_rest_1
theorem dksX16_rest_0 : cX16_rest.data.toList.drop 0 = dktX16_rest_0 := by decide +kernel
theorem dksX16_rest_1 : cX16_rest.data.toList.drop 23 = dktX16_rest_1 := dk_seg dksX16_rest_0 23 rfl rfl
theorem dX16_rest_0 : decode cX16_rest 0 = .ok (.aload_n 0, 1) := dk_42 (dk_at dksX16_rest_0 0 rfl rfl)
theorem dX16_rest_1 : decode cX16_rest 1 = .ok (.iload_n 1, 1) := dk_27 (dk_at dksX16_rest_0 1 rfl rfl)
theorem dX16_rest_2 : decode cX16_rest 2 = .ok (.invokevirtual 417, 3) := dk_182 1 161 (dk_at dksX16_rest_0 2 rfl rfl)
theorem dX16_rest_5 : decode cX16_rest 5 = .ok (.istore_n 2, 1) := dk_61 (dk_at dksX16_rest_0 5 rfl rfl)
theorem dX16_rest_6 : decode cX16_rest 6 = .ok (.iload_n 2, 1) := dk_28 (dk_at dksX16_rest_0 6 rfl rfl)
theorem dX16_rest_7 : decode cX16_rest 7 = .ok (.ifCond .lt 10, 3) := dk_155 0 10 (dk_at dksX16_rest_0 7 rfl rfl)
theorem dX16_rest_10 : decode cX16_rest 10 = .ok (.aload_n 0, 1) := dk_42 (dk_at dksX16_rest_0 10 rfl rfl)
theorem dX16_rest_11 : decode cX16_rest 11 = .ok (.getfield 515, 3) := dk_180 2 3 (dk_at dksX16_rest_0 11 rfl rfl)
theorem dX16_rest_14 : decode cX16_rest 14 = .ok (.ifCond .ne 18, 3) := dk_154 0 18 (dk_at dksX16_rest_0 14 rfl rfl)
theorem dX16_rest_17 : decode cX16_rest 17 = .ok (.aload_n 0, 1) := dk_42 (dk_at dksX16_rest_0 17 rfl rfl)
theorem dX16_rest_18 : decode cX16_rest 18 = .ok (.iload_n 2, 1) := dk_28 (dk_at dksX16_rest_0 18 rfl rfl)
theorem dX16_rest_19 : decode cX16_rest 19 = .ok (.ifCond .ge 7, 3) := dk_156 0 7 (dk_at dksX16_rest_0 19 rfl rfl)
theorem dX16_rest_22 : decode cX16_rest 22 = .ok (.iload_n 2, 1) := dk_28 (dk_at dksX16_rest_0 22 rfl rfl)
theorem dX16_rest_23 : decode cX16_rest 23 = .ok (.goto 5, 3) := dk_167 0 5 (dk_at dksX16_rest_1 0 rfl rfl)
theorem dX16_rest_26 : decode cX16_rest 26 = .ok (.bipush (-7), 2) := dk_16 249 (dk_at dksX16_rest_1 3 rfl rfl)
theorem dX16_rest_28 : decode cX16_rest 28 = .ok (.invokevirtual 407, 3) := dk_182 1 151 (dk_at dksX16_rest_1 5 rfl rfl)
theorem dX16_rest_31 : decode cX16_rest 31 = .ok (.ireturn, 1) := dk_172 (dk_at dksX16_rest_1 8 rfl rfl)
theorem dX16_rest_32 : decode cX16_rest 32 = .ok (.aload_n 0, 1) := dk_42 (dk_at dksX16_rest_1 9 rfl rfl)
theorem dX16_rest_33 : decode cX16_rest 33 = .ok (.iload_n 1, 1) := dk_27 (dk_at dksX16_rest_1 10 rfl rfl)
theorem dX16_rest_34 : decode cX16_rest 34 = .ok (.aload_n 0, 1) := dk_42 (dk_at dksX16_rest_1 11 rfl rfl)
theorem dX16_rest_35 : decode cX16_rest 35 = .ok (.getfield 222, 3) := dk_180 0 222 (dk_at dksX16_rest_1 12 rfl rfl)
theorem dX16_rest_38 : decode cX16_rest 38 = .ok (.invokevirtual 413, 3) := dk_182 1 157 (dk_at dksX16_rest_1 15 rfl rfl)
theorem dX16_rest_41 : decode cX16_rest 41 = .ok (.ireturn, 1) := dk_172 (dk_at dksX16_rest_1 18 rfl rfl)
abbrev cX16_ideal : ByteArray := prog_21_method_55_code
def yX16_ideal : MethodName := ⟨RX16, "ideal", "(I)I"⟩
def dkwX16_ideal_7 : List UInt8 := [181, 2, 13, 42, 180, 2, 13, 172]
abbrev dktX16_ideal_7 : List UInt8 := dkwX16_ideal_7 ++ []
def dkwX16_ideal_6 : List UInt8 := [180, 0, 170, 21, 4, 50, 182, 0, 75, 136, 79, 132, 4, 1, 167, 255, 196, 42, 89, 180, 2, 13, 4, 96]
abbrev dktX16_ideal_6 : List UInt8 := dkwX16_ideal_6 ++ dktX16_ideal_7
def dkwX16_ideal_5 : List UInt8 := [180, 0, 167, 21, 4, 46, 79, 42, 180, 0, 243, 16, 12, 42, 180, 2, 13, 104, 21, 4, 96, 45]
abbrev dktX16_ideal_5 : List UInt8 := dkwX16_ideal_5 ++ dktX16_ideal_6
def dkwX16_ideal_4 : List UInt8 := [21, 4, 45, 180, 0, 162, 162, 0, 57, 42, 180, 0, 240, 16, 12, 42, 180, 2, 13, 104, 21, 4, 96, 45]
abbrev dktX16_ideal_4 : List UInt8 := dkwX16_ideal_4 ++ dktX16_ideal_5
def dkwX16_ideal_3 : List UInt8 := [42, 16, 250, 182, 1, 151, 172, 42, 180, 0, 237, 42, 180, 2, 13, 45, 180, 0, 162, 79, 3, 54, 4]
abbrev dktX16_ideal_3 : List UInt8 := dkwX16_ideal_3 ++ dktX16_ideal_4
def dkwX16_ideal_2 : List UInt8 := [182, 1, 185, 7, 163, 0, 20, 45, 16, 99, 182, 2, 10, 153, 0, 11, 42, 180, 2, 13, 7, 160, 0, 10]
abbrev dktX16_ideal_2 : List UInt8 := dkwX16_ideal_2 ++ dktX16_ideal_3
def dkwX16_ideal_1 : List UInt8 := [45, 180, 0, 162, 154, 0, 10, 42, 16, 251, 182, 1, 151, 172, 45, 180, 0, 162, 16, 12, 163, 0, 28, 45]
abbrev dktX16_ideal_1 : List UInt8 := dkwX16_ideal_1 ++ dktX16_ideal_2
def dkwX16_ideal_0 : List UInt8 := [42, 27, 4, 182, 1, 164, 61, 28, 156, 0, 9, 42, 28, 182, 1, 151, 172, 42, 180, 0, 184, 27, 50, 78]
abbrev dktX16_ideal_0 : List UInt8 := dkwX16_ideal_0 ++ dktX16_ideal_1
theorem dksX16_ideal_0 : cX16_ideal.data.toList.drop 0 = dktX16_ideal_0 := by decide +kernel
theorem dksX16_ideal_1 : cX16_ideal.data.toList.drop 24 = dktX16_ideal_1 := dk_seg dksX16_ideal_0 24 rfl rfl
theorem dksX16_ideal_2 : cX16_ideal.data.toList.drop 48 = dktX16_ideal_2 := dk_seg dksX16_ideal_1 24 rfl rfl
theorem dksX16_ideal_3 : cX16_ideal.data.toList.drop 72 = dktX16_ideal_3 := dk_seg dksX16_ideal_2 24 rfl rfl
theorem dksX16_ideal_4 : cX16_ideal.data.toList.drop 95 = dktX16_ideal_4 := dk_seg dksX16_ideal_3 23 rfl rfl
theorem dksX16_ideal_5 : cX16_ideal.data.toList.drop 119 = dktX16_ideal_5 := dk_seg dksX16_ideal_4 24 rfl rfl
theorem dksX16_ideal_6 : cX16_ideal.data.toList.drop 141 = dktX16_ideal_6 := dk_seg dksX16_ideal_5 22 rfl rfl
theorem dksX16_ideal_7 : cX16_ideal.data.toList.drop 165 = dktX16_ideal_7 := dk_seg dksX16_ideal_6 24 rfl rfl
theorem dX16_ideal_0 : decode cX16_ideal 0 = .ok (.aload_n 0, 1) := dk_42 (dk_at dksX16_ideal_0 0 rfl rfl)
theorem dX16_ideal_1 : decode cX16_ideal 1 = .ok (.iload_n 1, 1) := dk_27 (dk_at dksX16_ideal_0 1 rfl rfl)
theorem dX16_ideal_2 : decode cX16_ideal 2 = .ok (.iconst 1, 1) := dk_4 (dk_at dksX16_ideal_0 2 rfl rfl)
theorem dX16_ideal_3 : decode cX16_ideal 3 = .ok (.invokevirtual 420, 3) := dk_182 1 164 (dk_at dksX16_ideal_0 3 rfl rfl)
theorem dX16_ideal_6 : decode cX16_ideal 6 = .ok (.istore_n 2, 1) := dk_61 (dk_at dksX16_ideal_0 6 rfl rfl)
theorem dX16_ideal_7 : decode cX16_ideal 7 = .ok (.iload_n 2, 1) := dk_28 (dk_at dksX16_ideal_0 7 rfl rfl)
theorem dX16_ideal_8 : decode cX16_ideal 8 = .ok (.ifCond .ge 9, 3) := dk_156 0 9 (dk_at dksX16_ideal_0 8 rfl rfl)
theorem dX16_ideal_11 : decode cX16_ideal 11 = .ok (.aload_n 0, 1) := dk_42 (dk_at dksX16_ideal_0 11 rfl rfl)
theorem dX16_ideal_12 : decode cX16_ideal 12 = .ok (.iload_n 2, 1) := dk_28 (dk_at dksX16_ideal_0 12 rfl rfl)
theorem dX16_ideal_13 : decode cX16_ideal 13 = .ok (.invokevirtual 407, 3) := dk_182 1 151 (dk_at dksX16_ideal_0 13 rfl rfl)
theorem dX16_ideal_16 : decode cX16_ideal 16 = .ok (.ireturn, 1) := dk_172 (dk_at dksX16_ideal_0 16 rfl rfl)
theorem dX16_ideal_17 : decode cX16_ideal 17 = .ok (.aload_n 0, 1) := dk_42 (dk_at dksX16_ideal_0 17 rfl rfl)
theorem dX16_ideal_18 : decode cX16_ideal 18 = .ok (.getfield 184, 3) := dk_180 0 184 (dk_at dksX16_ideal_0 18 rfl rfl)
theorem dX16_ideal_21 : decode cX16_ideal 21 = .ok (.iload_n 1, 1) := dk_27 (dk_at dksX16_ideal_0 21 rfl rfl)
theorem dX16_ideal_22 : decode cX16_ideal 22 = .ok (.aaload, 1) := dk_50 (dk_at dksX16_ideal_0 22 rfl rfl)
theorem dX16_ideal_23 : decode cX16_ideal 23 = .ok (.astore_n 3, 1) := dk_78 (dk_at dksX16_ideal_0 23 rfl rfl)
theorem dX16_ideal_24 : decode cX16_ideal 24 = .ok (.aload_n 3, 1) := dk_45 (dk_at dksX16_ideal_1 0 rfl rfl)
theorem dX16_ideal_25 : decode cX16_ideal 25 = .ok (.getfield 162, 3) := dk_180 0 162 (dk_at dksX16_ideal_1 1 rfl rfl)
theorem dX16_ideal_28 : decode cX16_ideal 28 = .ok (.ifCond .ne 10, 3) := dk_154 0 10 (dk_at dksX16_ideal_1 4 rfl rfl)
theorem dX16_ideal_31 : decode cX16_ideal 31 = .ok (.aload_n 0, 1) := dk_42 (dk_at dksX16_ideal_1 7 rfl rfl)
theorem dX16_ideal_32 : decode cX16_ideal 32 = .ok (.bipush (-5), 2) := dk_16 251 (dk_at dksX16_ideal_1 8 rfl rfl)
theorem dX16_ideal_34 : decode cX16_ideal 34 = .ok (.invokevirtual 407, 3) := dk_182 1 151 (dk_at dksX16_ideal_1 10 rfl rfl)
theorem dX16_ideal_37 : decode cX16_ideal 37 = .ok (.ireturn, 1) := dk_172 (dk_at dksX16_ideal_1 13 rfl rfl)
theorem dX16_ideal_38 : decode cX16_ideal 38 = .ok (.aload_n 3, 1) := dk_45 (dk_at dksX16_ideal_1 14 rfl rfl)
theorem dX16_ideal_39 : decode cX16_ideal 39 = .ok (.getfield 162, 3) := dk_180 0 162 (dk_at dksX16_ideal_1 15 rfl rfl)
theorem dX16_ideal_42 : decode cX16_ideal 42 = .ok (.bipush 12, 2) := dk_16 12 (dk_at dksX16_ideal_1 18 rfl rfl)
theorem dX16_ideal_44 : decode cX16_ideal 44 = .ok (.if_icmp .gt 28, 3) := dk_163 0 28 (dk_at dksX16_ideal_1 20 rfl rfl)
theorem dX16_ideal_47 : decode cX16_ideal 47 = .ok (.aload_n 3, 1) := dk_45 (dk_at dksX16_ideal_1 23 rfl rfl)
theorem dX16_ideal_48 : decode cX16_ideal 48 = .ok (.invokevirtual 441, 3) := dk_182 1 185 (dk_at dksX16_ideal_2 0 rfl rfl)
theorem dX16_ideal_51 : decode cX16_ideal 51 = .ok (.iconst 4, 1) := dk_7 (dk_at dksX16_ideal_2 3 rfl rfl)
theorem dX16_ideal_52 : decode cX16_ideal 52 = .ok (.if_icmp .gt 20, 3) := dk_163 0 20 (dk_at dksX16_ideal_2 4 rfl rfl)
theorem dX16_ideal_55 : decode cX16_ideal 55 = .ok (.aload_n 3, 1) := dk_45 (dk_at dksX16_ideal_2 7 rfl rfl)
theorem dX16_ideal_56 : decode cX16_ideal 56 = .ok (.bipush 99, 2) := dk_16 99 (dk_at dksX16_ideal_2 8 rfl rfl)
theorem dX16_ideal_58 : decode cX16_ideal 58 = .ok (.invokevirtual 522, 3) := dk_182 2 10 (dk_at dksX16_ideal_2 10 rfl rfl)
theorem dX16_ideal_61 : decode cX16_ideal 61 = .ok (.ifCond .eq 11, 3) := dk_153 0 11 (dk_at dksX16_ideal_2 13 rfl rfl)
theorem dX16_ideal_64 : decode cX16_ideal 64 = .ok (.aload_n 0, 1) := dk_42 (dk_at dksX16_ideal_2 16 rfl rfl)
theorem dX16_ideal_65 : decode cX16_ideal 65 = .ok (.getfield 525, 3) := dk_180 2 13 (dk_at dksX16_ideal_2 17 rfl rfl)
theorem dX16_ideal_68 : decode cX16_ideal 68 = .ok (.iconst 4, 1) := dk_7 (dk_at dksX16_ideal_2 20 rfl rfl)
theorem dX16_ideal_69 : decode cX16_ideal 69 = .ok (.if_icmp .ne 10, 3) := dk_160 0 10 (dk_at dksX16_ideal_2 21 rfl rfl)
theorem dX16_ideal_72 : decode cX16_ideal 72 = .ok (.aload_n 0, 1) := dk_42 (dk_at dksX16_ideal_3 0 rfl rfl)
theorem dX16_ideal_73 : decode cX16_ideal 73 = .ok (.bipush (-6), 2) := dk_16 250 (dk_at dksX16_ideal_3 1 rfl rfl)
theorem dX16_ideal_75 : decode cX16_ideal 75 = .ok (.invokevirtual 407, 3) := dk_182 1 151 (dk_at dksX16_ideal_3 3 rfl rfl)
theorem dX16_ideal_78 : decode cX16_ideal 78 = .ok (.ireturn, 1) := dk_172 (dk_at dksX16_ideal_3 6 rfl rfl)
theorem dX16_ideal_79 : decode cX16_ideal 79 = .ok (.aload_n 0, 1) := dk_42 (dk_at dksX16_ideal_3 7 rfl rfl)
theorem dX16_ideal_80 : decode cX16_ideal 80 = .ok (.getfield 237, 3) := dk_180 0 237 (dk_at dksX16_ideal_3 8 rfl rfl)
theorem dX16_ideal_83 : decode cX16_ideal 83 = .ok (.aload_n 0, 1) := dk_42 (dk_at dksX16_ideal_3 11 rfl rfl)
theorem dX16_ideal_84 : decode cX16_ideal 84 = .ok (.getfield 525, 3) := dk_180 2 13 (dk_at dksX16_ideal_3 12 rfl rfl)
theorem dX16_ideal_87 : decode cX16_ideal 87 = .ok (.aload_n 3, 1) := dk_45 (dk_at dksX16_ideal_3 15 rfl rfl)
theorem dX16_ideal_88 : decode cX16_ideal 88 = .ok (.getfield 162, 3) := dk_180 0 162 (dk_at dksX16_ideal_3 16 rfl rfl)
theorem dX16_ideal_91 : decode cX16_ideal 91 = .ok (.iastore, 1) := dk_79 (dk_at dksX16_ideal_3 19 rfl rfl)
theorem dX16_ideal_92 : decode cX16_ideal 92 = .ok (.iconst 0, 1) := dk_3 (dk_at dksX16_ideal_3 20 rfl rfl)
theorem dX16_ideal_93 : decode cX16_ideal 93 = .ok (.istore 4, 2) := dk_54 4 (dk_at dksX16_ideal_3 21 rfl rfl)
theorem dX16_ideal_95 : decode cX16_ideal 95 = .ok (.iload 4, 2) := dk_21 4 (dk_at dksX16_ideal_4 0 rfl rfl)
theorem dX16_ideal_97 : decode cX16_ideal 97 = .ok (.aload_n 3, 1) := dk_45 (dk_at dksX16_ideal_4 2 rfl rfl)
theorem dX16_ideal_98 : decode cX16_ideal 98 = .ok (.getfield 162, 3) := dk_180 0 162 (dk_at dksX16_ideal_4 3 rfl rfl)
theorem dX16_ideal_101 : decode cX16_ideal 101 = .ok (.if_icmp .ge 57, 3) := dk_162 0 57 (dk_at dksX16_ideal_4 6 rfl rfl)
theorem dX16_ideal_104 : decode cX16_ideal 104 = .ok (.aload_n 0, 1) := dk_42 (dk_at dksX16_ideal_4 9 rfl rfl)
theorem dX16_ideal_105 : decode cX16_ideal 105 = .ok (.getfield 240, 3) := dk_180 0 240 (dk_at dksX16_ideal_4 10 rfl rfl)
theorem dX16_ideal_108 : decode cX16_ideal 108 = .ok (.bipush 12, 2) := dk_16 12 (dk_at dksX16_ideal_4 13 rfl rfl)
theorem dX16_ideal_110 : decode cX16_ideal 110 = .ok (.aload_n 0, 1) := dk_42 (dk_at dksX16_ideal_4 15 rfl rfl)
theorem dX16_ideal_111 : decode cX16_ideal 111 = .ok (.getfield 525, 3) := dk_180 2 13 (dk_at dksX16_ideal_4 16 rfl rfl)
theorem dX16_ideal_114 : decode cX16_ideal 114 = .ok (.imul, 1) := dk_104 (dk_at dksX16_ideal_4 19 rfl rfl)
theorem dX16_ideal_115 : decode cX16_ideal 115 = .ok (.iload 4, 2) := dk_21 4 (dk_at dksX16_ideal_4 20 rfl rfl)
theorem dX16_ideal_117 : decode cX16_ideal 117 = .ok (.iadd, 1) := dk_96 (dk_at dksX16_ideal_4 22 rfl rfl)
theorem dX16_ideal_118 : decode cX16_ideal 118 = .ok (.aload_n 3, 1) := dk_45 (dk_at dksX16_ideal_4 23 rfl rfl)
theorem dX16_ideal_119 : decode cX16_ideal 119 = .ok (.getfield 167, 3) := dk_180 0 167 (dk_at dksX16_ideal_5 0 rfl rfl)
theorem dX16_ideal_122 : decode cX16_ideal 122 = .ok (.iload 4, 2) := dk_21 4 (dk_at dksX16_ideal_5 3 rfl rfl)
theorem dX16_ideal_124 : decode cX16_ideal 124 = .ok (.iaload, 1) := dk_46 (dk_at dksX16_ideal_5 5 rfl rfl)
theorem dX16_ideal_125 : decode cX16_ideal 125 = .ok (.iastore, 1) := dk_79 (dk_at dksX16_ideal_5 6 rfl rfl)
theorem dX16_ideal_126 : decode cX16_ideal 126 = .ok (.aload_n 0, 1) := dk_42 (dk_at dksX16_ideal_5 7 rfl rfl)
theorem dX16_ideal_127 : decode cX16_ideal 127 = .ok (.getfield 243, 3) := dk_180 0 243 (dk_at dksX16_ideal_5 8 rfl rfl)
theorem dX16_ideal_130 : decode cX16_ideal 130 = .ok (.bipush 12, 2) := dk_16 12 (dk_at dksX16_ideal_5 11 rfl rfl)
theorem dX16_ideal_132 : decode cX16_ideal 132 = .ok (.aload_n 0, 1) := dk_42 (dk_at dksX16_ideal_5 13 rfl rfl)
theorem dX16_ideal_133 : decode cX16_ideal 133 = .ok (.getfield 525, 3) := dk_180 2 13 (dk_at dksX16_ideal_5 14 rfl rfl)
theorem dX16_ideal_136 : decode cX16_ideal 136 = .ok (.imul, 1) := dk_104 (dk_at dksX16_ideal_5 17 rfl rfl)
theorem dX16_ideal_137 : decode cX16_ideal 137 = .ok (.iload 4, 2) := dk_21 4 (dk_at dksX16_ideal_5 18 rfl rfl)
theorem dX16_ideal_139 : decode cX16_ideal 139 = .ok (.iadd, 1) := dk_96 (dk_at dksX16_ideal_5 20 rfl rfl)
theorem dX16_ideal_140 : decode cX16_ideal 140 = .ok (.aload_n 3, 1) := dk_45 (dk_at dksX16_ideal_5 21 rfl rfl)
theorem dX16_ideal_141 : decode cX16_ideal 141 = .ok (.getfield 170, 3) := dk_180 0 170 (dk_at dksX16_ideal_6 0 rfl rfl)
theorem dX16_ideal_144 : decode cX16_ideal 144 = .ok (.iload 4, 2) := dk_21 4 (dk_at dksX16_ideal_6 3 rfl rfl)
theorem dX16_ideal_146 : decode cX16_ideal 146 = .ok (.aaload, 1) := dk_50 (dk_at dksX16_ideal_6 5 rfl rfl)
theorem dX16_ideal_147 : decode cX16_ideal 147 = .ok (.invokevirtual 75, 3) := dk_182 0 75 (dk_at dksX16_ideal_6 6 rfl rfl)
theorem dX16_ideal_150 : decode cX16_ideal 150 = .ok (.l2i, 1) := dk_136 (dk_at dksX16_ideal_6 9 rfl rfl)
theorem dX16_ideal_151 : decode cX16_ideal 151 = .ok (.iastore, 1) := dk_79 (dk_at dksX16_ideal_6 10 rfl rfl)
theorem dX16_ideal_152 : decode cX16_ideal 152 = .ok (.iinc 4 1, 3) := dk_132 4 1 (dk_at dksX16_ideal_6 11 rfl rfl)
theorem dX16_ideal_155 : decode cX16_ideal 155 = .ok (.goto (-60), 3) := dk_167 255 196 (dk_at dksX16_ideal_6 14 rfl rfl)
theorem dX16_ideal_158 : decode cX16_ideal 158 = .ok (.aload_n 0, 1) := dk_42 (dk_at dksX16_ideal_6 17 rfl rfl)
theorem dX16_ideal_159 : decode cX16_ideal 159 = .ok (.dup, 1) := dk_89 (dk_at dksX16_ideal_6 18 rfl rfl)
theorem dX16_ideal_160 : decode cX16_ideal 160 = .ok (.getfield 525, 3) := dk_180 2 13 (dk_at dksX16_ideal_6 19 rfl rfl)
theorem dX16_ideal_163 : decode cX16_ideal 163 = .ok (.iconst 1, 1) := dk_4 (dk_at dksX16_ideal_6 22 rfl rfl)
theorem dX16_ideal_164 : decode cX16_ideal 164 = .ok (.iadd, 1) := dk_96 (dk_at dksX16_ideal_6 23 rfl rfl)
theorem dX16_ideal_165 : decode cX16_ideal 165 = .ok (.putfield 525, 3) := dk_181 2 13 (dk_at dksX16_ideal_7 0 rfl rfl)
theorem dX16_ideal_168 : decode cX16_ideal 168 = .ok (.aload_n 0, 1) := dk_42 (dk_at dksX16_ideal_7 3 rfl rfl)
theorem dX16_ideal_169 : decode cX16_ideal 169 = .ok (.getfield 525, 3) := dk_180 2 13 (dk_at dksX16_ideal_7 4 rfl rfl)
theorem dX16_ideal_172 : decode cX16_ideal 172 = .ok (.ireturn, 1) := dk_172 (dk_at dksX16_ideal_7 7 rfl rfl)
abbrev cX16_unideal : ByteArray := prog_21_method_56_code
def yX16_unideal : MethodName := ⟨RX16, "unideal", "()I"⟩
def dkwX16_unideal_0 : List UInt8 := [42, 180, 2, 13, 60, 42, 3, 181, 2, 13, 27, 172]
abbrev dktX16_unideal_0 : List UInt8 := dkwX16_unideal_0 ++ []
theorem dksX16_unideal_0 : cX16_unideal.data.toList.drop 0 = dktX16_unideal_0 := by decide +kernel
theorem dX16_unideal_0 : decode cX16_unideal 0 = .ok (.aload_n 0, 1) := dk_42 (dk_at dksX16_unideal_0 0 rfl rfl)
theorem dX16_unideal_1 : decode cX16_unideal 1 = .ok (.getfield 525, 3) := dk_180 2 13 (dk_at dksX16_unideal_0 1 rfl rfl)
theorem dX16_unideal_4 : decode cX16_unideal 4 = .ok (.istore_n 1, 1) := dk_60 (dk_at dksX16_unideal_0 4 rfl rfl)
theorem dX16_unideal_5 : decode cX16_unideal 5 = .ok (.aload_n 0, 1) := dk_42 (dk_at dksX16_unideal_0 5 rfl rfl)
theorem dX16_unideal_6 : decode cX16_unideal 6 = .ok (.iconst 0, 1) := dk_3 (dk_at dksX16_unideal_0 6 rfl rfl)
theorem dX16_unideal_7 : decode cX16_unideal 7 = .ok (.putfield 525, 3) := dk_181 2 13 (dk_at dksX16_unideal_0 7 rfl rfl)
theorem dX16_unideal_10 : decode cX16_unideal 10 = .ok (.iload_n 1, 1) := dk_27 (dk_at dksX16_unideal_0 10 rfl rfl)
theorem dX16_unideal_11 : decode cX16_unideal 11 = .ok (.ireturn, 1) := dk_172 (dk_at dksX16_unideal_0 11 rfl rfl)
abbrev cX16_span : ByteArray := prog_21_method_62_code
def yX16_span : MethodName := ⟨RX16, "span", "(II)I"⟩
def dkwX16_span_9 : List UInt8 := [180, 2, 32, 172]
abbrev dktX16_span_9 : List UInt8 := dkwX16_span_9 ++ []
def dkwX16_span_8 : List UInt8 := [21, 6, 46, 182, 2, 48, 132, 6, 255, 167, 255, 218, 132, 4, 1, 167, 255, 144, 42, 182, 2, 52, 42]
abbrev dktX16_span_8 : List UInt8 := dkwX16_span_8 ++ dktX16_span_9
def dkwX16_span_7 : List UInt8 := [42, 180, 1, 23, 21, 6, 46, 184, 0, 125, 21, 5, 96, 28, 163, 0, 16, 42, 21, 4, 42, 180, 1, 23]
abbrev dktX16_span_7 : List UInt8 := dkwX16_span_7 ++ dktX16_span_8
def dkwX16_span_6 : List UInt8 := [184, 0, 22, 54, 5, 132, 6, 1, 167, 255, 218, 42, 180, 2, 17, 4, 100, 54, 6, 21, 6, 155, 0, 39]
abbrev dktX16_span_6 : List UInt8 := dkwX16_span_6 ++ dktX16_span_7
def dkwX16_span_5 : List UInt8 := [180, 0, 237, 21, 4, 46, 96, 162, 0, 26, 21, 5, 42, 180, 0, 240, 21, 6, 46, 184, 0, 125]
abbrev dktX16_span_5 : List UInt8 := dkwX16_span_5 ++ dktX16_span_6
def dkwX16_span_4 : List UInt8 := [180, 2, 13, 162, 0, 109, 3, 54, 5, 16, 12, 21, 4, 104, 54, 6, 21, 6, 16, 12, 21, 4, 104, 42]
abbrev dktX16_span_4 : List UInt8 := dkwX16_span_4 ++ dktX16_span_5
def dkwX16_span_3 : List UInt8 := [181, 2, 42, 42, 182, 2, 45, 42, 3, 181, 2, 29, 42, 3, 181, 2, 32, 3, 54, 4, 21, 4, 42]
abbrev dktX16_span_3 : List UInt8 := dkwX16_span_3 ++ dktX16_span_4
def dkwX16_span_2 : List UInt8 := [46, 181, 2, 23, 42, 42, 180, 0, 191, 27, 46, 181, 2, 26, 42, 28, 181, 2, 20, 42, 42, 180, 2, 13]
abbrev dktX16_span_2 : List UInt8 := dkwX16_span_2 ++ dktX16_span_3
def dkwX16_span_1 : List UInt8 := [156, 0, 7, 29, 167, 0, 5, 16, 250, 182, 1, 151, 172, 42, 4, 181, 2, 39, 42, 42, 180, 0, 188, 27]
abbrev dktX16_span_1 : List UInt8 := dkwX16_span_1 ++ dktX16_span_2
def dkwX16_span_0 : List UInt8 := [42, 27, 5, 182, 1, 164, 62, 29, 155, 0, 12, 28, 155, 0, 8, 28, 7, 164, 0, 18, 42, 29]
abbrev dktX16_span_0 : List UInt8 := dkwX16_span_0 ++ dktX16_span_1
theorem dksX16_span_0 : cX16_span.data.toList.drop 0 = dktX16_span_0 := by decide +kernel
theorem dksX16_span_1 : cX16_span.data.toList.drop 22 = dktX16_span_1 := dk_seg dksX16_span_0 22 rfl rfl
theorem dksX16_span_2 : cX16_span.data.toList.drop 46 = dktX16_span_2 := dk_seg dksX16_span_1 24 rfl rfl
theorem dksX16_span_3 : cX16_span.data.toList.drop 70 = dktX16_span_3 := dk_seg dksX16_span_2 24 rfl rfl
theorem dksX16_span_4 : cX16_span.data.toList.drop 93 = dktX16_span_4 := dk_seg dksX16_span_3 23 rfl rfl
theorem dksX16_span_5 : cX16_span.data.toList.drop 117 = dktX16_span_5 := dk_seg dksX16_span_4 24 rfl rfl
theorem dksX16_span_6 : cX16_span.data.toList.drop 139 = dktX16_span_6 := dk_seg dksX16_span_5 22 rfl rfl
theorem dksX16_span_7 : cX16_span.data.toList.drop 163 = dktX16_span_7 := dk_seg dksX16_span_6 24 rfl rfl
theorem dksX16_span_8 : cX16_span.data.toList.drop 187 = dktX16_span_8 := dk_seg dksX16_span_7 24 rfl rfl
theorem dksX16_span_9 : cX16_span.data.toList.drop 210 = dktX16_span_9 := dk_seg dksX16_span_8 23 rfl rfl
theorem dX16_span_0 : decode cX16_span 0 = .ok (.aload_n 0, 1) := dk_42 (dk_at dksX16_span_0 0 rfl rfl)
theorem dX16_span_1 : decode cX16_span 1 = .ok (.iload_n 1, 1) := dk_27 (dk_at dksX16_span_0 1 rfl rfl)
theorem dX16_span_2 : decode cX16_span 2 = .ok (.iconst 2, 1) := dk_5 (dk_at dksX16_span_0 2 rfl rfl)
theorem dX16_span_3 : decode cX16_span 3 = .ok (.invokevirtual 420, 3) := dk_182 1 164 (dk_at dksX16_span_0 3 rfl rfl)
theorem dX16_span_6 : decode cX16_span 6 = .ok (.istore_n 3, 1) := dk_62 (dk_at dksX16_span_0 6 rfl rfl)
theorem dX16_span_7 : decode cX16_span 7 = .ok (.iload_n 3, 1) := dk_29 (dk_at dksX16_span_0 7 rfl rfl)
theorem dX16_span_8 : decode cX16_span 8 = .ok (.ifCond .lt 12, 3) := dk_155 0 12 (dk_at dksX16_span_0 8 rfl rfl)
theorem dX16_span_11 : decode cX16_span 11 = .ok (.iload_n 2, 1) := dk_28 (dk_at dksX16_span_0 11 rfl rfl)
theorem dX16_span_12 : decode cX16_span 12 = .ok (.ifCond .lt 8, 3) := dk_155 0 8 (dk_at dksX16_span_0 12 rfl rfl)
theorem dX16_span_15 : decode cX16_span 15 = .ok (.iload_n 2, 1) := dk_28 (dk_at dksX16_span_0 15 rfl rfl)
theorem dX16_span_16 : decode cX16_span 16 = .ok (.iconst 4, 1) := dk_7 (dk_at dksX16_span_0 16 rfl rfl)
theorem dX16_span_17 : decode cX16_span 17 = .ok (.if_icmp .le 18, 3) := dk_164 0 18 (dk_at dksX16_span_0 17 rfl rfl)
theorem dX16_span_20 : decode cX16_span 20 = .ok (.aload_n 0, 1) := dk_42 (dk_at dksX16_span_0 20 rfl rfl)
theorem dX16_span_21 : decode cX16_span 21 = .ok (.iload_n 3, 1) := dk_29 (dk_at dksX16_span_0 21 rfl rfl)
theorem dX16_span_22 : decode cX16_span 22 = .ok (.ifCond .ge 7, 3) := dk_156 0 7 (dk_at dksX16_span_1 0 rfl rfl)
theorem dX16_span_25 : decode cX16_span 25 = .ok (.iload_n 3, 1) := dk_29 (dk_at dksX16_span_1 3 rfl rfl)
theorem dX16_span_26 : decode cX16_span 26 = .ok (.goto 5, 3) := dk_167 0 5 (dk_at dksX16_span_1 4 rfl rfl)
theorem dX16_span_29 : decode cX16_span 29 = .ok (.bipush (-6), 2) := dk_16 250 (dk_at dksX16_span_1 7 rfl rfl)
theorem dX16_span_31 : decode cX16_span 31 = .ok (.invokevirtual 407, 3) := dk_182 1 151 (dk_at dksX16_span_1 9 rfl rfl)
theorem dX16_span_34 : decode cX16_span 34 = .ok (.ireturn, 1) := dk_172 (dk_at dksX16_span_1 12 rfl rfl)
theorem dX16_span_35 : decode cX16_span 35 = .ok (.aload_n 0, 1) := dk_42 (dk_at dksX16_span_1 13 rfl rfl)
theorem dX16_span_36 : decode cX16_span 36 = .ok (.iconst 1, 1) := dk_4 (dk_at dksX16_span_1 14 rfl rfl)
theorem dX16_span_37 : decode cX16_span 37 = .ok (.putfield 551, 3) := dk_181 2 39 (dk_at dksX16_span_1 15 rfl rfl)
theorem dX16_span_40 : decode cX16_span 40 = .ok (.aload_n 0, 1) := dk_42 (dk_at dksX16_span_1 18 rfl rfl)
theorem dX16_span_41 : decode cX16_span 41 = .ok (.aload_n 0, 1) := dk_42 (dk_at dksX16_span_1 19 rfl rfl)
theorem dX16_span_42 : decode cX16_span 42 = .ok (.getfield 188, 3) := dk_180 0 188 (dk_at dksX16_span_1 20 rfl rfl)
theorem dX16_span_45 : decode cX16_span 45 = .ok (.iload_n 1, 1) := dk_27 (dk_at dksX16_span_1 23 rfl rfl)
theorem dX16_span_46 : decode cX16_span 46 = .ok (.iaload, 1) := dk_46 (dk_at dksX16_span_2 0 rfl rfl)
theorem dX16_span_47 : decode cX16_span 47 = .ok (.putfield 535, 3) := dk_181 2 23 (dk_at dksX16_span_2 1 rfl rfl)
theorem dX16_span_50 : decode cX16_span 50 = .ok (.aload_n 0, 1) := dk_42 (dk_at dksX16_span_2 4 rfl rfl)
theorem dX16_span_51 : decode cX16_span 51 = .ok (.aload_n 0, 1) := dk_42 (dk_at dksX16_span_2 5 rfl rfl)
theorem dX16_span_52 : decode cX16_span 52 = .ok (.getfield 191, 3) := dk_180 0 191 (dk_at dksX16_span_2 6 rfl rfl)
theorem dX16_span_55 : decode cX16_span 55 = .ok (.iload_n 1, 1) := dk_27 (dk_at dksX16_span_2 9 rfl rfl)
theorem dX16_span_56 : decode cX16_span 56 = .ok (.iaload, 1) := dk_46 (dk_at dksX16_span_2 10 rfl rfl)
theorem dX16_span_57 : decode cX16_span 57 = .ok (.putfield 538, 3) := dk_181 2 26 (dk_at dksX16_span_2 11 rfl rfl)
theorem dX16_span_60 : decode cX16_span 60 = .ok (.aload_n 0, 1) := dk_42 (dk_at dksX16_span_2 14 rfl rfl)
theorem dX16_span_61 : decode cX16_span 61 = .ok (.iload_n 2, 1) := dk_28 (dk_at dksX16_span_2 15 rfl rfl)
theorem dX16_span_62 : decode cX16_span 62 = .ok (.putfield 532, 3) := dk_181 2 20 (dk_at dksX16_span_2 16 rfl rfl)
theorem dX16_span_65 : decode cX16_span 65 = .ok (.aload_n 0, 1) := dk_42 (dk_at dksX16_span_2 19 rfl rfl)
theorem dX16_span_66 : decode cX16_span 66 = .ok (.aload_n 0, 1) := dk_42 (dk_at dksX16_span_2 20 rfl rfl)
theorem dX16_span_67 : decode cX16_span 67 = .ok (.getfield 525, 3) := dk_180 2 13 (dk_at dksX16_span_2 21 rfl rfl)
theorem dX16_span_70 : decode cX16_span 70 = .ok (.putfield 554, 3) := dk_181 2 42 (dk_at dksX16_span_3 0 rfl rfl)
theorem dX16_span_73 : decode cX16_span 73 = .ok (.aload_n 0, 1) := dk_42 (dk_at dksX16_span_3 3 rfl rfl)
theorem dX16_span_74 : decode cX16_span 74 = .ok (.invokevirtual 557, 3) := dk_182 2 45 (dk_at dksX16_span_3 4 rfl rfl)
theorem dX16_span_77 : decode cX16_span 77 = .ok (.aload_n 0, 1) := dk_42 (dk_at dksX16_span_3 7 rfl rfl)
theorem dX16_span_78 : decode cX16_span 78 = .ok (.iconst 0, 1) := dk_3 (dk_at dksX16_span_3 8 rfl rfl)
theorem dX16_span_79 : decode cX16_span 79 = .ok (.putfield 541, 3) := dk_181 2 29 (dk_at dksX16_span_3 9 rfl rfl)
theorem dX16_span_82 : decode cX16_span 82 = .ok (.aload_n 0, 1) := dk_42 (dk_at dksX16_span_3 12 rfl rfl)
theorem dX16_span_83 : decode cX16_span 83 = .ok (.iconst 0, 1) := dk_3 (dk_at dksX16_span_3 13 rfl rfl)
theorem dX16_span_84 : decode cX16_span 84 = .ok (.putfield 544, 3) := dk_181 2 32 (dk_at dksX16_span_3 14 rfl rfl)
theorem dX16_span_87 : decode cX16_span 87 = .ok (.iconst 0, 1) := dk_3 (dk_at dksX16_span_3 17 rfl rfl)
theorem dX16_span_88 : decode cX16_span 88 = .ok (.istore 4, 2) := dk_54 4 (dk_at dksX16_span_3 18 rfl rfl)
theorem dX16_span_90 : decode cX16_span 90 = .ok (.iload 4, 2) := dk_21 4 (dk_at dksX16_span_3 20 rfl rfl)
theorem dX16_span_92 : decode cX16_span 92 = .ok (.aload_n 0, 1) := dk_42 (dk_at dksX16_span_3 22 rfl rfl)
theorem dX16_span_93 : decode cX16_span 93 = .ok (.getfield 525, 3) := dk_180 2 13 (dk_at dksX16_span_4 0 rfl rfl)
theorem dX16_span_96 : decode cX16_span 96 = .ok (.if_icmp .ge 109, 3) := dk_162 0 109 (dk_at dksX16_span_4 3 rfl rfl)
theorem dX16_span_99 : decode cX16_span 99 = .ok (.iconst 0, 1) := dk_3 (dk_at dksX16_span_4 6 rfl rfl)
theorem dX16_span_100 : decode cX16_span 100 = .ok (.istore 5, 2) := dk_54 5 (dk_at dksX16_span_4 7 rfl rfl)
theorem dX16_span_102 : decode cX16_span 102 = .ok (.bipush 12, 2) := dk_16 12 (dk_at dksX16_span_4 9 rfl rfl)
theorem dX16_span_104 : decode cX16_span 104 = .ok (.iload 4, 2) := dk_21 4 (dk_at dksX16_span_4 11 rfl rfl)
theorem dX16_span_106 : decode cX16_span 106 = .ok (.imul, 1) := dk_104 (dk_at dksX16_span_4 13 rfl rfl)
theorem dX16_span_107 : decode cX16_span 107 = .ok (.istore 6, 2) := dk_54 6 (dk_at dksX16_span_4 14 rfl rfl)
theorem dX16_span_109 : decode cX16_span 109 = .ok (.iload 6, 2) := dk_21 6 (dk_at dksX16_span_4 16 rfl rfl)
theorem dX16_span_111 : decode cX16_span 111 = .ok (.bipush 12, 2) := dk_16 12 (dk_at dksX16_span_4 18 rfl rfl)
theorem dX16_span_113 : decode cX16_span 113 = .ok (.iload 4, 2) := dk_21 4 (dk_at dksX16_span_4 20 rfl rfl)
theorem dX16_span_115 : decode cX16_span 115 = .ok (.imul, 1) := dk_104 (dk_at dksX16_span_4 22 rfl rfl)
theorem dX16_span_116 : decode cX16_span 116 = .ok (.aload_n 0, 1) := dk_42 (dk_at dksX16_span_4 23 rfl rfl)
theorem dX16_span_117 : decode cX16_span 117 = .ok (.getfield 237, 3) := dk_180 0 237 (dk_at dksX16_span_5 0 rfl rfl)
theorem dX16_span_120 : decode cX16_span 120 = .ok (.iload 4, 2) := dk_21 4 (dk_at dksX16_span_5 3 rfl rfl)
theorem dX16_span_122 : decode cX16_span 122 = .ok (.iaload, 1) := dk_46 (dk_at dksX16_span_5 5 rfl rfl)
theorem dX16_span_123 : decode cX16_span 123 = .ok (.iadd, 1) := dk_96 (dk_at dksX16_span_5 6 rfl rfl)
theorem dX16_span_124 : decode cX16_span 124 = .ok (.if_icmp .ge 26, 3) := dk_162 0 26 (dk_at dksX16_span_5 7 rfl rfl)
theorem dX16_span_127 : decode cX16_span 127 = .ok (.iload 5, 2) := dk_21 5 (dk_at dksX16_span_5 10 rfl rfl)
theorem dX16_span_129 : decode cX16_span 129 = .ok (.aload_n 0, 1) := dk_42 (dk_at dksX16_span_5 12 rfl rfl)
theorem dX16_span_130 : decode cX16_span 130 = .ok (.getfield 240, 3) := dk_180 0 240 (dk_at dksX16_span_5 13 rfl rfl)
theorem dX16_span_133 : decode cX16_span 133 = .ok (.iload 6, 2) := dk_21 6 (dk_at dksX16_span_5 16 rfl rfl)
theorem dX16_span_135 : decode cX16_span 135 = .ok (.iaload, 1) := dk_46 (dk_at dksX16_span_5 18 rfl rfl)
theorem dX16_span_136 : decode cX16_span 136 = .ok (.invokestatic 125, 3) := dk_184 0 125 (dk_at dksX16_span_5 19 rfl rfl)
theorem dX16_span_139 : decode cX16_span 139 = .ok (.invokestatic 22, 3) := dk_184 0 22 (dk_at dksX16_span_6 0 rfl rfl)
theorem dX16_span_142 : decode cX16_span 142 = .ok (.istore 5, 2) := dk_54 5 (dk_at dksX16_span_6 3 rfl rfl)
theorem dX16_span_144 : decode cX16_span 144 = .ok (.iinc 6 1, 3) := dk_132 6 1 (dk_at dksX16_span_6 5 rfl rfl)
theorem dX16_span_147 : decode cX16_span 147 = .ok (.goto (-38), 3) := dk_167 255 218 (dk_at dksX16_span_6 8 rfl rfl)
theorem dX16_span_150 : decode cX16_span 150 = .ok (.aload_n 0, 1) := dk_42 (dk_at dksX16_span_6 11 rfl rfl)
theorem dX16_span_151 : decode cX16_span 151 = .ok (.getfield 529, 3) := dk_180 2 17 (dk_at dksX16_span_6 12 rfl rfl)
theorem dX16_span_154 : decode cX16_span 154 = .ok (.iconst 1, 1) := dk_4 (dk_at dksX16_span_6 15 rfl rfl)
theorem dX16_span_155 : decode cX16_span 155 = .ok (.isub, 1) := dk_100 (dk_at dksX16_span_6 16 rfl rfl)
theorem dX16_span_156 : decode cX16_span 156 = .ok (.istore 6, 2) := dk_54 6 (dk_at dksX16_span_6 17 rfl rfl)
theorem dX16_span_158 : decode cX16_span 158 = .ok (.iload 6, 2) := dk_21 6 (dk_at dksX16_span_6 19 rfl rfl)
theorem dX16_span_160 : decode cX16_span 160 = .ok (.ifCond .lt 39, 3) := dk_155 0 39 (dk_at dksX16_span_6 21 rfl rfl)
theorem dX16_span_163 : decode cX16_span 163 = .ok (.aload_n 0, 1) := dk_42 (dk_at dksX16_span_7 0 rfl rfl)
theorem dX16_span_164 : decode cX16_span 164 = .ok (.getfield 279, 3) := dk_180 1 23 (dk_at dksX16_span_7 1 rfl rfl)
theorem dX16_span_167 : decode cX16_span 167 = .ok (.iload 6, 2) := dk_21 6 (dk_at dksX16_span_7 4 rfl rfl)
theorem dX16_span_169 : decode cX16_span 169 = .ok (.iaload, 1) := dk_46 (dk_at dksX16_span_7 6 rfl rfl)
theorem dX16_span_170 : decode cX16_span 170 = .ok (.invokestatic 125, 3) := dk_184 0 125 (dk_at dksX16_span_7 7 rfl rfl)
theorem dX16_span_173 : decode cX16_span 173 = .ok (.iload 5, 2) := dk_21 5 (dk_at dksX16_span_7 10 rfl rfl)
theorem dX16_span_175 : decode cX16_span 175 = .ok (.iadd, 1) := dk_96 (dk_at dksX16_span_7 12 rfl rfl)
theorem dX16_span_176 : decode cX16_span 176 = .ok (.iload_n 2, 1) := dk_28 (dk_at dksX16_span_7 13 rfl rfl)
theorem dX16_span_177 : decode cX16_span 177 = .ok (.if_icmp .gt 16, 3) := dk_163 0 16 (dk_at dksX16_span_7 14 rfl rfl)
theorem dX16_span_180 : decode cX16_span 180 = .ok (.aload_n 0, 1) := dk_42 (dk_at dksX16_span_7 17 rfl rfl)
theorem dX16_span_181 : decode cX16_span 181 = .ok (.iload 4, 2) := dk_21 4 (dk_at dksX16_span_7 18 rfl rfl)
theorem dX16_span_183 : decode cX16_span 183 = .ok (.aload_n 0, 1) := dk_42 (dk_at dksX16_span_7 20 rfl rfl)
theorem dX16_span_184 : decode cX16_span 184 = .ok (.getfield 279, 3) := dk_180 1 23 (dk_at dksX16_span_7 21 rfl rfl)
theorem dX16_span_187 : decode cX16_span 187 = .ok (.iload 6, 2) := dk_21 6 (dk_at dksX16_span_8 0 rfl rfl)
theorem dX16_span_189 : decode cX16_span 189 = .ok (.iaload, 1) := dk_46 (dk_at dksX16_span_8 2 rfl rfl)
theorem dX16_span_190 : decode cX16_span 190 = .ok (.invokevirtual 560, 3) := dk_182 2 48 (dk_at dksX16_span_8 3 rfl rfl)
theorem dX16_span_193 : decode cX16_span 193 = .ok (.iinc 6 (-1), 3) := dk_132 6 255 (dk_at dksX16_span_8 6 rfl rfl)
theorem dX16_span_196 : decode cX16_span 196 = .ok (.goto (-38), 3) := dk_167 255 218 (dk_at dksX16_span_8 9 rfl rfl)
theorem dX16_span_199 : decode cX16_span 199 = .ok (.iinc 4 1, 3) := dk_132 4 1 (dk_at dksX16_span_8 12 rfl rfl)
theorem dX16_span_202 : decode cX16_span 202 = .ok (.goto (-112), 3) := dk_167 255 144 (dk_at dksX16_span_8 15 rfl rfl)
theorem dX16_span_205 : decode cX16_span 205 = .ok (.aload_n 0, 1) := dk_42 (dk_at dksX16_span_8 18 rfl rfl)
theorem dX16_span_206 : decode cX16_span 206 = .ok (.invokevirtual 564, 3) := dk_182 2 52 (dk_at dksX16_span_8 19 rfl rfl)
theorem dX16_span_209 : decode cX16_span 209 = .ok (.aload_n 0, 1) := dk_42 (dk_at dksX16_span_8 22 rfl rfl)
theorem dX16_span_210 : decode cX16_span 210 = .ok (.getfield 544, 3) := dk_180 2 32 (dk_at dksX16_span_9 0 rfl rfl)
theorem dX16_span_213 : decode cX16_span 213 = .ok (.ireturn, 1) := dk_172 (dk_at dksX16_span_9 3 rfl rfl)
