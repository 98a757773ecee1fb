/-! IdealCourt$Terms -/
set_option maxRecDepth 100000
def RX1 : String := "IdealCourt$Terms"
def TX1 : u_T := fun k => match k with
  | 0 => ("IdealCourt$Terms", "letters", "[[B", true)
  | _ => ("IdealCourt$Terms", "numbers", "[[S", true)
def tyX1 : Nat → FieldType := fun k => match k with
  | 0 => .array (.array .byte)
  | _ => .array (.array .short)
abbrev wsX10 : List Cond := u_ws RX1 TX1 2
theorem nmX1 : ∀ a, a < 2 → ∀ b, b < 2 → a ≠ b → (TX1 a).2.1 ≠ (TX1 b).2.1 := by decide +kernel
theorem tyX1_ok : ∀ k, k < 2 → parseFieldDescriptor (TX1 k).2.2.1 = some (tyX1 k) := by decide +kernel
abbrev cX1_init : ByteArray := prog_16_method_1_code
def yX1_init : MethodName := ⟨RX1, "<init>", "()V"⟩
def dkwX1_init_6 : List UInt8 := [167, 255, 188, 132, 3, 1, 167, 255, 171, 132, 2, 1, 167, 255, 136, 177]
abbrev dktX1_init_6 : List UInt8 := dkwX1_init_6 ++ []
def dkwX1_init_5 : List UInt8 := [28, 50, 29, 16, 12, 28, 100, 4, 96, 104, 21, 4, 96, 27, 147, 86, 132, 1, 1, 132, 4, 1]
abbrev dktX1_init_5 : List UInt8 := dkwX1_init_5 ++ dktX1_init_6
def dkwX1_init_4 : List UInt8 := [180, 0, 11, 4, 50, 27, 29, 145, 84, 42, 180, 0, 11, 5, 50, 27, 21, 4, 145, 84, 42, 180, 0, 18]
abbrev dktX1_init_4 : List UInt8 := dkwX1_init_4 ++ dktX1_init_5
def dkwX1_init_3 : List UInt8 := [21, 4, 16, 12, 28, 100, 29, 100, 163, 0, 63, 42, 180, 0, 11, 3, 50, 27, 28, 145, 84, 42]
abbrev dktX1_init_3 : List UInt8 := dkwX1_init_3 ++ dktX1_init_4
def dkwX1_init_2 : List UInt8 := [16, 12, 28, 100, 4, 96, 104, 188, 9, 83, 3, 62, 29, 16, 12, 28, 100, 163, 0, 83, 3, 54, 4]
abbrev dktX1_init_2 : List UInt8 := dkwX1_init_2 ++ dktX1_init_3
def dkwX1_init_1 : List UInt8 := [181, 0, 18, 3, 60, 3, 61, 28, 16, 12, 163, 0, 120, 42, 180, 0, 18, 28, 16, 12, 28, 100, 4, 96]
abbrev dktX1_init_1 : List UInt8 := dkwX1_init_1 ++ dktX1_init_2
def dkwX1_init_0 : List UInt8 := [42, 183, 0, 3, 42, 6, 17, 1, 199, 197, 0, 9, 2, 181, 0, 11, 42, 16, 13, 189, 0, 16]
abbrev dktX1_init_0 : List UInt8 := dkwX1_init_0 ++ dktX1_init_1
theorem dksX1_init_0 : cX1_init.data.toList.drop 0 = dktX1_init_0 := by decide +kernel
theorem dksX1_init_1 : cX1_init.data.toList.drop 22 = dktX1_init_1 := dk_seg dksX1_init_0 22 rfl rfl
theorem dksX1_init_2 : cX1_init.data.toList.drop 46 = dktX1_init_2 := dk_seg dksX1_init_1 24 rfl rfl
theorem dksX1_init_3 : cX1_init.data.toList.drop 69 = dktX1_init_3 := dk_seg dksX1_init_2 23 rfl rfl
theorem dksX1_init_4 : cX1_init.data.toList.drop 91 = dktX1_init_4 := dk_seg dksX1_init_3 22 rfl rfl
theorem dksX1_init_5 : cX1_init.data.toList.drop 115 = dktX1_init_5 := dk_seg dksX1_init_4 24 rfl rfl
theorem dksX1_init_6 : cX1_init.data.toList.drop 137 = dktX1_init_6 := dk_seg dksX1_init_5 22 rfl rfl
theorem dX1_init_0 : decode cX1_init 0 = .ok (.aload_n 0, 1) := dk_42 (dk_at dksX1_init_0 0 rfl rfl)
theorem dX1_init_1 : decode cX1_init 1 = .ok (.invokespecial 3, 3) := dk_183 0 3 (dk_at dksX1_init_0 1 rfl rfl)
theorem dX1_init_4 : decode cX1_init 4 = .ok (.aload_n 0, 1) := dk_42 (dk_at dksX1_init_0 4 rfl rfl)
theorem dX1_init_5 : decode cX1_init 5 = .ok (.iconst 3, 1) := dk_6 (dk_at dksX1_init_0 5 rfl rfl)
theorem dX1_init_6 : decode cX1_init 6 = .ok (.sipush 455, 3) := dk_17 1 199 (dk_at dksX1_init_0 6 rfl rfl)
theorem dX1_init_9 : decode cX1_init 9 = .ok (.multianewarray 9 2, 4) := by decide +kernel
theorem dX1_init_13 : decode cX1_init 13 = .ok (.putfield 11, 3) := dk_181 0 11 (dk_at dksX1_init_0 13 rfl rfl)
theorem dX1_init_16 : decode cX1_init 16 = .ok (.aload_n 0, 1) := dk_42 (dk_at dksX1_init_0 16 rfl rfl)
theorem dX1_init_17 : decode cX1_init 17 = .ok (.bipush 13, 2) := dk_16 13 (dk_at dksX1_init_0 17 rfl rfl)
theorem dX1_init_19 : decode cX1_init 19 = .ok (.anewarray 16, 3) := dk_189 0 16 (dk_at dksX1_init_0 19 rfl rfl)
theorem dX1_init_22 : decode cX1_init 22 = .ok (.putfield 18, 3) := dk_181 0 18 (dk_at dksX1_init_1 0 rfl rfl)
theorem dX1_init_25 : decode cX1_init 25 = .ok (.iconst 0, 1) := dk_3 (dk_at dksX1_init_1 3 rfl rfl)
theorem dX1_init_26 : decode cX1_init 26 = .ok (.istore_n 1, 1) := dk_60 (dk_at dksX1_init_1 4 rfl rfl)
theorem dX1_init_27 : decode cX1_init 27 = .ok (.iconst 0, 1) := dk_3 (dk_at dksX1_init_1 5 rfl rfl)
theorem dX1_init_28 : decode cX1_init 28 = .ok (.istore_n 2, 1) := dk_61 (dk_at dksX1_init_1 6 rfl rfl)
theorem dX1_init_29 : decode cX1_init 29 = .ok (.iload_n 2, 1) := dk_28 (dk_at dksX1_init_1 7 rfl rfl)
theorem dX1_init_30 : decode cX1_init 30 = .ok (.bipush 12, 2) := dk_16 12 (dk_at dksX1_init_1 8 rfl rfl)
theorem dX1_init_32 : decode cX1_init 32 = .ok (.if_icmp .gt 120, 3) := dk_163 0 120 (dk_at dksX1_init_1 10 rfl rfl)
theorem dX1_init_35 : decode cX1_init 35 = .ok (.aload_n 0, 1) := dk_42 (dk_at dksX1_init_1 13 rfl rfl)
theorem dX1_init_36 : decode cX1_init 36 = .ok (.getfield 18, 3) := dk_180 0 18 (dk_at dksX1_init_1 14 rfl rfl)
theorem dX1_init_39 : decode cX1_init 39 = .ok (.iload_n 2, 1) := dk_28 (dk_at dksX1_init_1 17 rfl rfl)
theorem dX1_init_40 : decode cX1_init 40 = .ok (.bipush 12, 2) := dk_16 12 (dk_at dksX1_init_1 18 rfl rfl)
theorem dX1_init_42 : decode cX1_init 42 = .ok (.iload_n 2, 1) := dk_28 (dk_at dksX1_init_1 20 rfl rfl)
theorem dX1_init_43 : decode cX1_init 43 = .ok (.isub, 1) := dk_100 (dk_at dksX1_init_1 21 rfl rfl)
theorem dX1_init_44 : decode cX1_init 44 = .ok (.iconst 1, 1) := dk_4 (dk_at dksX1_init_1 22 rfl rfl)
theorem dX1_init_45 : decode cX1_init 45 = .ok (.iadd, 1) := dk_96 (dk_at dksX1_init_1 23 rfl rfl)
theorem dX1_init_46 : decode cX1_init 46 = .ok (.bipush 12, 2) := dk_16 12 (dk_at dksX1_init_2 0 rfl rfl)
theorem dX1_init_48 : decode cX1_init 48 = .ok (.iload_n 2, 1) := dk_28 (dk_at dksX1_init_2 2 rfl rfl)
theorem dX1_init_49 : decode cX1_init 49 = .ok (.isub, 1) := dk_100 (dk_at dksX1_init_2 3 rfl rfl)
theorem dX1_init_50 : decode cX1_init 50 = .ok (.iconst 1, 1) := dk_4 (dk_at dksX1_init_2 4 rfl rfl)
theorem dX1_init_51 : decode cX1_init 51 = .ok (.iadd, 1) := dk_96 (dk_at dksX1_init_2 5 rfl rfl)
theorem dX1_init_52 : decode cX1_init 52 = .ok (.imul, 1) := dk_104 (dk_at dksX1_init_2 6 rfl rfl)
theorem dX1_init_53 : decode cX1_init 53 = .ok (.newarray .short, 2) := dk_188_9 (dk_at dksX1_init_2 7 rfl rfl)
theorem dX1_init_55 : decode cX1_init 55 = .ok (.aastore, 1) := dk_83 (dk_at dksX1_init_2 9 rfl rfl)
theorem dX1_init_56 : decode cX1_init 56 = .ok (.iconst 0, 1) := dk_3 (dk_at dksX1_init_2 10 rfl rfl)
theorem dX1_init_57 : decode cX1_init 57 = .ok (.istore_n 3, 1) := dk_62 (dk_at dksX1_init_2 11 rfl rfl)
theorem dX1_init_58 : decode cX1_init 58 = .ok (.iload_n 3, 1) := dk_29 (dk_at dksX1_init_2 12 rfl rfl)
theorem dX1_init_59 : decode cX1_init 59 = .ok (.bipush 12, 2) := dk_16 12 (dk_at dksX1_init_2 13 rfl rfl)
theorem dX1_init_61 : decode cX1_init 61 = .ok (.iload_n 2, 1) := dk_28 (dk_at dksX1_init_2 15 rfl rfl)
theorem dX1_init_62 : decode cX1_init 62 = .ok (.isub, 1) := dk_100 (dk_at dksX1_init_2 16 rfl rfl)
theorem dX1_init_63 : decode cX1_init 63 = .ok (.if_icmp .gt 83, 3) := dk_163 0 83 (dk_at dksX1_init_2 17 rfl rfl)
theorem dX1_init_66 : decode cX1_init 66 = .ok (.iconst 0, 1) := dk_3 (dk_at dksX1_init_2 20 rfl rfl)
theorem dX1_init_67 : decode cX1_init 67 = .ok (.istore 4, 2) := dk_54 4 (dk_at dksX1_init_2 21 rfl rfl)
theorem dX1_init_69 : decode cX1_init 69 = .ok (.iload 4, 2) := dk_21 4 (dk_at dksX1_init_3 0 rfl rfl)
theorem dX1_init_71 : decode cX1_init 71 = .ok (.bipush 12, 2) := dk_16 12 (dk_at dksX1_init_3 2 rfl rfl)
theorem dX1_init_73 : decode cX1_init 73 = .ok (.iload_n 2, 1) := dk_28 (dk_at dksX1_init_3 4 rfl rfl)
theorem dX1_init_74 : decode cX1_init 74 = .ok (.isub, 1) := dk_100 (dk_at dksX1_init_3 5 rfl rfl)
theorem dX1_init_75 : decode cX1_init 75 = .ok (.iload_n 3, 1) := dk_29 (dk_at dksX1_init_3 6 rfl rfl)
theorem dX1_init_76 : decode cX1_init 76 = .ok (.isub, 1) := dk_100 (dk_at dksX1_init_3 7 rfl rfl)
theorem dX1_init_77 : decode cX1_init 77 = .ok (.if_icmp .gt 63, 3) := dk_163 0 63 (dk_at dksX1_init_3 8 rfl rfl)
theorem dX1_init_80 : decode cX1_init 80 = .ok (.aload_n 0, 1) := dk_42 (dk_at dksX1_init_3 11 rfl rfl)
theorem dX1_init_81 : decode cX1_init 81 = .ok (.getfield 11, 3) := dk_180 0 11 (dk_at dksX1_init_3 12 rfl rfl)
theorem dX1_init_84 : decode cX1_init 84 = .ok (.iconst 0, 1) := dk_3 (dk_at dksX1_init_3 15 rfl rfl)
theorem dX1_init_85 : decode cX1_init 85 = .ok (.aaload, 1) := dk_50 (dk_at dksX1_init_3 16 rfl rfl)
theorem dX1_init_86 : decode cX1_init 86 = .ok (.iload_n 1, 1) := dk_27 (dk_at dksX1_init_3 17 rfl rfl)
theorem dX1_init_87 : decode cX1_init 87 = .ok (.iload_n 2, 1) := dk_28 (dk_at dksX1_init_3 18 rfl rfl)
theorem dX1_init_88 : decode cX1_init 88 = .ok (.i2b, 1) := dk_145 (dk_at dksX1_init_3 19 rfl rfl)
theorem dX1_init_89 : decode cX1_init 89 = .ok (.bastore, 1) := dk_84 (dk_at dksX1_init_3 20 rfl rfl)
theorem dX1_init_90 : decode cX1_init 90 = .ok (.aload_n 0, 1) := dk_42 (dk_at dksX1_init_3 21 rfl rfl)
theorem dX1_init_91 : decode cX1_init 91 = .ok (.getfield 11, 3) := dk_180 0 11 (dk_at dksX1_init_4 0 rfl rfl)
theorem dX1_init_94 : decode cX1_init 94 = .ok (.iconst 1, 1) := dk_4 (dk_at dksX1_init_4 3 rfl rfl)
theorem dX1_init_95 : decode cX1_init 95 = .ok (.aaload, 1) := dk_50 (dk_at dksX1_init_4 4 rfl rfl)
theorem dX1_init_96 : decode cX1_init 96 = .ok (.iload_n 1, 1) := dk_27 (dk_at dksX1_init_4 5 rfl rfl)
theorem dX1_init_97 : decode cX1_init 97 = .ok (.iload_n 3, 1) := dk_29 (dk_at dksX1_init_4 6 rfl rfl)
theorem dX1_init_98 : decode cX1_init 98 = .ok (.i2b, 1) := dk_145 (dk_at dksX1_init_4 7 rfl rfl)
theorem dX1_init_99 : decode cX1_init 99 = .ok (.bastore, 1) := dk_84 (dk_at dksX1_init_4 8 rfl rfl)
theorem dX1_init_100 : decode cX1_init 100 = .ok (.aload_n 0, 1) := dk_42 (dk_at dksX1_init_4 9 rfl rfl)
theorem dX1_init_101 : decode cX1_init 101 = .ok (.getfield 11, 3) := dk_180 0 11 (dk_at dksX1_init_4 10 rfl rfl)
theorem dX1_init_104 : decode cX1_init 104 = .ok (.iconst 2, 1) := dk_5 (dk_at dksX1_init_4 13 rfl rfl)
theorem dX1_init_105 : decode cX1_init 105 = .ok (.aaload, 1) := dk_50 (dk_at dksX1_init_4 14 rfl rfl)
theorem dX1_init_106 : decode cX1_init 106 = .ok (.iload_n 1, 1) := dk_27 (dk_at dksX1_init_4 15 rfl rfl)
theorem dX1_init_107 : decode cX1_init 107 = .ok (.iload 4, 2) := dk_21 4 (dk_at dksX1_init_4 16 rfl rfl)
theorem dX1_init_109 : decode cX1_init 109 = .ok (.i2b, 1) := dk_145 (dk_at dksX1_init_4 18 rfl rfl)
theorem dX1_init_110 : decode cX1_init 110 = .ok (.bastore, 1) := dk_84 (dk_at dksX1_init_4 19 rfl rfl)
theorem dX1_init_111 : decode cX1_init 111 = .ok (.aload_n 0, 1) := dk_42 (dk_at dksX1_init_4 20 rfl rfl)
theorem dX1_init_112 : decode cX1_init 112 = .ok (.getfield 18, 3) := dk_180 0 18 (dk_at dksX1_init_4 21 rfl rfl)
theorem dX1_init_115 : decode cX1_init 115 = .ok (.iload_n 2, 1) := dk_28 (dk_at dksX1_init_5 0 rfl rfl)
theorem dX1_init_116 : decode cX1_init 116 = .ok (.aaload, 1) := dk_50 (dk_at dksX1_init_5 1 rfl rfl)
theorem dX1_init_117 : decode cX1_init 117 = .ok (.iload_n 3, 1) := dk_29 (dk_at dksX1_init_5 2 rfl rfl)
theorem dX1_init_118 : decode cX1_init 118 = .ok (.bipush 12, 2) := dk_16 12 (dk_at dksX1_init_5 3 rfl rfl)
theorem dX1_init_120 : decode cX1_init 120 = .ok (.iload_n 2, 1) := dk_28 (dk_at dksX1_init_5 5 rfl rfl)
theorem dX1_init_121 : decode cX1_init 121 = .ok (.isub, 1) := dk_100 (dk_at dksX1_init_5 6 rfl rfl)
theorem dX1_init_122 : decode cX1_init 122 = .ok (.iconst 1, 1) := dk_4 (dk_at dksX1_init_5 7 rfl rfl)
theorem dX1_init_123 : decode cX1_init 123 = .ok (.iadd, 1) := dk_96 (dk_at dksX1_init_5 8 rfl rfl)
theorem dX1_init_124 : decode cX1_init 124 = .ok (.imul, 1) := dk_104 (dk_at dksX1_init_5 9 rfl rfl)
theorem dX1_init_125 : decode cX1_init 125 = .ok (.iload 4, 2) := dk_21 4 (dk_at dksX1_init_5 10 rfl rfl)
theorem dX1_init_127 : decode cX1_init 127 = .ok (.iadd, 1) := dk_96 (dk_at dksX1_init_5 12 rfl rfl)
theorem dX1_init_128 : decode cX1_init 128 = .ok (.iload_n 1, 1) := dk_27 (dk_at dksX1_init_5 13 rfl rfl)
theorem dX1_init_129 : decode cX1_init 129 = .ok (.i2s, 1) := dk_147 (dk_at dksX1_init_5 14 rfl rfl)
theorem dX1_init_130 : decode cX1_init 130 = .ok (.sastore, 1) := dk_86 (dk_at dksX1_init_5 15 rfl rfl)
theorem dX1_init_131 : decode cX1_init 131 = .ok (.iinc 1 1, 3) := dk_132 1 1 (dk_at dksX1_init_5 16 rfl rfl)
theorem dX1_init_134 : decode cX1_init 134 = .ok (.iinc 4 1, 3) := dk_132 4 1 (dk_at dksX1_init_5 19 rfl rfl)
theorem dX1_init_137 : decode cX1_init 137 = .ok (.goto (-68), 3) := dk_167 255 188 (dk_at dksX1_init_6 0 rfl rfl)
theorem dX1_init_140 : decode cX1_init 140 = .ok (.iinc 3 1, 3) := dk_132 3 1 (dk_at dksX1_init_6 3 rfl rfl)
theorem dX1_init_143 : decode cX1_init 143 = .ok (.goto (-85), 3) := dk_167 255 171 (dk_at dksX1_init_6 6 rfl rfl)
theorem dX1_init_146 : decode cX1_init 146 = .ok (.iinc 2 1, 3) := dk_132 2 1 (dk_at dksX1_init_6 9 rfl rfl)
theorem dX1_init_149 : decode cX1_init 149 = .ok (.goto (-120), 3) := dk_167 255 136 (dk_at dksX1_init_6 12 rfl rfl)
theorem dX1_init_152 : decode cX1_init 152 = .ok (.return_, 1) := dk_177 (dk_at dksX1_init_6 15 rfl rfl)
abbrev cX1_number : ByteArray := prog_16_method_2_code
def yX1_number : MethodName := ⟨RX1, "number", "(III)I"⟩
def dkwX1_number_0 : List UInt8 := [42, 180, 0, 18, 27, 50, 28, 16, 12, 27, 100, 4, 96, 104, 29, 96, 53, 172]
abbrev dktX1_number_0 : List UInt8 := dkwX1_number_0 ++ []
theorem dksX1_number_0 : cX1_number.data.toList.drop 0 = dktX1_number_0 := by decide +kernel
theorem dX1_number_0 : decode cX1_number 0 = .ok (.aload_n 0, 1) := dk_42 (dk_at dksX1_number_0 0 rfl rfl)
theorem dX1_number_1 : decode cX1_number 1 = .ok (.getfield 18, 3) := dk_180 0 18 (dk_at dksX1_number_0 1 rfl rfl)
theorem dX1_number_4 : decode cX1_number 4 = .ok (.iload_n 1, 1) := dk_27 (dk_at dksX1_number_0 4 rfl rfl)
theorem dX1_number_5 : decode cX1_number 5 = .ok (.aaload, 1) := dk_50 (dk_at dksX1_number_0 5 rfl rfl)
theorem dX1_number_6 : decode cX1_number 6 = .ok (.iload_n 2, 1) := dk_28 (dk_at dksX1_number_0 6 rfl rfl)
theorem dX1_number_7 : decode cX1_number 7 = .ok (.bipush 12, 2) := dk_16 12 (dk_at dksX1_number_0 7 rfl rfl)
theorem dX1_number_9 : decode cX1_number 9 = .ok (.iload_n 1, 1) := dk_27 (dk_at dksX1_number_0 9 rfl rfl)
theorem dX1_number_10 : decode cX1_number 10 = .ok (.isub, 1) := dk_100 (dk_at dksX1_number_0 10 rfl rfl)
theorem dX1_number_11 : decode cX1_number 11 = .ok (.iconst 1, 1) := dk_4 (dk_at dksX1_number_0 11 rfl rfl)
theorem dX1_number_12 : decode cX1_number 12 = .ok (.iadd, 1) := dk_96 (dk_at dksX1_number_0 12 rfl rfl)
theorem dX1_number_13 : decode cX1_number 13 = .ok (.imul, 1) := dk_104 (dk_at dksX1_number_0 13 rfl rfl)
theorem dX1_number_14 : decode cX1_number 14 = .ok (.iload_n 3, 1) := dk_29 (dk_at dksX1_number_0 14 rfl rfl)
theorem dX1_number_15 : decode cX1_number 15 = .ok (.iadd, 1) := dk_96 (dk_at dksX1_number_0 15 rfl rfl)
theorem dX1_number_16 : decode cX1_number 16 = .ok (.saload, 1) := dk_53 (dk_at dksX1_number_0 16 rfl rfl)
theorem dX1_number_17 : decode cX1_number 17 = .ok (.ireturn, 1) := dk_172 (dk_at dksX1_number_0 17 rfl rfl)
abbrev cX1_degree : ByteArray := prog_16_method_3_code
def yX1_degree : MethodName := ⟨RX1, "degree", "(I)I"⟩
def dkwX1_degree_1 : List UInt8 := [51, 96, 172]
abbrev dktX1_degree_1 : List UInt8 := dkwX1_degree_1 ++ []
def dkwX1_degree_0 : List UInt8 := [42, 180, 0, 11, 3, 50, 27, 51, 42, 180, 0, 11, 4, 50, 27, 51, 96, 42, 180, 0, 11, 5, 50, 27]
abbrev dktX1_degree_0 : List UInt8 := dkwX1_degree_0 ++ dktX1_degree_1
theorem dksX1_degree_0 : cX1_degree.data.toList.drop 0 = dktX1_degree_0 := by decide +kernel
theorem dksX1_degree_1 : cX1_degree.data.toList.drop 24 = dktX1_degree_1 := dk_seg dksX1_degree_0 24 rfl rfl
theorem dX1_degree_0 : decode cX1_degree 0 = .ok (.aload_n 0, 1) := dk_42 (dk_at dksX1_degree_0 0 rfl rfl)
theorem dX1_degree_1 : decode cX1_degree 1 = .ok (.getfield 11, 3) := dk_180 0 11 (dk_at dksX1_degree_0 1 rfl rfl)
theorem dX1_degree_4 : decode cX1_degree 4 = .ok (.iconst 0, 1) := dk_3 (dk_at dksX1_degree_0 4 rfl rfl)
theorem dX1_degree_5 : decode cX1_degree 5 = .ok (.aaload, 1) := dk_50 (dk_at dksX1_degree_0 5 rfl rfl)
theorem dX1_degree_6 : decode cX1_degree 6 = .ok (.iload_n 1, 1) := dk_27 (dk_at dksX1_degree_0 6 rfl rfl)
theorem dX1_degree_7 : decode cX1_degree 7 = .ok (.baload, 1) := dk_51 (dk_at dksX1_degree_0 7 rfl rfl)
theorem dX1_degree_8 : decode cX1_degree 8 = .ok (.aload_n 0, 1) := dk_42 (dk_at dksX1_degree_0 8 rfl rfl)
theorem dX1_degree_9 : decode cX1_degree 9 = .ok (.getfield 11, 3) := dk_180 0 11 (dk_at dksX1_degree_0 9 rfl rfl)
theorem dX1_degree_12 : decode cX1_degree 12 = .ok (.iconst 1, 1) := dk_4 (dk_at dksX1_degree_0 12 rfl rfl)
theorem dX1_degree_13 : decode cX1_degree 13 = .ok (.aaload, 1) := dk_50 (dk_at dksX1_degree_0 13 rfl rfl)
theorem dX1_degree_14 : decode cX1_degree 14 = .ok (.iload_n 1, 1) := dk_27 (dk_at dksX1_degree_0 14 rfl rfl)
theorem dX1_degree_15 : decode cX1_degree 15 = .ok (.baload, 1) := dk_51 (dk_at dksX1_degree_0 15 rfl rfl)
theorem dX1_degree_16 : decode cX1_degree 16 = .ok (.iadd, 1) := dk_96 (dk_at dksX1_degree_0 16 rfl rfl)
theorem dX1_degree_17 : decode cX1_degree 17 = .ok (.aload_n 0, 1) := dk_42 (dk_at dksX1_degree_0 17 rfl rfl)
theorem dX1_degree_18 : decode cX1_degree 18 = .ok (.getfield 11, 3) := dk_180 0 11 (dk_at dksX1_degree_0 18 rfl rfl)
theorem dX1_degree_21 : decode cX1_degree 21 = .ok (.iconst 2, 1) := dk_5 (dk_at dksX1_degree_0 21 rfl rfl)
theorem dX1_degree_22 : decode cX1_degree 22 = .ok (.aaload, 1) := dk_50 (dk_at dksX1_degree_0 22 rfl rfl)
theorem dX1_degree_23 : decode cX1_degree 23 = .ok (.iload_n 1, 1) := dk_27 (dk_at dksX1_degree_0 23 rfl rfl)
theorem dX1_degree_24 : decode cX1_degree 24 = .ok (.baload, 1) := dk_51 (dk_at dksX1_degree_1 0 rfl rfl)
theorem dX1_degree_25 : decode cX1_degree 25 = .ok (.iadd, 1) := dk_96 (dk_at dksX1_degree_1 1 rfl rfl)
theorem dX1_degree_26 : decode cX1_degree 26 = .ok (.ireturn, 1) := dk_172 (dk_at dksX1_degree_1 2 rfl rfl)
abbrev cX1_times : ByteArray := prog_16_method_5_code
def yX1_times : MethodName := ⟨RX1, "times", "(II)I"⟩
def dkwX1_times_2 : List UInt8 := [50, 28, 51, 96, 182, 0, 22, 172]
abbrev dktX1_times_2 : List UInt8 := dkwX1_times_2 ++ []
def dkwX1_times_1 : List UInt8 := [27, 51, 42, 180, 0, 11, 4, 50, 28, 51, 96, 42, 180, 0, 11, 5, 50, 27, 51, 42, 180, 0, 11, 5]
abbrev dktX1_times_1 : List UInt8 := dkwX1_times_1 ++ dktX1_times_2
def dkwX1_times_0 : List UInt8 := [42, 42, 180, 0, 11, 3, 50, 27, 51, 42, 180, 0, 11, 3, 50, 28, 51, 96, 42, 180, 0, 11, 4, 50]
abbrev dktX1_times_0 : List UInt8 := dkwX1_times_0 ++ dktX1_times_1
theorem dksX1_times_0 : cX1_times.data.toList.drop 0 = dktX1_times_0 := by decide +kernel
theorem dksX1_times_1 : cX1_times.data.toList.drop 24 = dktX1_times_1 := dk_seg dksX1_times_0 24 rfl rfl
theorem dksX1_times_2 : cX1_times.data.toList.drop 48 = dktX1_times_2 := dk_seg dksX1_times_1 24 rfl rfl
theorem dX1_times_0 : decode cX1_times 0 = .ok (.aload_n 0, 1) := dk_42 (dk_at dksX1_times_0 0 rfl rfl)
theorem dX1_times_1 : decode cX1_times 1 = .ok (.aload_n 0, 1) := dk_42 (dk_at dksX1_times_0 1 rfl rfl)
theorem dX1_times_2 : decode cX1_times 2 = .ok (.getfield 11, 3) := dk_180 0 11 (dk_at dksX1_times_0 2 rfl rfl)
theorem dX1_times_5 : decode cX1_times 5 = .ok (.iconst 0, 1) := dk_3 (dk_at dksX1_times_0 5 rfl rfl)
theorem dX1_times_6 : decode cX1_times 6 = .ok (.aaload, 1) := dk_50 (dk_at dksX1_times_0 6 rfl rfl)
theorem dX1_times_7 : decode cX1_times 7 = .ok (.iload_n 1, 1) := dk_27 (dk_at dksX1_times_0 7 rfl rfl)
theorem dX1_times_8 : decode cX1_times 8 = .ok (.baload, 1) := dk_51 (dk_at dksX1_times_0 8 rfl rfl)
theorem dX1_times_9 : decode cX1_times 9 = .ok (.aload_n 0, 1) := dk_42 (dk_at dksX1_times_0 9 rfl rfl)
theorem dX1_times_10 : decode cX1_times 10 = .ok (.getfield 11, 3) := dk_180 0 11 (dk_at dksX1_times_0 10 rfl rfl)
theorem dX1_times_13 : decode cX1_times 13 = .ok (.iconst 0, 1) := dk_3 (dk_at dksX1_times_0 13 rfl rfl)
theorem dX1_times_14 : decode cX1_times 14 = .ok (.aaload, 1) := dk_50 (dk_at dksX1_times_0 14 rfl rfl)
theorem dX1_times_15 : decode cX1_times 15 = .ok (.iload_n 2, 1) := dk_28 (dk_at dksX1_times_0 15 rfl rfl)
theorem dX1_times_16 : decode cX1_times 16 = .ok (.baload, 1) := dk_51 (dk_at dksX1_times_0 16 rfl rfl)
theorem dX1_times_17 : decode cX1_times 17 = .ok (.iadd, 1) := dk_96 (dk_at dksX1_times_0 17 rfl rfl)
theorem dX1_times_18 : decode cX1_times 18 = .ok (.aload_n 0, 1) := dk_42 (dk_at dksX1_times_0 18 rfl rfl)
theorem dX1_times_19 : decode cX1_times 19 = .ok (.getfield 11, 3) := dk_180 0 11 (dk_at dksX1_times_0 19 rfl rfl)
theorem dX1_times_22 : decode cX1_times 22 = .ok (.iconst 1, 1) := dk_4 (dk_at dksX1_times_0 22 rfl rfl)
theorem dX1_times_23 : decode cX1_times 23 = .ok (.aaload, 1) := dk_50 (dk_at dksX1_times_0 23 rfl rfl)
theorem dX1_times_24 : decode cX1_times 24 = .ok (.iload_n 1, 1) := dk_27 (dk_at dksX1_times_1 0 rfl rfl)
theorem dX1_times_25 : decode cX1_times 25 = .ok (.baload, 1) := dk_51 (dk_at dksX1_times_1 1 rfl rfl)
theorem dX1_times_26 : decode cX1_times 26 = .ok (.aload_n 0, 1) := dk_42 (dk_at dksX1_times_1 2 rfl rfl)
theorem dX1_times_27 : decode cX1_times 27 = .ok (.getfield 11, 3) := dk_180 0 11 (dk_at dksX1_times_1 3 rfl rfl)
theorem dX1_times_30 : decode cX1_times 30 = .ok (.iconst 1, 1) := dk_4 (dk_at dksX1_times_1 6 rfl rfl)
theorem dX1_times_31 : decode cX1_times 31 = .ok (.aaload, 1) := dk_50 (dk_at dksX1_times_1 7 rfl rfl)
theorem dX1_times_32 : decode cX1_times 32 = .ok (.iload_n 2, 1) := dk_28 (dk_at dksX1_times_1 8 rfl rfl)
theorem dX1_times_33 : decode cX1_times 33 = .ok (.baload, 1) := dk_51 (dk_at dksX1_times_1 9 rfl rfl)
theorem dX1_times_34 : decode cX1_times 34 = .ok (.iadd, 1) := dk_96 (dk_at dksX1_times_1 10 rfl rfl)
theorem dX1_times_35 : decode cX1_times 35 = .ok (.aload_n 0, 1) := dk_42 (dk_at dksX1_times_1 11 rfl rfl)
theorem dX1_times_36 : decode cX1_times 36 = .ok (.getfield 11, 3) := dk_180 0 11 (dk_at dksX1_times_1 12 rfl rfl)
theorem dX1_times_39 : decode cX1_times 39 = .ok (.iconst 2, 1) := dk_5 (dk_at dksX1_times_1 15 rfl rfl)
theorem dX1_times_40 : decode cX1_times 40 = .ok (.aaload, 1) := dk_50 (dk_at dksX1_times_1 16 rfl rfl)
theorem dX1_times_41 : decode cX1_times 41 = .ok (.iload_n 1, 1) := dk_27 (dk_at dksX1_times_1 17 rfl rfl)
theorem dX1_times_42 : decode cX1_times 42 = .ok (.baload, 1) := dk_51 (dk_at dksX1_times_1 18 rfl rfl)
theorem dX1_times_43 : decode cX1_times 43 = .ok (.aload_n 0, 1) := dk_42 (dk_at dksX1_times_1 19 rfl rfl)
theorem dX1_times_44 : decode cX1_times 44 = .ok (.getfield 11, 3) := dk_180 0 11 (dk_at dksX1_times_1 20 rfl rfl)
theorem dX1_times_47 : decode cX1_times 47 = .ok (.iconst 2, 1) := dk_5 (dk_at dksX1_times_1 23 rfl rfl)
theorem dX1_times_48 : decode cX1_times 48 = .ok (.aaload, 1) := dk_50 (dk_at dksX1_times_2 0 rfl rfl)
theorem dX1_times_49 : decode cX1_times 49 = .ok (.iload_n 2, 1) := dk_28 (dk_at dksX1_times_2 1 rfl rfl)
theorem dX1_times_50 : decode cX1_times 50 = .ok (.baload, 1) := dk_51 (dk_at dksX1_times_2 2 rfl rfl)
theorem dX1_times_51 : decode cX1_times 51 = .ok (.iadd, 1) := dk_96 (dk_at dksX1_times_2 3 rfl rfl)
theorem dX1_times_52 : decode cX1_times 52 = .ok (.invokevirtual 22, 3) := dk_182 0 22 (dk_at dksX1_times_2 4 rfl rfl)
theorem dX1_times_55 : decode cX1_times 55 = .ok (.ireturn, 1) := dk_172 (dk_at dksX1_times_2 7 rfl rfl)
abbrev cX1_more : ByteArray := prog_16_method_9_code
def yX1_more : MethodName := ⟨RX1, "more", "(III)I"⟩
def dkwX1_more_0 : List UInt8 := [42, 180, 0, 11, 27, 50, 28, 51, 42, 180, 0, 11, 27, 50, 29, 51, 100, 172]
abbrev dktX1_more_0 : List UInt8 := dkwX1_more_0 ++ []
theorem dksX1_more_0 : cX1_more.data.toList.drop 0 = dktX1_more_0 := by decide +kernel
theorem dX1_more_0 : decode cX1_more 0 = .ok (.aload_n 0, 1) := dk_42 (dk_at dksX1_more_0 0 rfl rfl)
theorem dX1_more_1 : decode cX1_more 1 = .ok (.getfield 11, 3) := dk_180 0 11 (dk_at dksX1_more_0 1 rfl rfl)
theorem dX1_more_4 : decode cX1_more 4 = .ok (.iload_n 1, 1) := dk_27 (dk_at dksX1_more_0 4 rfl rfl)
theorem dX1_more_5 : decode cX1_more 5 = .ok (.aaload, 1) := dk_50 (dk_at dksX1_more_0 5 rfl rfl)
theorem dX1_more_6 : decode cX1_more 6 = .ok (.iload_n 2, 1) := dk_28 (dk_at dksX1_more_0 6 rfl rfl)
theorem dX1_more_7 : decode cX1_more 7 = .ok (.baload, 1) := dk_51 (dk_at dksX1_more_0 7 rfl rfl)
theorem dX1_more_8 : decode cX1_more 8 = .ok (.aload_n 0, 1) := dk_42 (dk_at dksX1_more_0 8 rfl rfl)
theorem dX1_more_9 : decode cX1_more 9 = .ok (.getfield 11, 3) := dk_180 0 11 (dk_at dksX1_more_0 9 rfl rfl)
theorem dX1_more_12 : decode cX1_more 12 = .ok (.iload_n 1, 1) := dk_27 (dk_at dksX1_more_0 12 rfl rfl)
theorem dX1_more_13 : decode cX1_more 13 = .ok (.aaload, 1) := dk_50 (dk_at dksX1_more_0 13 rfl rfl)
theorem dX1_more_14 : decode cX1_more 14 = .ok (.iload_n 3, 1) := dk_29 (dk_at dksX1_more_0 14 rfl rfl)
theorem dX1_more_15 : decode cX1_more 15 = .ok (.baload, 1) := dk_51 (dk_at dksX1_more_0 15 rfl rfl)
theorem dX1_more_16 : decode cX1_more 16 = .ok (.isub, 1) := dk_100 (dk_at dksX1_more_0 16 rfl rfl)
theorem dX1_more_17 : decode cX1_more 17 = .ok (.ireturn, 1) := dk_172 (dk_at dksX1_more_0 17 rfl rfl)
abbrev cX1_code : ByteArray := prog_16_method_4_code
def yX1_code : MethodName := ⟨RX1, "code", "(I)I"⟩
def dkwX1_code_1 : List UInt8 := [180, 0, 11, 5, 50, 27, 51, 104, 96, 172]
abbrev dktX1_code_1 : List UInt8 := dkwX1_code_1 ++ []
def dkwX1_code_0 : List UInt8 := [42, 180, 0, 11, 3, 50, 27, 51, 16, 16, 42, 180, 0, 11, 4, 50, 27, 51, 104, 96, 17, 1, 0, 42]
abbrev dktX1_code_0 : List UInt8 := dkwX1_code_0 ++ dktX1_code_1
theorem dksX1_code_0 : cX1_code.data.toList.drop 0 = dktX1_code_0 := by decide +kernel
theorem dksX1_code_1 : cX1_code.data.toList.drop 24 = dktX1_code_1 := dk_seg dksX1_code_0 24 rfl rfl
theorem dX1_code_0 : decode cX1_code 0 = .ok (.aload_n 0, 1) := dk_42 (dk_at dksX1_code_0 0 rfl rfl)
theorem dX1_code_1 : decode cX1_code 1 = .ok (.getfield 11, 3) := dk_180 0 11 (dk_at dksX1_code_0 1 rfl rfl)
theorem dX1_code_4 : decode cX1_code 4 = .ok (.iconst 0, 1) := dk_3 (dk_at dksX1_code_0 4 rfl rfl)
theorem dX1_code_5 : decode cX1_code 5 = .ok (.aaload, 1) := dk_50 (dk_at dksX1_code_0 5 rfl rfl)
theorem dX1_code_6 : decode cX1_code 6 = .ok (.iload_n 1, 1) := dk_27 (dk_at dksX1_code_0 6 rfl rfl)
theorem dX1_code_7 : decode cX1_code 7 = .ok (.baload, 1) := dk_51 (dk_at dksX1_code_0 7 rfl rfl)
theorem dX1_code_8 : decode cX1_code 8 = .ok (.bipush 16, 2) := dk_16 16 (dk_at dksX1_code_0 8 rfl rfl)
theorem dX1_code_10 : decode cX1_code 10 = .ok (.aload_n 0, 1) := dk_42 (dk_at dksX1_code_0 10 rfl rfl)
theorem dX1_code_11 : decode cX1_code 11 = .ok (.getfield 11, 3) := dk_180 0 11 (dk_at dksX1_code_0 11 rfl rfl)
theorem dX1_code_14 : decode cX1_code 14 = .ok (.iconst 1, 1) := dk_4 (dk_at dksX1_code_0 14 rfl rfl)
theorem dX1_code_15 : decode cX1_code 15 = .ok (.aaload, 1) := dk_50 (dk_at dksX1_code_0 15 rfl rfl)
theorem dX1_code_16 : decode cX1_code 16 = .ok (.iload_n 1, 1) := dk_27 (dk_at dksX1_code_0 16 rfl rfl)
theorem dX1_code_17 : decode cX1_code 17 = .ok (.baload, 1) := dk_51 (dk_at dksX1_code_0 17 rfl rfl)
theorem dX1_code_18 : decode cX1_code 18 = .ok (.imul, 1) := dk_104 (dk_at dksX1_code_0 18 rfl rfl)
theorem dX1_code_19 : decode cX1_code 19 = .ok (.iadd, 1) := dk_96 (dk_at dksX1_code_0 19 rfl rfl)
theorem dX1_code_20 : decode cX1_code 20 = .ok (.sipush 256, 3) := dk_17 1 0 (dk_at dksX1_code_0 20 rfl rfl)
theorem dX1_code_23 : decode cX1_code 23 = .ok (.aload_n 0, 1) := dk_42 (dk_at dksX1_code_0 23 rfl rfl)
theorem dX1_code_24 : decode cX1_code 24 = .ok (.getfield 11, 3) := dk_180 0 11 (dk_at dksX1_code_1 0 rfl rfl)
theorem dX1_code_27 : decode cX1_code 27 = .ok (.iconst 2, 1) := dk_5 (dk_at dksX1_code_1 3 rfl rfl)
theorem dX1_code_28 : decode cX1_code 28 = .ok (.aaload, 1) := dk_50 (dk_at dksX1_code_1 4 rfl rfl)
theorem dX1_code_29 : decode cX1_code 29 = .ok (.iload_n 1, 1) := dk_27 (dk_at dksX1_code_1 5 rfl rfl)
theorem dX1_code_30 : decode cX1_code 30 = .ok (.baload, 1) := dk_51 (dk_at dksX1_code_1 6 rfl rfl)
theorem dX1_code_31 : decode cX1_code 31 = .ok (.imul, 1) := dk_104 (dk_at dksX1_code_1 7 rfl rfl)
theorem dX1_code_32 : decode cX1_code 32 = .ok (.iadd, 1) := dk_96 (dk_at dksX1_code_1 8 rfl rfl)
theorem dX1_code_33 : decode cX1_code 33 = .ok (.ireturn, 1) := dk_172 (dk_at dksX1_code_1 9 rfl rfl)
abbrev cX1_divides : ByteArray := prog_16_method_6_code
def yX1_divides : MethodName := ⟨RX1, "divides", "(II)Z"⟩
def dkwX1_divides_2 : List UInt8 := [180, 0, 11, 5, 50, 28, 51, 163, 0, 7, 4, 167, 0, 4, 3, 172]
abbrev dktX1_divides_2 : List UInt8 := dkwX1_divides_2 ++ []
def dkwX1_divides_1 : List UInt8 := [50, 27, 51, 42, 180, 0, 11, 4, 50, 28, 51, 163, 0, 26, 42, 180, 0, 11, 5, 50, 27, 51, 42]
abbrev dktX1_divides_1 : List UInt8 := dkwX1_divides_1 ++ dktX1_divides_2
def dkwX1_divides_0 : List UInt8 := [42, 180, 0, 11, 3, 50, 27, 51, 42, 180, 0, 11, 3, 50, 28, 51, 163, 0, 45, 42, 180, 0, 11, 4]
abbrev dktX1_divides_0 : List UInt8 := dkwX1_divides_0 ++ dktX1_divides_1
theorem dksX1_divides_0 : cX1_divides.data.toList.drop 0 = dktX1_divides_0 := by decide +kernel
theorem dksX1_divides_1 : cX1_divides.data.toList.drop 24 = dktX1_divides_1 := dk_seg dksX1_divides_0 24 rfl rfl
theorem dksX1_divides_2 : cX1_divides.data.toList.drop 47 = dktX1_divides_2 := dk_seg dksX1_divides_1 23 rfl rfl
theorem dX1_divides_0 : decode cX1_divides 0 = .ok (.aload_n 0, 1) := dk_42 (dk_at dksX1_divides_0 0 rfl rfl)
theorem dX1_divides_1 : decode cX1_divides 1 = .ok (.getfield 11, 3) := dk_180 0 11 (dk_at dksX1_divides_0 1 rfl rfl)
theorem dX1_divides_4 : decode cX1_divides 4 = .ok (.iconst 0, 1) := dk_3 (dk_at dksX1_divides_0 4 rfl rfl)
theorem dX1_divides_5 : decode cX1_divides 5 = .ok (.aaload, 1) := dk_50 (dk_at dksX1_divides_0 5 rfl rfl)
theorem dX1_divides_6 : decode cX1_divides 6 = .ok (.iload_n 1, 1) := dk_27 (dk_at dksX1_divides_0 6 rfl rfl)
theorem dX1_divides_7 : decode cX1_divides 7 = .ok (.baload, 1) := dk_51 (dk_at dksX1_divides_0 7 rfl rfl)
theorem dX1_divides_8 : decode cX1_divides 8 = .ok (.aload_n 0, 1) := dk_42 (dk_at dksX1_divides_0 8 rfl rfl)
theorem dX1_divides_9 : decode cX1_divides 9 = .ok (.getfield 11, 3) := dk_180 0 11 (dk_at dksX1_divides_0 9 rfl rfl)
theorem dX1_divides_12 : decode cX1_divides 12 = .ok (.iconst 0, 1) := dk_3 (dk_at dksX1_divides_0 12 rfl rfl)
theorem dX1_divides_13 : decode cX1_divides 13 = .ok (.aaload, 1) := dk_50 (dk_at dksX1_divides_0 13 rfl rfl)
theorem dX1_divides_14 : decode cX1_divides 14 = .ok (.iload_n 2, 1) := dk_28 (dk_at dksX1_divides_0 14 rfl rfl)
theorem dX1_divides_15 : decode cX1_divides 15 = .ok (.baload, 1) := dk_51 (dk_at dksX1_divides_0 15 rfl rfl)
theorem dX1_divides_16 : decode cX1_divides 16 = .ok (.if_icmp .gt 45, 3) := dk_163 0 45 (dk_at dksX1_divides_0 16 rfl rfl)
theorem dX1_divides_19 : decode cX1_divides 19 = .ok (.aload_n 0, 1) := dk_42 (dk_at dksX1_divides_0 19 rfl rfl)
theorem dX1_divides_20 : decode cX1_divides 20 = .ok (.getfield 11, 3) := dk_180 0 11 (dk_at dksX1_divides_0 20 rfl rfl)
theorem dX1_divides_23 : decode cX1_divides 23 = .ok (.iconst 1, 1) := dk_4 (dk_at dksX1_divides_0 23 rfl rfl)
theorem dX1_divides_24 : decode cX1_divides 24 = .ok (.aaload, 1) := dk_50 (dk_at dksX1_divides_1 0 rfl rfl)
theorem dX1_divides_25 : decode cX1_divides 25 = .ok (.iload_n 1, 1) := dk_27 (dk_at dksX1_divides_1 1 rfl rfl)
theorem dX1_divides_26 : decode cX1_divides 26 = .ok (.baload, 1) := dk_51 (dk_at dksX1_divides_1 2 rfl rfl)
theorem dX1_divides_27 : decode cX1_divides 27 = .ok (.aload_n 0, 1) := dk_42 (dk_at dksX1_divides_1 3 rfl rfl)
theorem dX1_divides_28 : decode cX1_divides 28 = .ok (.getfield 11, 3) := dk_180 0 11 (dk_at dksX1_divides_1 4 rfl rfl)
theorem dX1_divides_31 : decode cX1_divides 31 = .ok (.iconst 1, 1) := dk_4 (dk_at dksX1_divides_1 7 rfl rfl)
theorem dX1_divides_32 : decode cX1_divides 32 = .ok (.aaload, 1) := dk_50 (dk_at dksX1_divides_1 8 rfl rfl)
theorem dX1_divides_33 : decode cX1_divides 33 = .ok (.iload_n 2, 1) := dk_28 (dk_at dksX1_divides_1 9 rfl rfl)
theorem dX1_divides_34 : decode cX1_divides 34 = .ok (.baload, 1) := dk_51 (dk_at dksX1_divides_1 10 rfl rfl)
theorem dX1_divides_35 : decode cX1_divides 35 = .ok (.if_icmp .gt 26, 3) := dk_163 0 26 (dk_at dksX1_divides_1 11 rfl rfl)
theorem dX1_divides_38 : decode cX1_divides 38 = .ok (.aload_n 0, 1) := dk_42 (dk_at dksX1_divides_1 14 rfl rfl)
theorem dX1_divides_39 : decode cX1_divides 39 = .ok (.getfield 11, 3) := dk_180 0 11 (dk_at dksX1_divides_1 15 rfl rfl)
theorem dX1_divides_42 : decode cX1_divides 42 = .ok (.iconst 2, 1) := dk_5 (dk_at dksX1_divides_1 18 rfl rfl)
theorem dX1_divides_43 : decode cX1_divides 43 = .ok (.aaload, 1) := dk_50 (dk_at dksX1_divides_1 19 rfl rfl)
theorem dX1_divides_44 : decode cX1_divides 44 = .ok (.iload_n 1, 1) := dk_27 (dk_at dksX1_divides_1 20 rfl rfl)
theorem dX1_divides_45 : decode cX1_divides 45 = .ok (.baload, 1) := dk_51 (dk_at dksX1_divides_1 21 rfl rfl)
theorem dX1_divides_46 : decode cX1_divides 46 = .ok (.aload_n 0, 1) := dk_42 (dk_at dksX1_divides_1 22 rfl rfl)
theorem dX1_divides_47 : decode cX1_divides 47 = .ok (.getfield 11, 3) := dk_180 0 11 (dk_at dksX1_divides_2 0 rfl rfl)
theorem dX1_divides_50 : decode cX1_divides 50 = .ok (.iconst 2, 1) := dk_5 (dk_at dksX1_divides_2 3 rfl rfl)
theorem dX1_divides_51 : decode cX1_divides 51 = .ok (.aaload, 1) := dk_50 (dk_at dksX1_divides_2 4 rfl rfl)
theorem dX1_divides_52 : decode cX1_divides 52 = .ok (.iload_n 2, 1) := dk_28 (dk_at dksX1_divides_2 5 rfl rfl)
theorem dX1_divides_53 : decode cX1_divides 53 = .ok (.baload, 1) := dk_51 (dk_at dksX1_divides_2 6 rfl rfl)
theorem dX1_divides_54 : decode cX1_divides 54 = .ok (.if_icmp .gt 7, 3) := dk_163 0 7 (dk_at dksX1_divides_2 7 rfl rfl)
theorem dX1_divides_57 : decode cX1_divides 57 = .ok (.iconst 1, 1) := dk_4 (dk_at dksX1_divides_2 10 rfl rfl)
theorem dX1_divides_58 : decode cX1_divides 58 = .ok (.goto 4, 3) := dk_167 0 4 (dk_at dksX1_divides_2 11 rfl rfl)
theorem dX1_divides_61 : decode cX1_divides 61 = .ok (.iconst 0, 1) := dk_3 (dk_at dksX1_divides_2 14 rfl rfl)
theorem dX1_divides_62 : decode cX1_divides 62 = .ok (.ireturn, 1) := dk_172 (dk_at dksX1_divides_2 15 rfl rfl)
abbrev cX1_over : ByteArray := prog_16_method_7_code
def yX1_over : MethodName := ⟨RX1, "over", "(II)I"⟩
def dkwX1_over_2 : List UInt8 := [50, 28, 51, 100, 182, 0, 22, 172]
abbrev dktX1_over_2 : List UInt8 := dkwX1_over_2 ++ []
def dkwX1_over_1 : List UInt8 := [27, 51, 42, 180, 0, 11, 4, 50, 28, 51, 100, 42, 180, 0, 11, 5, 50, 27, 51, 42, 180, 0, 11, 5]
abbrev dktX1_over_1 : List UInt8 := dkwX1_over_1 ++ dktX1_over_2
def dkwX1_over_0 : List UInt8 := [42, 42, 180, 0, 11, 3, 50, 27, 51, 42, 180, 0, 11, 3, 50, 28, 51, 100, 42, 180, 0, 11, 4, 50]
abbrev dktX1_over_0 : List UInt8 := dkwX1_over_0 ++ dktX1_over_1
theorem dksX1_over_0 : cX1_over.data.toList.drop 0 = dktX1_over_0 := by decide +kernel
theorem dksX1_over_1 : cX1_over.data.toList.drop 24 = dktX1_over_1 := dk_seg dksX1_over_0 24 rfl rfl
theorem dksX1_over_2 : cX1_over.data.toList.drop 48 = dktX1_over_2 := dk_seg dksX1_over_1 24 rfl rfl
theorem dX1_over_0 : decode cX1_over 0 = .ok (.aload_n 0, 1) := dk_42 (dk_at dksX1_over_0 0 rfl rfl)
theorem dX1_over_1 : decode cX1_over 1 = .ok (.aload_n 0, 1) := dk_42 (dk_at dksX1_over_0 1 rfl rfl)
theorem dX1_over_2 : decode cX1_over 2 = .ok (.getfield 11, 3) := dk_180 0 11 (dk_at dksX1_over_0 2 rfl rfl)
theorem dX1_over_5 : decode cX1_over 5 = .ok (.iconst 0, 1) := dk_3 (dk_at dksX1_over_0 5 rfl rfl)
theorem dX1_over_6 : decode cX1_over 6 = .ok (.aaload, 1) := dk_50 (dk_at dksX1_over_0 6 rfl rfl)
theorem dX1_over_7 : decode cX1_over 7 = .ok (.iload_n 1, 1) := dk_27 (dk_at dksX1_over_0 7 rfl rfl)
theorem dX1_over_8 : decode cX1_over 8 = .ok (.baload, 1) := dk_51 (dk_at dksX1_over_0 8 rfl rfl)
theorem dX1_over_9 : decode cX1_over 9 = .ok (.aload_n 0, 1) := dk_42 (dk_at dksX1_over_0 9 rfl rfl)
theorem dX1_over_10 : decode cX1_over 10 = .ok (.getfield 11, 3) := dk_180 0 11 (dk_at dksX1_over_0 10 rfl rfl)
theorem dX1_over_13 : decode cX1_over 13 = .ok (.iconst 0, 1) := dk_3 (dk_at dksX1_over_0 13 rfl rfl)
theorem dX1_over_14 : decode cX1_over 14 = .ok (.aaload, 1) := dk_50 (dk_at dksX1_over_0 14 rfl rfl)
theorem dX1_over_15 : decode cX1_over 15 = .ok (.iload_n 2, 1) := dk_28 (dk_at dksX1_over_0 15 rfl rfl)
theorem dX1_over_16 : decode cX1_over 16 = .ok (.baload, 1) := dk_51 (dk_at dksX1_over_0 16 rfl rfl)
theorem dX1_over_17 : decode cX1_over 17 = .ok (.isub, 1) := dk_100 (dk_at dksX1_over_0 17 rfl rfl)
theorem dX1_over_18 : decode cX1_over 18 = .ok (.aload_n 0, 1) := dk_42 (dk_at dksX1_over_0 18 rfl rfl)
theorem dX1_over_19 : decode cX1_over 19 = .ok (.getfield 11, 3) := dk_180 0 11 (dk_at dksX1_over_0 19 rfl rfl)
theorem dX1_over_22 : decode cX1_over 22 = .ok (.iconst 1, 1) := dk_4 (dk_at dksX1_over_0 22 rfl rfl)
theorem dX1_over_23 : decode cX1_over 23 = .ok (.aaload, 1) := dk_50 (dk_at dksX1_over_0 23 rfl rfl)
theorem dX1_over_24 : decode cX1_over 24 = .ok (.iload_n 1, 1) := dk_27 (dk_at dksX1_over_1 0 rfl rfl)
theorem dX1_over_25 : decode cX1_over 25 = .ok (.baload, 1) := dk_51 (dk_at dksX1_over_1 1 rfl rfl)
theorem dX1_over_26 : decode cX1_over 26 = .ok (.aload_n 0, 1) := dk_42 (dk_at dksX1_over_1 2 rfl rfl)
theorem dX1_over_27 : decode cX1_over 27 = .ok (.getfield 11, 3) := dk_180 0 11 (dk_at dksX1_over_1 3 rfl rfl)
theorem dX1_over_30 : decode cX1_over 30 = .ok (.iconst 1, 1) := dk_4 (dk_at dksX1_over_1 6 rfl rfl)
theorem dX1_over_31 : decode cX1_over 31 = .ok (.aaload, 1) := dk_50 (dk_at dksX1_over_1 7 rfl rfl)
theorem dX1_over_32 : decode cX1_over 32 = .ok (.iload_n 2, 1) := dk_28 (dk_at dksX1_over_1 8 rfl rfl)
theorem dX1_over_33 : decode cX1_over 33 = .ok (.baload, 1) := dk_51 (dk_at dksX1_over_1 9 rfl rfl)
theorem dX1_over_34 : decode cX1_over 34 = .ok (.isub, 1) := dk_100 (dk_at dksX1_over_1 10 rfl rfl)
theorem dX1_over_35 : decode cX1_over 35 = .ok (.aload_n 0, 1) := dk_42 (dk_at dksX1_over_1 11 rfl rfl)
theorem dX1_over_36 : decode cX1_over 36 = .ok (.getfield 11, 3) := dk_180 0 11 (dk_at dksX1_over_1 12 rfl rfl)
theorem dX1_over_39 : decode cX1_over 39 = .ok (.iconst 2, 1) := dk_5 (dk_at dksX1_over_1 15 rfl rfl)
theorem dX1_over_40 : decode cX1_over 40 = .ok (.aaload, 1) := dk_50 (dk_at dksX1_over_1 16 rfl rfl)
theorem dX1_over_41 : decode cX1_over 41 = .ok (.iload_n 1, 1) := dk_27 (dk_at dksX1_over_1 17 rfl rfl)
theorem dX1_over_42 : decode cX1_over 42 = .ok (.baload, 1) := dk_51 (dk_at dksX1_over_1 18 rfl rfl)
theorem dX1_over_43 : decode cX1_over 43 = .ok (.aload_n 0, 1) := dk_42 (dk_at dksX1_over_1 19 rfl rfl)
theorem dX1_over_44 : decode cX1_over 44 = .ok (.getfield 11, 3) := dk_180 0 11 (dk_at dksX1_over_1 20 rfl rfl)
theorem dX1_over_47 : decode cX1_over 47 = .ok (.iconst 2, 1) := dk_5 (dk_at dksX1_over_1 23 rfl rfl)
theorem dX1_over_48 : decode cX1_over 48 = .ok (.aaload, 1) := dk_50 (dk_at dksX1_over_2 0 rfl rfl)
theorem dX1_over_49 : decode cX1_over 49 = .ok (.iload_n 2, 1) := dk_28 (dk_at dksX1_over_2 1 rfl rfl)
theorem dX1_over_50 : decode cX1_over 50 = .ok (.baload, 1) := dk_51 (dk_at dksX1_over_2 2 rfl rfl)
theorem dX1_over_51 : decode cX1_over 51 = .ok (.isub, 1) := dk_100 (dk_at dksX1_over_2 3 rfl rfl)
theorem dX1_over_52 : decode cX1_over 52 = .ok (.invokevirtual 22, 3) := dk_182 0 22 (dk_at dksX1_over_2 4 rfl rfl)
theorem dX1_over_55 : decode cX1_over 55 = .ok (.ireturn, 1) := dk_172 (dk_at dksX1_over_2 7 rfl rfl)
abbrev cX1_join : ByteArray := prog_16_method_8_code
def yX1_join : MethodName := ⟨RX1, "join", "(II)I"⟩
def dkwX1_join_2 : List UInt8 := [180, 0, 11, 5, 50, 28, 51, 184, 0, 26, 182, 0, 22, 172]
abbrev dktX1_join_2 : List UInt8 := dkwX1_join_2 ++ []
def dkwX1_join_1 : List UInt8 := [4, 50, 27, 51, 42, 180, 0, 11, 4, 50, 28, 51, 184, 0, 26, 42, 180, 0, 11, 5, 50, 27, 51, 42]
abbrev dktX1_join_1 : List UInt8 := dkwX1_join_1 ++ dktX1_join_2
def dkwX1_join_0 : List UInt8 := [42, 42, 180, 0, 11, 3, 50, 27, 51, 42, 180, 0, 11, 3, 50, 28, 51, 184, 0, 26, 42, 180, 0, 11]
abbrev dktX1_join_0 : List UInt8 := dkwX1_join_0 ++ dktX1_join_1
theorem dksX1_join_0 : cX1_join.data.toList.drop 0 = dktX1_join_0 := by decide +kernel
theorem dksX1_join_1 : cX1_join.data.toList.drop 24 = dktX1_join_1 := dk_seg dksX1_join_0 24 rfl rfl
theorem dksX1_join_2 : cX1_join.data.toList.drop 48 = dktX1_join_2 := dk_seg dksX1_join_1 24 rfl rfl
theorem dX1_join_0 : decode cX1_join 0 = .ok (.aload_n 0, 1) := dk_42 (dk_at dksX1_join_0 0 rfl rfl)
theorem dX1_join_1 : decode cX1_join 1 = .ok (.aload_n 0, 1) := dk_42 (dk_at dksX1_join_0 1 rfl rfl)
theorem dX1_join_2 : decode cX1_join 2 = .ok (.getfield 11, 3) := dk_180 0 11 (dk_at dksX1_join_0 2 rfl rfl)
theorem dX1_join_5 : decode cX1_join 5 = .ok (.iconst 0, 1) := dk_3 (dk_at dksX1_join_0 5 rfl rfl)
theorem dX1_join_6 : decode cX1_join 6 = .ok (.aaload, 1) := dk_50 (dk_at dksX1_join_0 6 rfl rfl)
theorem dX1_join_7 : decode cX1_join 7 = .ok (.iload_n 1, 1) := dk_27 (dk_at dksX1_join_0 7 rfl rfl)
theorem dX1_join_8 : decode cX1_join 8 = .ok (.baload, 1) := dk_51 (dk_at dksX1_join_0 8 rfl rfl)
theorem dX1_join_9 : decode cX1_join 9 = .ok (.aload_n 0, 1) := dk_42 (dk_at dksX1_join_0 9 rfl rfl)
theorem dX1_join_10 : decode cX1_join 10 = .ok (.getfield 11, 3) := dk_180 0 11 (dk_at dksX1_join_0 10 rfl rfl)
theorem dX1_join_13 : decode cX1_join 13 = .ok (.iconst 0, 1) := dk_3 (dk_at dksX1_join_0 13 rfl rfl)
theorem dX1_join_14 : decode cX1_join 14 = .ok (.aaload, 1) := dk_50 (dk_at dksX1_join_0 14 rfl rfl)
theorem dX1_join_15 : decode cX1_join 15 = .ok (.iload_n 2, 1) := dk_28 (dk_at dksX1_join_0 15 rfl rfl)
theorem dX1_join_16 : decode cX1_join 16 = .ok (.baload, 1) := dk_51 (dk_at dksX1_join_0 16 rfl rfl)
theorem dX1_join_17 : decode cX1_join 17 = .ok (.invokestatic 26, 3) := dk_184 0 26 (dk_at dksX1_join_0 17 rfl rfl)
theorem dX1_join_20 : decode cX1_join 20 = .ok (.aload_n 0, 1) := dk_42 (dk_at dksX1_join_0 20 rfl rfl)
theorem dX1_join_21 : decode cX1_join 21 = .ok (.getfield 11, 3) := dk_180 0 11 (dk_at dksX1_join_0 21 rfl rfl)
theorem dX1_join_24 : decode cX1_join 24 = .ok (.iconst 1, 1) := dk_4 (dk_at dksX1_join_1 0 rfl rfl)
theorem dX1_join_25 : decode cX1_join 25 = .ok (.aaload, 1) := dk_50 (dk_at dksX1_join_1 1 rfl rfl)
theorem dX1_join_26 : decode cX1_join 26 = .ok (.iload_n 1, 1) := dk_27 (dk_at dksX1_join_1 2 rfl rfl)
theorem dX1_join_27 : decode cX1_join 27 = .ok (.baload, 1) := dk_51 (dk_at dksX1_join_1 3 rfl rfl)
theorem dX1_join_28 : decode cX1_join 28 = .ok (.aload_n 0, 1) := dk_42 (dk_at dksX1_join_1 4 rfl rfl)
theorem dX1_join_29 : decode cX1_join 29 = .ok (.getfield 11, 3) := dk_180 0 11 (dk_at dksX1_join_1 5 rfl rfl)
theorem dX1_join_32 : decode cX1_join 32 = .ok (.iconst 1, 1) := dk_4 (dk_at dksX1_join_1 8 rfl rfl)
theorem dX1_join_33 : decode cX1_join 33 = .ok (.aaload, 1) := dk_50 (dk_at dksX1_join_1 9 rfl rfl)
theorem dX1_join_34 : decode cX1_join 34 = .ok (.iload_n 2, 1) := dk_28 (dk_at dksX1_join_1 10 rfl rfl)
theorem dX1_join_35 : decode cX1_join 35 = .ok (.baload, 1) := dk_51 (dk_at dksX1_join_1 11 rfl rfl)
theorem dX1_join_36 : decode cX1_join 36 = .ok (.invokestatic 26, 3) := dk_184 0 26 (dk_at dksX1_join_1 12 rfl rfl)
theorem dX1_join_39 : decode cX1_join 39 = .ok (.aload_n 0, 1) := dk_42 (dk_at dksX1_join_1 15 rfl rfl)
theorem dX1_join_40 : decode cX1_join 40 = .ok (.getfield 11, 3) := dk_180 0 11 (dk_at dksX1_join_1 16 rfl rfl)
theorem dX1_join_43 : decode cX1_join 43 = .ok (.iconst 2, 1) := dk_5 (dk_at dksX1_join_1 19 rfl rfl)
theorem dX1_join_44 : decode cX1_join 44 = .ok (.aaload, 1) := dk_50 (dk_at dksX1_join_1 20 rfl rfl)
theorem dX1_join_45 : decode cX1_join 45 = .ok (.iload_n 1, 1) := dk_27 (dk_at dksX1_join_1 21 rfl rfl)
theorem dX1_join_46 : decode cX1_join 46 = .ok (.baload, 1) := dk_51 (dk_at dksX1_join_1 22 rfl rfl)
theorem dX1_join_47 : decode cX1_join 47 = .ok (.aload_n 0, 1) := dk_42 (dk_at dksX1_join_1 23 rfl rfl)
theorem dX1_join_48 : decode cX1_join 48 = .ok (.getfield 11, 3) := dk_180 0 11 (dk_at dksX1_join_2 0 rfl rfl)
theorem dX1_join_51 : decode cX1_join 51 = .ok (.iconst 2, 1) := dk_5 (dk_at dksX1_join_2 3 rfl rfl)
theorem dX1_join_52 : decode cX1_join 52 = .ok (.aaload, 1) := dk_50 (dk_at dksX1_join_2 4 rfl rfl)
theorem dX1_join_53 : decode cX1_join 53 = .ok (.iload_n 2, 1) := dk_28 (dk_at dksX1_join_2 5 rfl rfl)
theorem dX1_join_54 : decode cX1_join 54 = .ok (.baload, 1) := dk_51 (dk_at dksX1_join_2 6 rfl rfl)
theorem dX1_join_55 : decode cX1_join 55 = .ok (.invokestatic 26, 3) := dk_184 0 26 (dk_at dksX1_join_2 7 rfl rfl)
theorem dX1_join_58 : decode cX1_join 58 = .ok (.invokevirtual 22, 3) := dk_182 0 22 (dk_at dksX1_join_2 10 rfl rfl)
theorem dX1_join_61 : decode cX1_join 61 = .ok (.ireturn, 1) := dk_172 (dk_at dksX1_join_2 13 rfl rfl)
theorem q100 : (Jvm.Cond.initialized "IdealCourt$Terms") ∈ lw_all := lw_g (lw_at lw_m1 2 rfl) rfl
theorem q146 : (Jvm.Cond.instantiable "IdealCourt$Terms" (2 : Nat)) ∈ lw_all := lw_g (lw_at lw_m1 48 rfl) rfl
theorem q148 : (Jvm.Cond.instanceMethod ({ cls := "IdealCourt$Terms", name := "<init>", desc := "()V" } : Jvm.MethodName)) ∈ lw_all := lw_g (lw_at lw_m1 50 rfl) rfl
theorem q149 : (Jvm.Cond.code ({ cls := "IdealCourt$Terms", name := "<init>", desc := "()V" } : Jvm.MethodName) prog_16_method_1_code (5 : Nat) (Option.none : Option Jvm.ClassFile.FieldType)) ∈ lw_all := lw_g (lw_at lw_m1 51 rfl) rfl
theorem q150 : (Jvm.Cond.methodLink "IdealCourt$Terms" (3 : Nat) ({ cls := "java/lang/Object", name := "<init>", desc := "()V" } : Jvm.MethodName)) ∈ lw_all := lw_g (lw_at lw_m1 52 rfl) rfl
theorem q151 : (Jvm.Cond.classLink "IdealCourt$Terms" (9 : Nat) "[[B") ∈ lw_all := lw_g (lw_at lw_m1 53 rfl) rfl
theorem q153 : (Jvm.Cond.classLink "IdealCourt$Terms" (16 : Nat) "[S") ∈ lw_all := lw_g (lw_at lw_m1 55 rfl) rfl
theorem q155 : (Jvm.Cond.fieldLink "IdealCourt$Terms" (11 : Nat) "IdealCourt$Terms" "letters" "[[B") ∈ lw_all := lw_g (lw_at lw_m1 57 rfl) rfl
theorem q157 : (Jvm.Cond.fieldLink "IdealCourt$Terms" (18 : Nat) "IdealCourt$Terms" "numbers" "[[S") ∈ lw_all := lw_g (lw_at lw_m1 59 rfl) rfl
theorem q158 : (Jvm.Cond.laysFinal "IdealCourt$Terms" "IdealCourt$Terms" "letters" "[[B") ∈ lw_all := lw_g (lw_at lw_m1 60 rfl) rfl
theorem q159 : (Jvm.Cond.soleField "IdealCourt$Terms" "letters") ∈ lw_all := lw_g (lw_at lw_m1 61 rfl) rfl
theorem q160 : (Jvm.Cond.laysFinal "IdealCourt$Terms" "IdealCourt$Terms" "numbers" "[[S") ∈ lw_all := lw_g (lw_at lw_m1 62 rfl) rfl
theorem q161 : (Jvm.Cond.soleField "IdealCourt$Terms" "numbers") ∈ lw_all := lw_g (lw_at lw_m1 63 rfl) rfl
theorem q162 : (Jvm.Cond.superclass "IdealCourt$Terms" "java/lang/Object") ∈ lw_all := lw_g (lw_at lw_m1 64 rfl) rfl
theorem q900 : (Jvm.Cond.instanceMethod ({ cls := "IdealCourt$Terms", name := "number", desc := "(III)I" } : Jvm.MethodName)) ∈ lw_all := lw_g (lw_at lw_m4 82 rfl) rfl
theorem q901 : (Jvm.Cond.selects "IdealCourt$Terms" ({ cls := "IdealCourt$Terms", name := "number", desc := "(III)I" } : Jvm.MethodName) ({ cls := "IdealCourt$Terms", name := "number", desc := "(III)I" } : Jvm.MethodName)) ∈ lw_all := lw_g (lw_at lw_m4 83 rfl) rfl
theorem q902 : (Jvm.Cond.code ({ cls := "IdealCourt$Terms", name := "number", desc := "(III)I" } : Jvm.MethodName) prog_16_method_2_code (4 : Nat) (Option.some Jvm.ClassFile.FieldType.int)) ∈ lw_all := lw_g (lw_at lw_m4 84 rfl) rfl
theorem q1032 : (Jvm.Cond.instanceMethod ({ cls := "IdealCourt$Terms", name := "degree", desc := "(I)I" } : Jvm.MethodName)) ∈ lw_all := lw_g (lw_at lw_m4 214 rfl) rfl
theorem q1033 : (Jvm.Cond.selects "IdealCourt$Terms" ({ cls := "IdealCourt$Terms", name := "degree", desc := "(I)I" } : Jvm.MethodName) ({ cls := "IdealCourt$Terms", name := "degree", desc := "(I)I" } : Jvm.MethodName)) ∈ lw_all := lw_g (lw_at lw_m4 215 rfl) rfl
theorem q1034 : (Jvm.Cond.code ({ cls := "IdealCourt$Terms", name := "degree", desc := "(I)I" } : Jvm.MethodName) prog_16_method_3_code (2 : Nat) (Option.some Jvm.ClassFile.FieldType.int)) ∈ lw_all := lw_g (lw_at lw_m4 216 rfl) rfl
theorem q1041 : (Jvm.Cond.instanceMethod ({ cls := "IdealCourt$Terms", name := "times", desc := "(II)I" } : Jvm.MethodName)) ∈ lw_all := lw_g (lw_at lw_m4 223 rfl) rfl
theorem q1042 : (Jvm.Cond.selects "IdealCourt$Terms" ({ cls := "IdealCourt$Terms", name := "times", desc := "(II)I" } : Jvm.MethodName) ({ cls := "IdealCourt$Terms", name := "times", desc := "(II)I" } : Jvm.MethodName)) ∈ lw_all := lw_g (lw_at lw_m4 224 rfl) rfl
theorem q1043 : (Jvm.Cond.code ({ cls := "IdealCourt$Terms", name := "times", desc := "(II)I" } : Jvm.MethodName) prog_16_method_5_code (3 : Nat) (Option.some Jvm.ClassFile.FieldType.int)) ∈ lw_all := lw_g (lw_at lw_m4 225 rfl) rfl
theorem q1044 : (Jvm.Cond.methodLink "IdealCourt$Terms" (22 : Nat) ({ cls := "IdealCourt$Terms", name := "number", desc := "(III)I" } : Jvm.MethodName)) ∈ lw_all := lw_g (lw_at lw_m4 226 rfl) rfl
theorem q1110 : (Jvm.Cond.instanceMethod ({ cls := "IdealCourt$Terms", name := "more", desc := "(III)I" } : Jvm.MethodName)) ∈ lw_all := lw_g (lw_at lw_m5 52 rfl) rfl
theorem q1111 : (Jvm.Cond.selects "IdealCourt$Terms" ({ cls := "IdealCourt$Terms", name := "more", desc := "(III)I" } : Jvm.MethodName) ({ cls := "IdealCourt$Terms", name := "more", desc := "(III)I" } : Jvm.MethodName)) ∈ lw_all := lw_g (lw_at lw_m5 53 rfl) rfl
theorem q1112 : (Jvm.Cond.code ({ cls := "IdealCourt$Terms", name := "more", desc := "(III)I" } : Jvm.MethodName) prog_16_method_9_code (4 : Nat) (Option.some Jvm.ClassFile.FieldType.int)) ∈ lw_all := lw_g (lw_at lw_m5 54 rfl) rfl
theorem q1147 : (Jvm.Cond.instanceMethod ({ cls := "IdealCourt$Terms", name := "code", desc := "(I)I" } : Jvm.MethodName)) ∈ lw_all := lw_g (lw_at lw_m5 89 rfl) rfl
theorem q1148 : (Jvm.Cond.selects "IdealCourt$Terms" ({ cls := "IdealCourt$Terms", name := "code", desc := "(I)I" } : Jvm.MethodName) ({ cls := "IdealCourt$Terms", name := "code", desc := "(I)I" } : Jvm.MethodName)) ∈ lw_all := lw_g (lw_at lw_m5 90 rfl) rfl
theorem q1149 : (Jvm.Cond.code ({ cls := "IdealCourt$Terms", name := "code", desc := "(I)I" } : Jvm.MethodName) prog_16_method_4_code (2 : Nat) (Option.some Jvm.ClassFile.FieldType.int)) ∈ lw_all := lw_g (lw_at lw_m5 91 rfl) rfl
theorem q1318 : (Jvm.Cond.instanceMethod ({ cls := "IdealCourt$Terms", name := "divides", desc := "(II)Z" } : Jvm.MethodName)) ∈ lw_all := lw_g (lw_at lw_m6 20 rfl) rfl
theorem q1319 : (Jvm.Cond.selects "IdealCourt$Terms" ({ cls := "IdealCourt$Terms", name := "divides", desc := "(II)Z" } : Jvm.MethodName) ({ cls := "IdealCourt$Terms", name := "divides", desc := "(II)Z" } : Jvm.MethodName)) ∈ lw_all := lw_g (lw_at lw_m6 21 rfl) rfl
theorem q1320 : (Jvm.Cond.code ({ cls := "IdealCourt$Terms", name := "divides", desc := "(II)Z" } : Jvm.MethodName) prog_16_method_6_code (3 : Nat) (Option.some Jvm.ClassFile.FieldType.boolean)) ∈ lw_all := lw_g (lw_at lw_m6 22 rfl) rfl
theorem q1326 : (Jvm.Cond.instanceMethod ({ cls := "IdealCourt$Terms", name := "over", desc := "(II)I" } : Jvm.MethodName)) ∈ lw_all := lw_g (lw_at lw_m6 28 rfl) rfl
theorem q1327 : (Jvm.Cond.selects "IdealCourt$Terms" ({ cls := "IdealCourt$Terms", name := "over", desc := "(II)I" } : Jvm.MethodName) ({ cls := "IdealCourt$Terms", name := "over", desc := "(II)I" } : Jvm.MethodName)) ∈ lw_all := lw_g (lw_at lw_m6 29 rfl) rfl
theorem q1328 : (Jvm.Cond.code ({ cls := "IdealCourt$Terms", name := "over", desc := "(II)I" } : Jvm.MethodName) prog_16_method_7_code (3 : Nat) (Option.some Jvm.ClassFile.FieldType.int)) ∈ lw_all := lw_g (lw_at lw_m6 30 rfl) rfl
theorem q1456 : (Jvm.Cond.instanceMethod ({ cls := "IdealCourt$Terms", name := "join", desc := "(II)I" } : Jvm.MethodName)) ∈ lw_all := lw_g (lw_at lw_m6 158 rfl) rfl
theorem q1457 : (Jvm.Cond.selects "IdealCourt$Terms" ({ cls := "IdealCourt$Terms", name := "join", desc := "(II)I" } : Jvm.MethodName) ({ cls := "IdealCourt$Terms", name := "join", desc := "(II)I" } : Jvm.MethodName)) ∈ lw_all := lw_g (lw_at lw_m6 159 rfl) rfl
theorem q1458 : (Jvm.Cond.code ({ cls := "IdealCourt$Terms", name := "join", desc := "(II)I" } : Jvm.MethodName) prog_16_method_8_code (3 : Nat) (Option.some Jvm.ClassFile.FieldType.int)) ∈ lw_all := lw_g (lw_at lw_m6 160 rfl) rfl
theorem q1459 : (Jvm.Cond.methodLink "IdealCourt$Terms" (26 : Nat) ({ cls := "java/lang/Math", name := "max", desc := "(II)I" } : Jvm.MethodName)) ∈ lw_all := lw_g (lw_at lw_m6 161 rfl) rfl
theorem in_X1 : ∀ w ∈ wsX10, w ∈ lw_all := lw_in wsX10 [158, 160] (by decide +kernel) (by decide +kernel)
