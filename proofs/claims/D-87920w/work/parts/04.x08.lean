/-! IdealCourt$Chain -/
set_option maxRecDepth 100000
def RX8 : String := "IdealCourt$Chain"
def TX8 : u_T := fun k => match k with
  | 0 => ("IdealCourt$Chain", "by", "LIdealCourt$Reckoner;", true)
  | 1 => ("IdealCourt$Chain", "rows", "[[LIdealCourt$Whole;", true)
  | 2 => ("IdealCourt$Chain", "degrees", "[I", true)
  | 3 => ("IdealCourt$Chain", "left", "[LIdealCourt$Whole;", true)
  | 4 => ("IdealCourt$Chain", "x", "LIdealCourt$Whole;", true)
  | 5 => ("IdealCourt$Chain", "y", "LIdealCourt$Whole;", true)
  | 6 => ("IdealCourt$Chain", "z", "LIdealCourt$Whole;", true)
  | 7 => ("IdealCourt$Chain", "w", "LIdealCourt$Whole;", true)
  | _ => ("IdealCourt$Chain", "many", "I", false)
def tyX8 : Nat → FieldType := fun k => match k with
  | 0 => .object "IdealCourt$Reckoner"
  | 1 => .array (.array (.object "IdealCourt$Whole"))
  | 2 => .array .int
  | 3 => .array (.object "IdealCourt$Whole")
  | 4 => .object "IdealCourt$Whole"
  | 5 => .object "IdealCourt$Whole"
  | 6 => .object "IdealCourt$Whole"
  | 7 => .object "IdealCourt$Whole"
  | _ => .int
abbrev wsX80 : List Cond := u_ws RX8 TX8 9
theorem nmX8 : ∀ a, a < 9 → ∀ b, b < 9 → a ≠ b → (TX8 a).2.1 ≠ (TX8 b).2.1 := by decide +kernel
theorem tyX8_ok : ∀ k, k < 9 → parseFieldDescriptor (TX8 k).2.2.1 = some (tyX8 k) := by decide +kernel
abbrev cX8_init : ByteArray := prog_3_method_1_code
def yX8_init : MethodName := ⟨RX8, "<init>", "(LIdealCourt$Reckoner;)V"⟩
def dkwX8_init_7 : List UInt8 := [167, 255, 231, 177]
abbrev dktX8_init_7 : List UInt8 := dkwX8_init_7 ++ []
def dkwX8_init_6 : List UInt8 := [16, 9, 162, 0, 25, 42, 180, 0, 22, 28, 187, 0, 20, 89, 17, 0, 160, 183, 0, 28, 83, 132, 2, 1]
abbrev dktX8_init_6 : List UInt8 := dkwX8_init_6 ++ dktX8_init_7
def dkwX8_init_5 : List UInt8 := [89, 17, 0, 160, 183, 0, 28, 83, 132, 3, 1, 167, 255, 229, 132, 2, 1, 167, 255, 215, 3, 61, 28]
abbrev dktX8_init_5 : List UInt8 := dkwX8_init_5 ++ dktX8_init_6
def dkwX8_init_4 : List UInt8 := [28, 16, 9, 163, 0, 41, 3, 62, 29, 16, 9, 162, 0, 27, 42, 180, 0, 13, 28, 50, 29, 187, 0, 20]
abbrev dktX8_init_4 : List UInt8 := dkwX8_init_4 ++ dktX8_init_5
def dkwX8_init_3 : List UInt8 := [181, 0, 38, 42, 187, 0, 20, 89, 17, 0, 160, 183, 0, 28, 181, 0, 41, 42, 43, 181, 0, 44, 3, 61]
abbrev dktX8_init_3 : List UInt8 := dkwX8_init_3 ++ dktX8_init_4
def dkwX8_init_2 : List UInt8 := [187, 0, 20, 89, 17, 0, 160, 183, 0, 28, 181, 0, 35, 42, 187, 0, 20, 89, 17, 0, 160, 183, 0, 28]
abbrev dktX8_init_2 : List UInt8 := dkwX8_init_2 ++ dktX8_init_3
def dkwX8_init_1 : List UInt8 := [42, 16, 9, 189, 0, 20, 181, 0, 22, 42, 187, 0, 20, 89, 17, 0, 160, 183, 0, 28, 181, 0, 31, 42]
abbrev dktX8_init_1 : List UInt8 := dkwX8_init_1 ++ dktX8_init_2
def dkwX8_init_0 : List UInt8 := [42, 183, 0, 3, 42, 16, 10, 16, 9, 197, 0, 11, 2, 181, 0, 13, 42, 16, 10, 188, 10, 181, 0, 16]
abbrev dktX8_init_0 : List UInt8 := dkwX8_init_0 ++ dktX8_init_1
theorem dksX8_init_0 : cX8_init.data.toList.drop 0 = dktX8_init_0 := by decide +kernel
theorem dksX8_init_1 : cX8_init.data.toList.drop 24 = dktX8_init_1 := dk_seg dksX8_init_0 24 rfl rfl
theorem dksX8_init_2 : cX8_init.data.toList.drop 48 = dktX8_init_2 := dk_seg dksX8_init_1 24 rfl rfl
theorem dksX8_init_3 : cX8_init.data.toList.drop 72 = dktX8_init_3 := dk_seg dksX8_init_2 24 rfl rfl
theorem dksX8_init_4 : cX8_init.data.toList.drop 96 = dktX8_init_4 := dk_seg dksX8_init_3 24 rfl rfl
theorem dksX8_init_5 : cX8_init.data.toList.drop 120 = dktX8_init_5 := dk_seg dksX8_init_4 24 rfl rfl
theorem dksX8_init_6 : cX8_init.data.toList.drop 143 = dktX8_init_6 := dk_seg dksX8_init_5 23 rfl rfl
theorem dksX8_init_7 : cX8_init.data.toList.drop 167 = dktX8_init_7 := dk_seg dksX8_init_6 24 rfl rfl
theorem dX8_init_0 : decode cX8_init 0 = .ok (.aload_n 0, 1) := dk_42 (dk_at dksX8_init_0 0 rfl rfl)
theorem dX8_init_1 : decode cX8_init 1 = .ok (.invokespecial 3, 3) := dk_183 0 3 (dk_at dksX8_init_0 1 rfl rfl)
theorem dX8_init_4 : decode cX8_init 4 = .ok (.aload_n 0, 1) := dk_42 (dk_at dksX8_init_0 4 rfl rfl)
theorem dX8_init_5 : decode cX8_init 5 = .ok (.bipush 10, 2) := dk_16 10 (dk_at dksX8_init_0 5 rfl rfl)
theorem dX8_init_7 : decode cX8_init 7 = .ok (.bipush 9, 2) := dk_16 9 (dk_at dksX8_init_0 7 rfl rfl)
theorem dX8_init_9 : decode cX8_init 9 = .ok (.multianewarray 11 2, 4) := by decide +kernel
theorem dX8_init_13 : decode cX8_init 13 = .ok (.putfield 13, 3) := dk_181 0 13 (dk_at dksX8_init_0 13 rfl rfl)
theorem dX8_init_16 : decode cX8_init 16 = .ok (.aload_n 0, 1) := dk_42 (dk_at dksX8_init_0 16 rfl rfl)
theorem dX8_init_17 : decode cX8_init 17 = .ok (.bipush 10, 2) := dk_16 10 (dk_at dksX8_init_0 17 rfl rfl)
theorem dX8_init_19 : decode cX8_init 19 = .ok (.newarray .int, 2) := dk_188_10 (dk_at dksX8_init_0 19 rfl rfl)
theorem dX8_init_21 : decode cX8_init 21 = .ok (.putfield 16, 3) := dk_181 0 16 (dk_at dksX8_init_0 21 rfl rfl)
theorem dX8_init_24 : decode cX8_init 24 = .ok (.aload_n 0, 1) := dk_42 (dk_at dksX8_init_1 0 rfl rfl)
theorem dX8_init_25 : decode cX8_init 25 = .ok (.bipush 9, 2) := dk_16 9 (dk_at dksX8_init_1 1 rfl rfl)
theorem dX8_init_27 : decode cX8_init 27 = .ok (.anewarray 20, 3) := dk_189 0 20 (dk_at dksX8_init_1 3 rfl rfl)
theorem dX8_init_30 : decode cX8_init 30 = .ok (.putfield 22, 3) := dk_181 0 22 (dk_at dksX8_init_1 6 rfl rfl)
theorem dX8_init_33 : decode cX8_init 33 = .ok (.aload_n 0, 1) := dk_42 (dk_at dksX8_init_1 9 rfl rfl)
theorem dX8_init_34 : decode cX8_init 34 = .ok (.new 20, 3) := dk_187 0 20 (dk_at dksX8_init_1 10 rfl rfl)
theorem dX8_init_37 : decode cX8_init 37 = .ok (.dup, 1) := dk_89 (dk_at dksX8_init_1 13 rfl rfl)
theorem dX8_init_38 : decode cX8_init 38 = .ok (.sipush 160, 3) := dk_17 0 160 (dk_at dksX8_init_1 14 rfl rfl)
theorem dX8_init_41 : decode cX8_init 41 = .ok (.invokespecial 28, 3) := dk_183 0 28 (dk_at dksX8_init_1 17 rfl rfl)
theorem dX8_init_44 : decode cX8_init 44 = .ok (.putfield 31, 3) := dk_181 0 31 (dk_at dksX8_init_1 20 rfl rfl)
theorem dX8_init_47 : decode cX8_init 47 = .ok (.aload_n 0, 1) := dk_42 (dk_at dksX8_init_1 23 rfl rfl)
theorem dX8_init_48 : decode cX8_init 48 = .ok (.new 20, 3) := dk_187 0 20 (dk_at dksX8_init_2 0 rfl rfl)
theorem dX8_init_51 : decode cX8_init 51 = .ok (.dup, 1) := dk_89 (dk_at dksX8_init_2 3 rfl rfl)
theorem dX8_init_52 : decode cX8_init 52 = .ok (.sipush 160, 3) := dk_17 0 160 (dk_at dksX8_init_2 4 rfl rfl)
theorem dX8_init_55 : decode cX8_init 55 = .ok (.invokespecial 28, 3) := dk_183 0 28 (dk_at dksX8_init_2 7 rfl rfl)
theorem dX8_init_58 : decode cX8_init 58 = .ok (.putfield 35, 3) := dk_181 0 35 (dk_at dksX8_init_2 10 rfl rfl)
theorem dX8_init_61 : decode cX8_init 61 = .ok (.aload_n 0, 1) := dk_42 (dk_at dksX8_init_2 13 rfl rfl)
theorem dX8_init_62 : decode cX8_init 62 = .ok (.new 20, 3) := dk_187 0 20 (dk_at dksX8_init_2 14 rfl rfl)
theorem dX8_init_65 : decode cX8_init 65 = .ok (.dup, 1) := dk_89 (dk_at dksX8_init_2 17 rfl rfl)
theorem dX8_init_66 : decode cX8_init 66 = .ok (.sipush 160, 3) := dk_17 0 160 (dk_at dksX8_init_2 18 rfl rfl)
theorem dX8_init_69 : decode cX8_init 69 = .ok (.invokespecial 28, 3) := dk_183 0 28 (dk_at dksX8_init_2 21 rfl rfl)
theorem dX8_init_72 : decode cX8_init 72 = .ok (.putfield 38, 3) := dk_181 0 38 (dk_at dksX8_init_3 0 rfl rfl)
theorem dX8_init_75 : decode cX8_init 75 = .ok (.aload_n 0, 1) := dk_42 (dk_at dksX8_init_3 3 rfl rfl)
theorem dX8_init_76 : decode cX8_init 76 = .ok (.new 20, 3) := dk_187 0 20 (dk_at dksX8_init_3 4 rfl rfl)
theorem dX8_init_79 : decode cX8_init 79 = .ok (.dup, 1) := dk_89 (dk_at dksX8_init_3 7 rfl rfl)
theorem dX8_init_80 : decode cX8_init 80 = .ok (.sipush 160, 3) := dk_17 0 160 (dk_at dksX8_init_3 8 rfl rfl)
theorem dX8_init_83 : decode cX8_init 83 = .ok (.invokespecial 28, 3) := dk_183 0 28 (dk_at dksX8_init_3 11 rfl rfl)
theorem dX8_init_86 : decode cX8_init 86 = .ok (.putfield 41, 3) := dk_181 0 41 (dk_at dksX8_init_3 14 rfl rfl)
theorem dX8_init_89 : decode cX8_init 89 = .ok (.aload_n 0, 1) := dk_42 (dk_at dksX8_init_3 17 rfl rfl)
theorem dX8_init_90 : decode cX8_init 90 = .ok (.aload_n 1, 1) := dk_43 (dk_at dksX8_init_3 18 rfl rfl)
theorem dX8_init_91 : decode cX8_init 91 = .ok (.putfield 44, 3) := dk_181 0 44 (dk_at dksX8_init_3 19 rfl rfl)
theorem dX8_init_94 : decode cX8_init 94 = .ok (.iconst 0, 1) := dk_3 (dk_at dksX8_init_3 22 rfl rfl)
theorem dX8_init_95 : decode cX8_init 95 = .ok (.istore_n 2, 1) := dk_61 (dk_at dksX8_init_3 23 rfl rfl)
theorem dX8_init_96 : decode cX8_init 96 = .ok (.iload_n 2, 1) := dk_28 (dk_at dksX8_init_4 0 rfl rfl)
theorem dX8_init_97 : decode cX8_init 97 = .ok (.bipush 9, 2) := dk_16 9 (dk_at dksX8_init_4 1 rfl rfl)
theorem dX8_init_99 : decode cX8_init 99 = .ok (.if_icmp .gt 41, 3) := dk_163 0 41 (dk_at dksX8_init_4 3 rfl rfl)
theorem dX8_init_102 : decode cX8_init 102 = .ok (.iconst 0, 1) := dk_3 (dk_at dksX8_init_4 6 rfl rfl)
theorem dX8_init_103 : decode cX8_init 103 = .ok (.istore_n 3, 1) := dk_62 (dk_at dksX8_init_4 7 rfl rfl)
theorem dX8_init_104 : decode cX8_init 104 = .ok (.iload_n 3, 1) := dk_29 (dk_at dksX8_init_4 8 rfl rfl)
theorem dX8_init_105 : decode cX8_init 105 = .ok (.bipush 9, 2) := dk_16 9 (dk_at dksX8_init_4 9 rfl rfl)
theorem dX8_init_107 : decode cX8_init 107 = .ok (.if_icmp .ge 27, 3) := dk_162 0 27 (dk_at dksX8_init_4 11 rfl rfl)
theorem dX8_init_110 : decode cX8_init 110 = .ok (.aload_n 0, 1) := dk_42 (dk_at dksX8_init_4 14 rfl rfl)
theorem dX8_init_111 : decode cX8_init 111 = .ok (.getfield 13, 3) := dk_180 0 13 (dk_at dksX8_init_4 15 rfl rfl)
theorem dX8_init_114 : decode cX8_init 114 = .ok (.iload_n 2, 1) := dk_28 (dk_at dksX8_init_4 18 rfl rfl)
theorem dX8_init_115 : decode cX8_init 115 = .ok (.aaload, 1) := dk_50 (dk_at dksX8_init_4 19 rfl rfl)
theorem dX8_init_116 : decode cX8_init 116 = .ok (.iload_n 3, 1) := dk_29 (dk_at dksX8_init_4 20 rfl rfl)
theorem dX8_init_117 : decode cX8_init 117 = .ok (.new 20, 3) := dk_187 0 20 (dk_at dksX8_init_4 21 rfl rfl)
theorem dX8_init_120 : decode cX8_init 120 = .ok (.dup, 1) := dk_89 (dk_at dksX8_init_5 0 rfl rfl)
theorem dX8_init_121 : decode cX8_init 121 = .ok (.sipush 160, 3) := dk_17 0 160 (dk_at dksX8_init_5 1 rfl rfl)
theorem dX8_init_124 : decode cX8_init 124 = .ok (.invokespecial 28, 3) := dk_183 0 28 (dk_at dksX8_init_5 4 rfl rfl)
theorem dX8_init_127 : decode cX8_init 127 = .ok (.aastore, 1) := dk_83 (dk_at dksX8_init_5 7 rfl rfl)
theorem dX8_init_128 : decode cX8_init 128 = .ok (.iinc 3 1, 3) := dk_132 3 1 (dk_at dksX8_init_5 8 rfl rfl)
theorem dX8_init_131 : decode cX8_init 131 = .ok (.goto (-27), 3) := dk_167 255 229 (dk_at dksX8_init_5 11 rfl rfl)
theorem dX8_init_134 : decode cX8_init 134 = .ok (.iinc 2 1, 3) := dk_132 2 1 (dk_at dksX8_init_5 14 rfl rfl)
theorem dX8_init_137 : decode cX8_init 137 = .ok (.goto (-41), 3) := dk_167 255 215 (dk_at dksX8_init_5 17 rfl rfl)
theorem dX8_init_140 : decode cX8_init 140 = .ok (.iconst 0, 1) := dk_3 (dk_at dksX8_init_5 20 rfl rfl)
theorem dX8_init_141 : decode cX8_init 141 = .ok (.istore_n 2, 1) := dk_61 (dk_at dksX8_init_5 21 rfl rfl)
theorem dX8_init_142 : decode cX8_init 142 = .ok (.iload_n 2, 1) := dk_28 (dk_at dksX8_init_5 22 rfl rfl)
theorem dX8_init_143 : decode cX8_init 143 = .ok (.bipush 9, 2) := dk_16 9 (dk_at dksX8_init_6 0 rfl rfl)
theorem dX8_init_145 : decode cX8_init 145 = .ok (.if_icmp .ge 25, 3) := dk_162 0 25 (dk_at dksX8_init_6 2 rfl rfl)
theorem dX8_init_148 : decode cX8_init 148 = .ok (.aload_n 0, 1) := dk_42 (dk_at dksX8_init_6 5 rfl rfl)
theorem dX8_init_149 : decode cX8_init 149 = .ok (.getfield 22, 3) := dk_180 0 22 (dk_at dksX8_init_6 6 rfl rfl)
theorem dX8_init_152 : decode cX8_init 152 = .ok (.iload_n 2, 1) := dk_28 (dk_at dksX8_init_6 9 rfl rfl)
theorem dX8_init_153 : decode cX8_init 153 = .ok (.new 20, 3) := dk_187 0 20 (dk_at dksX8_init_6 10 rfl rfl)
theorem dX8_init_156 : decode cX8_init 156 = .ok (.dup, 1) := dk_89 (dk_at dksX8_init_6 13 rfl rfl)
theorem dX8_init_157 : decode cX8_init 157 = .ok (.sipush 160, 3) := dk_17 0 160 (dk_at dksX8_init_6 14 rfl rfl)
theorem dX8_init_160 : decode cX8_init 160 = .ok (.invokespecial 28, 3) := dk_183 0 28 (dk_at dksX8_init_6 17 rfl rfl)
theorem dX8_init_163 : decode cX8_init 163 = .ok (.aastore, 1) := dk_83 (dk_at dksX8_init_6 20 rfl rfl)
theorem dX8_init_164 : decode cX8_init 164 = .ok (.iinc 2 1, 3) := dk_132 2 1 (dk_at dksX8_init_6 21 rfl rfl)
theorem dX8_init_167 : decode cX8_init 167 = .ok (.goto (-25), 3) := dk_167 255 231 (dk_at dksX8_init_7 0 rfl rfl)
theorem dX8_init_170 : decode cX8_init 170 = .ok (.return_, 1) := dk_177 (dk_at dksX8_init_7 3 rfl rfl)
abbrev cX8_begin : ByteArray := prog_3_method_2_code
def yX8_begin : MethodName := ⟨RX8, "begin", "([II)V"⟩
def dkwX8_begin_3 : List UInt8 := [42, 182, 0, 52, 177]
abbrev dktX8_begin_3 : List UInt8 := dkwX8_begin_3 ++ []
def dkwX8_begin_2 : List UInt8 := [42, 180, 0, 55, 4, 100, 50, 21, 4, 50, 182, 0, 59, 132, 4, 1, 167, 255, 223, 42, 29, 182, 0, 63]
abbrev dktX8_begin_2 : List UInt8 := dkwX8_begin_2 ++ dktX8_begin_3
def dkwX8_begin_1 : List UInt8 := [154, 0, 4, 177, 3, 54, 4, 21, 4, 29, 163, 0, 33, 42, 180, 0, 22, 21, 4, 50, 42, 180, 0, 13]
abbrev dktX8_begin_1 : List UInt8 := dkwX8_begin_1 ++ dktX8_begin_2
def dkwX8_begin_0 : List UInt8 := [42, 43, 28, 182, 0, 48, 42, 182, 0, 52, 42, 180, 0, 16, 42, 180, 0, 55, 4, 100, 46, 62, 29]
abbrev dktX8_begin_0 : List UInt8 := dkwX8_begin_0 ++ dktX8_begin_1
theorem dksX8_begin_0 : cX8_begin.data.toList.drop 0 = dktX8_begin_0 := by decide +kernel
theorem dksX8_begin_1 : cX8_begin.data.toList.drop 23 = dktX8_begin_1 := dk_seg dksX8_begin_0 23 rfl rfl
theorem dksX8_begin_2 : cX8_begin.data.toList.drop 47 = dktX8_begin_2 := dk_seg dksX8_begin_1 24 rfl rfl
theorem dksX8_begin_3 : cX8_begin.data.toList.drop 71 = dktX8_begin_3 := dk_seg dksX8_begin_2 24 rfl rfl
theorem dX8_begin_0 : decode cX8_begin 0 = .ok (.aload_n 0, 1) := dk_42 (dk_at dksX8_begin_0 0 rfl rfl)
theorem dX8_begin_1 : decode cX8_begin 1 = .ok (.aload_n 1, 1) := dk_43 (dk_at dksX8_begin_0 1 rfl rfl)
theorem dX8_begin_2 : decode cX8_begin 2 = .ok (.iload_n 2, 1) := dk_28 (dk_at dksX8_begin_0 2 rfl rfl)
theorem dX8_begin_3 : decode cX8_begin 3 = .ok (.invokevirtual 48, 3) := dk_182 0 48 (dk_at dksX8_begin_0 3 rfl rfl)
theorem dX8_begin_6 : decode cX8_begin 6 = .ok (.aload_n 0, 1) := dk_42 (dk_at dksX8_begin_0 6 rfl rfl)
theorem dX8_begin_7 : decode cX8_begin 7 = .ok (.invokevirtual 52, 3) := dk_182 0 52 (dk_at dksX8_begin_0 7 rfl rfl)
theorem dX8_begin_10 : decode cX8_begin 10 = .ok (.aload_n 0, 1) := dk_42 (dk_at dksX8_begin_0 10 rfl rfl)
theorem dX8_begin_11 : decode cX8_begin 11 = .ok (.getfield 16, 3) := dk_180 0 16 (dk_at dksX8_begin_0 11 rfl rfl)
theorem dX8_begin_14 : decode cX8_begin 14 = .ok (.aload_n 0, 1) := dk_42 (dk_at dksX8_begin_0 14 rfl rfl)
theorem dX8_begin_15 : decode cX8_begin 15 = .ok (.getfield 55, 3) := dk_180 0 55 (dk_at dksX8_begin_0 15 rfl rfl)
theorem dX8_begin_18 : decode cX8_begin 18 = .ok (.iconst 1, 1) := dk_4 (dk_at dksX8_begin_0 18 rfl rfl)
theorem dX8_begin_19 : decode cX8_begin 19 = .ok (.isub, 1) := dk_100 (dk_at dksX8_begin_0 19 rfl rfl)
theorem dX8_begin_20 : decode cX8_begin 20 = .ok (.iaload, 1) := dk_46 (dk_at dksX8_begin_0 20 rfl rfl)
theorem dX8_begin_21 : decode cX8_begin 21 = .ok (.istore_n 3, 1) := dk_62 (dk_at dksX8_begin_0 21 rfl rfl)
theorem dX8_begin_22 : decode cX8_begin 22 = .ok (.iload_n 3, 1) := dk_29 (dk_at dksX8_begin_0 22 rfl rfl)
theorem dX8_begin_23 : decode cX8_begin 23 = .ok (.ifCond .ne 4, 3) := dk_154 0 4 (dk_at dksX8_begin_1 0 rfl rfl)
theorem dX8_begin_26 : decode cX8_begin 26 = .ok (.return_, 1) := dk_177 (dk_at dksX8_begin_1 3 rfl rfl)
theorem dX8_begin_27 : decode cX8_begin 27 = .ok (.iconst 0, 1) := dk_3 (dk_at dksX8_begin_1 4 rfl rfl)
theorem dX8_begin_28 : decode cX8_begin 28 = .ok (.istore 4, 2) := dk_54 4 (dk_at dksX8_begin_1 5 rfl rfl)
theorem dX8_begin_30 : decode cX8_begin 30 = .ok (.iload 4, 2) := dk_21 4 (dk_at dksX8_begin_1 7 rfl rfl)
theorem dX8_begin_32 : decode cX8_begin 32 = .ok (.iload_n 3, 1) := dk_29 (dk_at dksX8_begin_1 9 rfl rfl)
theorem dX8_begin_33 : decode cX8_begin 33 = .ok (.if_icmp .gt 33, 3) := dk_163 0 33 (dk_at dksX8_begin_1 10 rfl rfl)
theorem dX8_begin_36 : decode cX8_begin 36 = .ok (.aload_n 0, 1) := dk_42 (dk_at dksX8_begin_1 13 rfl rfl)
theorem dX8_begin_37 : decode cX8_begin 37 = .ok (.getfield 22, 3) := dk_180 0 22 (dk_at dksX8_begin_1 14 rfl rfl)
theorem dX8_begin_40 : decode cX8_begin 40 = .ok (.iload 4, 2) := dk_21 4 (dk_at dksX8_begin_1 17 rfl rfl)
theorem dX8_begin_42 : decode cX8_begin 42 = .ok (.aaload, 1) := dk_50 (dk_at dksX8_begin_1 19 rfl rfl)
theorem dX8_begin_43 : decode cX8_begin 43 = .ok (.aload_n 0, 1) := dk_42 (dk_at dksX8_begin_1 20 rfl rfl)
theorem dX8_begin_44 : decode cX8_begin 44 = .ok (.getfield 13, 3) := dk_180 0 13 (dk_at dksX8_begin_1 21 rfl rfl)
theorem dX8_begin_47 : decode cX8_begin 47 = .ok (.aload_n 0, 1) := dk_42 (dk_at dksX8_begin_2 0 rfl rfl)
theorem dX8_begin_48 : decode cX8_begin 48 = .ok (.getfield 55, 3) := dk_180 0 55 (dk_at dksX8_begin_2 1 rfl rfl)
theorem dX8_begin_51 : decode cX8_begin 51 = .ok (.iconst 1, 1) := dk_4 (dk_at dksX8_begin_2 4 rfl rfl)
theorem dX8_begin_52 : decode cX8_begin 52 = .ok (.isub, 1) := dk_100 (dk_at dksX8_begin_2 5 rfl rfl)
theorem dX8_begin_53 : decode cX8_begin 53 = .ok (.aaload, 1) := dk_50 (dk_at dksX8_begin_2 6 rfl rfl)
theorem dX8_begin_54 : decode cX8_begin 54 = .ok (.iload 4, 2) := dk_21 4 (dk_at dksX8_begin_2 7 rfl rfl)
theorem dX8_begin_56 : decode cX8_begin 56 = .ok (.aaload, 1) := dk_50 (dk_at dksX8_begin_2 9 rfl rfl)
theorem dX8_begin_57 : decode cX8_begin 57 = .ok (.invokevirtual 59, 3) := dk_182 0 59 (dk_at dksX8_begin_2 10 rfl rfl)
theorem dX8_begin_60 : decode cX8_begin 60 = .ok (.iinc 4 1, 3) := dk_132 4 1 (dk_at dksX8_begin_2 13 rfl rfl)
theorem dX8_begin_63 : decode cX8_begin 63 = .ok (.goto (-33), 3) := dk_167 255 223 (dk_at dksX8_begin_2 16 rfl rfl)
theorem dX8_begin_66 : decode cX8_begin 66 = .ok (.aload_n 0, 1) := dk_42 (dk_at dksX8_begin_2 19 rfl rfl)
theorem dX8_begin_67 : decode cX8_begin 67 = .ok (.iload_n 3, 1) := dk_29 (dk_at dksX8_begin_2 20 rfl rfl)
theorem dX8_begin_68 : decode cX8_begin 68 = .ok (.invokevirtual 63, 3) := dk_182 0 63 (dk_at dksX8_begin_2 21 rfl rfl)
theorem dX8_begin_71 : decode cX8_begin 71 = .ok (.aload_n 0, 1) := dk_42 (dk_at dksX8_begin_3 0 rfl rfl)
theorem dX8_begin_72 : decode cX8_begin 72 = .ok (.invokevirtual 52, 3) := dk_182 0 52 (dk_at dksX8_begin_3 1 rfl rfl)
theorem dX8_begin_75 : decode cX8_begin 75 = .ok (.return_, 1) := dk_177 (dk_at dksX8_begin_3 4 rfl rfl)
abbrev cX8_put : ByteArray := prog_3_method_3_code
def yX8_put : MethodName := ⟨RX8, "put", "([II)V"⟩
def dkwX8_put_1 : List UInt8 := [132, 3, 1, 167, 255, 233, 42, 180, 0, 16, 3, 28, 79, 177]
abbrev dktX8_put_1 : List UInt8 := dkwX8_put_1 ++ []
def dkwX8_put_0 : List UInt8 := [3, 62, 29, 28, 163, 0, 24, 42, 180, 0, 13, 3, 50, 29, 50, 43, 29, 46, 133, 182, 0, 66]
abbrev dktX8_put_0 : List UInt8 := dkwX8_put_0 ++ dktX8_put_1
theorem dksX8_put_0 : cX8_put.data.toList.drop 0 = dktX8_put_0 := by decide +kernel
theorem dksX8_put_1 : cX8_put.data.toList.drop 22 = dktX8_put_1 := dk_seg dksX8_put_0 22 rfl rfl
theorem dX8_put_0 : decode cX8_put 0 = .ok (.iconst 0, 1) := dk_3 (dk_at dksX8_put_0 0 rfl rfl)
theorem dX8_put_1 : decode cX8_put 1 = .ok (.istore_n 3, 1) := dk_62 (dk_at dksX8_put_0 1 rfl rfl)
theorem dX8_put_2 : decode cX8_put 2 = .ok (.iload_n 3, 1) := dk_29 (dk_at dksX8_put_0 2 rfl rfl)
theorem dX8_put_3 : decode cX8_put 3 = .ok (.iload_n 2, 1) := dk_28 (dk_at dksX8_put_0 3 rfl rfl)
theorem dX8_put_4 : decode cX8_put 4 = .ok (.if_icmp .gt 24, 3) := dk_163 0 24 (dk_at dksX8_put_0 4 rfl rfl)
theorem dX8_put_7 : decode cX8_put 7 = .ok (.aload_n 0, 1) := dk_42 (dk_at dksX8_put_0 7 rfl rfl)
theorem dX8_put_8 : decode cX8_put 8 = .ok (.getfield 13, 3) := dk_180 0 13 (dk_at dksX8_put_0 8 rfl rfl)
theorem dX8_put_11 : decode cX8_put 11 = .ok (.iconst 0, 1) := dk_3 (dk_at dksX8_put_0 11 rfl rfl)
theorem dX8_put_12 : decode cX8_put 12 = .ok (.aaload, 1) := dk_50 (dk_at dksX8_put_0 12 rfl rfl)
theorem dX8_put_13 : decode cX8_put 13 = .ok (.iload_n 3, 1) := dk_29 (dk_at dksX8_put_0 13 rfl rfl)
theorem dX8_put_14 : decode cX8_put 14 = .ok (.aaload, 1) := dk_50 (dk_at dksX8_put_0 14 rfl rfl)
theorem dX8_put_15 : decode cX8_put 15 = .ok (.aload_n 1, 1) := dk_43 (dk_at dksX8_put_0 15 rfl rfl)
theorem dX8_put_16 : decode cX8_put 16 = .ok (.iload_n 3, 1) := dk_29 (dk_at dksX8_put_0 16 rfl rfl)
theorem dX8_put_17 : decode cX8_put 17 = .ok (.iaload, 1) := dk_46 (dk_at dksX8_put_0 17 rfl rfl)
theorem dX8_put_18 : decode cX8_put 18 = .ok (.i2l, 1) := dk_133 (dk_at dksX8_put_0 18 rfl rfl)
theorem dX8_put_19 : decode cX8_put 19 = .ok (.invokevirtual 66, 3) := dk_182 0 66 (dk_at dksX8_put_0 19 rfl rfl)
theorem dX8_put_22 : decode cX8_put 22 = .ok (.iinc 3 1, 3) := dk_132 3 1 (dk_at dksX8_put_1 0 rfl rfl)
theorem dX8_put_25 : decode cX8_put 25 = .ok (.goto (-23), 3) := dk_167 255 233 (dk_at dksX8_put_1 3 rfl rfl)
theorem dX8_put_28 : decode cX8_put 28 = .ok (.aload_n 0, 1) := dk_42 (dk_at dksX8_put_1 6 rfl rfl)
theorem dX8_put_29 : decode cX8_put 29 = .ok (.getfield 16, 3) := dk_180 0 16 (dk_at dksX8_put_1 7 rfl rfl)
theorem dX8_put_32 : decode cX8_put 32 = .ok (.iconst 0, 1) := dk_3 (dk_at dksX8_put_1 10 rfl rfl)
theorem dX8_put_33 : decode cX8_put 33 = .ok (.iload_n 2, 1) := dk_28 (dk_at dksX8_put_1 11 rfl rfl)
theorem dX8_put_34 : decode cX8_put 34 = .ok (.iastore, 1) := dk_79 (dk_at dksX8_put_1 12 rfl rfl)
theorem dX8_put_35 : decode cX8_put 35 = .ok (.return_, 1) := dk_177 (dk_at dksX8_put_1 13 rfl rfl)
abbrev cX8_run : ByteArray := prog_3_method_6_code
def yX8_run : MethodName := ⟨RX8, "run", "()V"⟩
def dkwX8_run_4 : List UInt8 := [182, 0, 70, 177]
abbrev dktX8_run_4 : List UInt8 := dkwX8_run_4 ++ []
def dkwX8_run_3 : List UInt8 := [182, 0, 77, 132, 2, 1, 167, 255, 210, 42, 180, 0, 16, 4, 27, 4, 100, 79, 42, 5, 181, 0, 55, 42]
abbrev dktX8_run_3 : List UInt8 := dkwX8_run_3 ++ dktX8_run_4
def dkwX8_run_2 : List UInt8 := [42, 180, 0, 13, 4, 50, 28, 4, 100, 50, 42, 180, 0, 13, 3, 50, 28, 50, 42, 180, 0, 31]
abbrev dktX8_run_2 : List UInt8 := dkwX8_run_2 ++ dktX8_run_3
def dkwX8_run_1 : List UInt8 := [154, 0, 4, 177, 4, 61, 28, 27, 163, 0, 47, 42, 180, 0, 31, 28, 133, 182, 0, 66, 42, 180, 0, 44]
abbrev dktX8_run_1 : List UInt8 := dkwX8_run_1 ++ dktX8_run_2
def dkwX8_run_0 : List UInt8 := [42, 4, 181, 0, 55, 42, 180, 0, 16, 3, 46, 60, 42, 42, 180, 0, 13, 3, 50, 27, 182, 0, 73, 27]
abbrev dktX8_run_0 : List UInt8 := dkwX8_run_0 ++ dktX8_run_1
theorem dksX8_run_0 : cX8_run.data.toList.drop 0 = dktX8_run_0 := by decide +kernel
theorem dksX8_run_1 : cX8_run.data.toList.drop 24 = dktX8_run_1 := dk_seg dksX8_run_0 24 rfl rfl
theorem dksX8_run_2 : cX8_run.data.toList.drop 48 = dktX8_run_2 := dk_seg dksX8_run_1 24 rfl rfl
theorem dksX8_run_3 : cX8_run.data.toList.drop 70 = dktX8_run_3 := dk_seg dksX8_run_2 22 rfl rfl
theorem dksX8_run_4 : cX8_run.data.toList.drop 94 = dktX8_run_4 := dk_seg dksX8_run_3 24 rfl rfl
theorem dX8_run_0 : decode cX8_run 0 = .ok (.aload_n 0, 1) := dk_42 (dk_at dksX8_run_0 0 rfl rfl)
theorem dX8_run_1 : decode cX8_run 1 = .ok (.iconst 1, 1) := dk_4 (dk_at dksX8_run_0 1 rfl rfl)
theorem dX8_run_2 : decode cX8_run 2 = .ok (.putfield 55, 3) := dk_181 0 55 (dk_at dksX8_run_0 2 rfl rfl)
theorem dX8_run_5 : decode cX8_run 5 = .ok (.aload_n 0, 1) := dk_42 (dk_at dksX8_run_0 5 rfl rfl)
theorem dX8_run_6 : decode cX8_run 6 = .ok (.getfield 16, 3) := dk_180 0 16 (dk_at dksX8_run_0 6 rfl rfl)
theorem dX8_run_9 : decode cX8_run 9 = .ok (.iconst 0, 1) := dk_3 (dk_at dksX8_run_0 9 rfl rfl)
theorem dX8_run_10 : decode cX8_run 10 = .ok (.iaload, 1) := dk_46 (dk_at dksX8_run_0 10 rfl rfl)
theorem dX8_run_11 : decode cX8_run 11 = .ok (.istore_n 1, 1) := dk_60 (dk_at dksX8_run_0 11 rfl rfl)
theorem dX8_run_12 : decode cX8_run 12 = .ok (.aload_n 0, 1) := dk_42 (dk_at dksX8_run_0 12 rfl rfl)
theorem dX8_run_13 : decode cX8_run 13 = .ok (.aload_n 0, 1) := dk_42 (dk_at dksX8_run_0 13 rfl rfl)
theorem dX8_run_14 : decode cX8_run 14 = .ok (.getfield 13, 3) := dk_180 0 13 (dk_at dksX8_run_0 14 rfl rfl)
theorem dX8_run_17 : decode cX8_run 17 = .ok (.iconst 0, 1) := dk_3 (dk_at dksX8_run_0 17 rfl rfl)
theorem dX8_run_18 : decode cX8_run 18 = .ok (.aaload, 1) := dk_50 (dk_at dksX8_run_0 18 rfl rfl)
theorem dX8_run_19 : decode cX8_run 19 = .ok (.iload_n 1, 1) := dk_27 (dk_at dksX8_run_0 19 rfl rfl)
theorem dX8_run_20 : decode cX8_run 20 = .ok (.invokevirtual 73, 3) := dk_182 0 73 (dk_at dksX8_run_0 20 rfl rfl)
theorem dX8_run_23 : decode cX8_run 23 = .ok (.iload_n 1, 1) := dk_27 (dk_at dksX8_run_0 23 rfl rfl)
theorem dX8_run_24 : decode cX8_run 24 = .ok (.ifCond .ne 4, 3) := dk_154 0 4 (dk_at dksX8_run_1 0 rfl rfl)
theorem dX8_run_27 : decode cX8_run 27 = .ok (.return_, 1) := dk_177 (dk_at dksX8_run_1 3 rfl rfl)
theorem dX8_run_28 : decode cX8_run 28 = .ok (.iconst 1, 1) := dk_4 (dk_at dksX8_run_1 4 rfl rfl)
theorem dX8_run_29 : decode cX8_run 29 = .ok (.istore_n 2, 1) := dk_61 (dk_at dksX8_run_1 5 rfl rfl)
theorem dX8_run_30 : decode cX8_run 30 = .ok (.iload_n 2, 1) := dk_28 (dk_at dksX8_run_1 6 rfl rfl)
theorem dX8_run_31 : decode cX8_run 31 = .ok (.iload_n 1, 1) := dk_27 (dk_at dksX8_run_1 7 rfl rfl)
theorem dX8_run_32 : decode cX8_run 32 = .ok (.if_icmp .gt 47, 3) := dk_163 0 47 (dk_at dksX8_run_1 8 rfl rfl)
theorem dX8_run_35 : decode cX8_run 35 = .ok (.aload_n 0, 1) := dk_42 (dk_at dksX8_run_1 11 rfl rfl)
theorem dX8_run_36 : decode cX8_run 36 = .ok (.getfield 31, 3) := dk_180 0 31 (dk_at dksX8_run_1 12 rfl rfl)
theorem dX8_run_39 : decode cX8_run 39 = .ok (.iload_n 2, 1) := dk_28 (dk_at dksX8_run_1 15 rfl rfl)
theorem dX8_run_40 : decode cX8_run 40 = .ok (.i2l, 1) := dk_133 (dk_at dksX8_run_1 16 rfl rfl)
theorem dX8_run_41 : decode cX8_run 41 = .ok (.invokevirtual 66, 3) := dk_182 0 66 (dk_at dksX8_run_1 17 rfl rfl)
theorem dX8_run_44 : decode cX8_run 44 = .ok (.aload_n 0, 1) := dk_42 (dk_at dksX8_run_1 20 rfl rfl)
theorem dX8_run_45 : decode cX8_run 45 = .ok (.getfield 44, 3) := dk_180 0 44 (dk_at dksX8_run_1 21 rfl rfl)
theorem dX8_run_48 : decode cX8_run 48 = .ok (.aload_n 0, 1) := dk_42 (dk_at dksX8_run_2 0 rfl rfl)
theorem dX8_run_49 : decode cX8_run 49 = .ok (.getfield 13, 3) := dk_180 0 13 (dk_at dksX8_run_2 1 rfl rfl)
theorem dX8_run_52 : decode cX8_run 52 = .ok (.iconst 1, 1) := dk_4 (dk_at dksX8_run_2 4 rfl rfl)
theorem dX8_run_53 : decode cX8_run 53 = .ok (.aaload, 1) := dk_50 (dk_at dksX8_run_2 5 rfl rfl)
theorem dX8_run_54 : decode cX8_run 54 = .ok (.iload_n 2, 1) := dk_28 (dk_at dksX8_run_2 6 rfl rfl)
theorem dX8_run_55 : decode cX8_run 55 = .ok (.iconst 1, 1) := dk_4 (dk_at dksX8_run_2 7 rfl rfl)
theorem dX8_run_56 : decode cX8_run 56 = .ok (.isub, 1) := dk_100 (dk_at dksX8_run_2 8 rfl rfl)
theorem dX8_run_57 : decode cX8_run 57 = .ok (.aaload, 1) := dk_50 (dk_at dksX8_run_2 9 rfl rfl)
theorem dX8_run_58 : decode cX8_run 58 = .ok (.aload_n 0, 1) := dk_42 (dk_at dksX8_run_2 10 rfl rfl)
theorem dX8_run_59 : decode cX8_run 59 = .ok (.getfield 13, 3) := dk_180 0 13 (dk_at dksX8_run_2 11 rfl rfl)
theorem dX8_run_62 : decode cX8_run 62 = .ok (.iconst 0, 1) := dk_3 (dk_at dksX8_run_2 14 rfl rfl)
theorem dX8_run_63 : decode cX8_run 63 = .ok (.aaload, 1) := dk_50 (dk_at dksX8_run_2 15 rfl rfl)
theorem dX8_run_64 : decode cX8_run 64 = .ok (.iload_n 2, 1) := dk_28 (dk_at dksX8_run_2 16 rfl rfl)
theorem dX8_run_65 : decode cX8_run 65 = .ok (.aaload, 1) := dk_50 (dk_at dksX8_run_2 17 rfl rfl)
theorem dX8_run_66 : decode cX8_run 66 = .ok (.aload_n 0, 1) := dk_42 (dk_at dksX8_run_2 18 rfl rfl)
theorem dX8_run_67 : decode cX8_run 67 = .ok (.getfield 31, 3) := dk_180 0 31 (dk_at dksX8_run_2 19 rfl rfl)
theorem dX8_run_70 : decode cX8_run 70 = .ok (.invokevirtual 77, 3) := dk_182 0 77 (dk_at dksX8_run_3 0 rfl rfl)
theorem dX8_run_73 : decode cX8_run 73 = .ok (.iinc 2 1, 3) := dk_132 2 1 (dk_at dksX8_run_3 3 rfl rfl)
theorem dX8_run_76 : decode cX8_run 76 = .ok (.goto (-46), 3) := dk_167 255 210 (dk_at dksX8_run_3 6 rfl rfl)
theorem dX8_run_79 : decode cX8_run 79 = .ok (.aload_n 0, 1) := dk_42 (dk_at dksX8_run_3 9 rfl rfl)
theorem dX8_run_80 : decode cX8_run 80 = .ok (.getfield 16, 3) := dk_180 0 16 (dk_at dksX8_run_3 10 rfl rfl)
theorem dX8_run_83 : decode cX8_run 83 = .ok (.iconst 1, 1) := dk_4 (dk_at dksX8_run_3 13 rfl rfl)
theorem dX8_run_84 : decode cX8_run 84 = .ok (.iload_n 1, 1) := dk_27 (dk_at dksX8_run_3 14 rfl rfl)
theorem dX8_run_85 : decode cX8_run 85 = .ok (.iconst 1, 1) := dk_4 (dk_at dksX8_run_3 15 rfl rfl)
theorem dX8_run_86 : decode cX8_run 86 = .ok (.isub, 1) := dk_100 (dk_at dksX8_run_3 16 rfl rfl)
theorem dX8_run_87 : decode cX8_run 87 = .ok (.iastore, 1) := dk_79 (dk_at dksX8_run_3 17 rfl rfl)
theorem dX8_run_88 : decode cX8_run 88 = .ok (.aload_n 0, 1) := dk_42 (dk_at dksX8_run_3 18 rfl rfl)
theorem dX8_run_89 : decode cX8_run 89 = .ok (.iconst 2, 1) := dk_5 (dk_at dksX8_run_3 19 rfl rfl)
theorem dX8_run_90 : decode cX8_run 90 = .ok (.putfield 55, 3) := dk_181 0 55 (dk_at dksX8_run_3 20 rfl rfl)
theorem dX8_run_93 : decode cX8_run 93 = .ok (.aload_n 0, 1) := dk_42 (dk_at dksX8_run_3 23 rfl rfl)
theorem dX8_run_94 : decode cX8_run 94 = .ok (.invokevirtual 70, 3) := dk_182 0 70 (dk_at dksX8_run_4 0 rfl rfl)
theorem dX8_run_97 : decode cX8_run 97 = .ok (.return_, 1) := dk_177 (dk_at dksX8_run_4 3 rfl rfl)
abbrev cX8_bare : ByteArray := prog_3_method_9_code
def yX8_bare : MethodName := ⟨RX8, "bare", "([LIdealCourt$Whole;I)V"⟩
def dkwX8_bare_2 : List UInt8 := [180, 0, 44, 43, 29, 50, 43, 29, 50, 42, 180, 0, 41, 182, 0, 95, 132, 3, 1, 167, 255, 231, 177]
abbrev dktX8_bare_2 : List UInt8 := dkwX8_bare_2 ++ []
def dkwX8_bare_1 : List UInt8 := [180, 0, 41, 43, 29, 50, 182, 0, 92, 132, 3, 1, 167, 255, 230, 3, 62, 29, 28, 163, 0, 26, 42]
abbrev dktX8_bare_1 : List UInt8 := dkwX8_bare_1 ++ dktX8_bare_2
def dkwX8_bare_0 : List UInt8 := [42, 180, 0, 41, 9, 182, 0, 66, 3, 62, 29, 28, 163, 0, 27, 42, 180, 0, 44, 42, 180, 0, 41, 42]
abbrev dktX8_bare_0 : List UInt8 := dkwX8_bare_0 ++ dktX8_bare_1
theorem dksX8_bare_0 : cX8_bare.data.toList.drop 0 = dktX8_bare_0 := by decide +kernel
theorem dksX8_bare_1 : cX8_bare.data.toList.drop 24 = dktX8_bare_1 := dk_seg dksX8_bare_0 24 rfl rfl
theorem dksX8_bare_2 : cX8_bare.data.toList.drop 47 = dktX8_bare_2 := dk_seg dksX8_bare_1 23 rfl rfl
theorem dX8_bare_0 : decode cX8_bare 0 = .ok (.aload_n 0, 1) := dk_42 (dk_at dksX8_bare_0 0 rfl rfl)
theorem dX8_bare_1 : decode cX8_bare 1 = .ok (.getfield 41, 3) := dk_180 0 41 (dk_at dksX8_bare_0 1 rfl rfl)
theorem dX8_bare_4 : decode cX8_bare 4 = .ok (.lconst 0, 1) := dk_9 (dk_at dksX8_bare_0 4 rfl rfl)
theorem dX8_bare_5 : decode cX8_bare 5 = .ok (.invokevirtual 66, 3) := dk_182 0 66 (dk_at dksX8_bare_0 5 rfl rfl)
theorem dX8_bare_8 : decode cX8_bare 8 = .ok (.iconst 0, 1) := dk_3 (dk_at dksX8_bare_0 8 rfl rfl)
theorem dX8_bare_9 : decode cX8_bare 9 = .ok (.istore_n 3, 1) := dk_62 (dk_at dksX8_bare_0 9 rfl rfl)
theorem dX8_bare_10 : decode cX8_bare 10 = .ok (.iload_n 3, 1) := dk_29 (dk_at dksX8_bare_0 10 rfl rfl)
theorem dX8_bare_11 : decode cX8_bare 11 = .ok (.iload_n 2, 1) := dk_28 (dk_at dksX8_bare_0 11 rfl rfl)
theorem dX8_bare_12 : decode cX8_bare 12 = .ok (.if_icmp .gt 27, 3) := dk_163 0 27 (dk_at dksX8_bare_0 12 rfl rfl)
theorem dX8_bare_15 : decode cX8_bare 15 = .ok (.aload_n 0, 1) := dk_42 (dk_at dksX8_bare_0 15 rfl rfl)
theorem dX8_bare_16 : decode cX8_bare 16 = .ok (.getfield 44, 3) := dk_180 0 44 (dk_at dksX8_bare_0 16 rfl rfl)
theorem dX8_bare_19 : decode cX8_bare 19 = .ok (.aload_n 0, 1) := dk_42 (dk_at dksX8_bare_0 19 rfl rfl)
theorem dX8_bare_20 : decode cX8_bare 20 = .ok (.getfield 41, 3) := dk_180 0 41 (dk_at dksX8_bare_0 20 rfl rfl)
theorem dX8_bare_23 : decode cX8_bare 23 = .ok (.aload_n 0, 1) := dk_42 (dk_at dksX8_bare_0 23 rfl rfl)
theorem dX8_bare_24 : decode cX8_bare 24 = .ok (.getfield 41, 3) := dk_180 0 41 (dk_at dksX8_bare_1 0 rfl rfl)
theorem dX8_bare_27 : decode cX8_bare 27 = .ok (.aload_n 1, 1) := dk_43 (dk_at dksX8_bare_1 3 rfl rfl)
theorem dX8_bare_28 : decode cX8_bare 28 = .ok (.iload_n 3, 1) := dk_29 (dk_at dksX8_bare_1 4 rfl rfl)
theorem dX8_bare_29 : decode cX8_bare 29 = .ok (.aaload, 1) := dk_50 (dk_at dksX8_bare_1 5 rfl rfl)
theorem dX8_bare_30 : decode cX8_bare 30 = .ok (.invokevirtual 92, 3) := dk_182 0 92 (dk_at dksX8_bare_1 6 rfl rfl)
theorem dX8_bare_33 : decode cX8_bare 33 = .ok (.iinc 3 1, 3) := dk_132 3 1 (dk_at dksX8_bare_1 9 rfl rfl)
theorem dX8_bare_36 : decode cX8_bare 36 = .ok (.goto (-26), 3) := dk_167 255 230 (dk_at dksX8_bare_1 12 rfl rfl)
theorem dX8_bare_39 : decode cX8_bare 39 = .ok (.iconst 0, 1) := dk_3 (dk_at dksX8_bare_1 15 rfl rfl)
theorem dX8_bare_40 : decode cX8_bare 40 = .ok (.istore_n 3, 1) := dk_62 (dk_at dksX8_bare_1 16 rfl rfl)
theorem dX8_bare_41 : decode cX8_bare 41 = .ok (.iload_n 3, 1) := dk_29 (dk_at dksX8_bare_1 17 rfl rfl)
theorem dX8_bare_42 : decode cX8_bare 42 = .ok (.iload_n 2, 1) := dk_28 (dk_at dksX8_bare_1 18 rfl rfl)
theorem dX8_bare_43 : decode cX8_bare 43 = .ok (.if_icmp .gt 26, 3) := dk_163 0 26 (dk_at dksX8_bare_1 19 rfl rfl)
theorem dX8_bare_46 : decode cX8_bare 46 = .ok (.aload_n 0, 1) := dk_42 (dk_at dksX8_bare_1 22 rfl rfl)
theorem dX8_bare_47 : decode cX8_bare 47 = .ok (.getfield 44, 3) := dk_180 0 44 (dk_at dksX8_bare_2 0 rfl rfl)
theorem dX8_bare_50 : decode cX8_bare 50 = .ok (.aload_n 1, 1) := dk_43 (dk_at dksX8_bare_2 3 rfl rfl)
theorem dX8_bare_51 : decode cX8_bare 51 = .ok (.iload_n 3, 1) := dk_29 (dk_at dksX8_bare_2 4 rfl rfl)
theorem dX8_bare_52 : decode cX8_bare 52 = .ok (.aaload, 1) := dk_50 (dk_at dksX8_bare_2 5 rfl rfl)
theorem dX8_bare_53 : decode cX8_bare 53 = .ok (.aload_n 1, 1) := dk_43 (dk_at dksX8_bare_2 6 rfl rfl)
theorem dX8_bare_54 : decode cX8_bare 54 = .ok (.iload_n 3, 1) := dk_29 (dk_at dksX8_bare_2 7 rfl rfl)
theorem dX8_bare_55 : decode cX8_bare 55 = .ok (.aaload, 1) := dk_50 (dk_at dksX8_bare_2 8 rfl rfl)
theorem dX8_bare_56 : decode cX8_bare 56 = .ok (.aload_n 0, 1) := dk_42 (dk_at dksX8_bare_2 9 rfl rfl)
theorem dX8_bare_57 : decode cX8_bare 57 = .ok (.getfield 41, 3) := dk_180 0 41 (dk_at dksX8_bare_2 10 rfl rfl)
theorem dX8_bare_60 : decode cX8_bare 60 = .ok (.invokevirtual 95, 3) := dk_182 0 95 (dk_at dksX8_bare_2 13 rfl rfl)
theorem dX8_bare_63 : decode cX8_bare 63 = .ok (.iinc 3 1, 3) := dk_132 3 1 (dk_at dksX8_bare_2 16 rfl rfl)
theorem dX8_bare_66 : decode cX8_bare 66 = .ok (.goto (-25), 3) := dk_167 255 231 (dk_at dksX8_bare_2 19 rfl rfl)
theorem dX8_bare_69 : decode cX8_bare 69 = .ok (.return_, 1) := dk_177 (dk_at dksX8_bare_2 22 rfl rfl)
abbrev cX8_goOn : ByteArray := prog_3_method_7_code
def yX8_goOn : MethodName := ⟨RX8, "goOn", "()V"⟩
def dkwX8_goOn_7 : List UInt8 := [42, 180, 0, 55, 50, 27, 182, 0, 73, 42, 89, 180, 0, 55, 4, 96, 181, 0, 55, 167, 255, 101, 177]
abbrev dktX8_goOn_7 : List UInt8 := dkwX8_goOn_7 ++ []
def dkwX8_goOn_6 : List UInt8 := [180, 0, 55, 50, 28, 50, 180, 0, 85, 116, 181, 0, 85, 132, 2, 1, 167, 255, 219, 42, 42, 180, 0, 13]
abbrev dktX8_goOn_6 : List UInt8 := dkwX8_goOn_6 ++ dktX8_goOn_7
def dkwX8_goOn_5 : List UInt8 := [79, 3, 61, 28, 27, 163, 0, 38, 42, 180, 0, 13, 42, 180, 0, 55, 50, 28, 50, 42, 180, 0, 13, 42]
abbrev dktX8_goOn_5 : List UInt8 := dkwX8_goOn_5 ++ dktX8_goOn_6
def dkwX8_goOn_4 : List UInt8 := [180, 0, 55, 50, 182, 0, 81, 60, 27, 16, 249, 160, 0, 4, 177, 42, 180, 0, 16, 42, 180, 0, 55, 27]
abbrev dktX8_goOn_4 : List UInt8 := dkwX8_goOn_4 ++ dktX8_goOn_5
def dkwX8_goOn_3 : List UInt8 := [180, 0, 55, 4, 100, 50, 42, 180, 0, 16, 42, 180, 0, 55, 4, 100, 46, 42, 180, 0, 13, 42]
abbrev dktX8_goOn_3 : List UInt8 := dkwX8_goOn_3 ++ dktX8_goOn_4
def dkwX8_goOn_2 : List UInt8 := [180, 0, 55, 5, 100, 50, 42, 180, 0, 16, 42, 180, 0, 55, 5, 100, 46, 42, 180, 0, 13, 42]
abbrev dktX8_goOn_2 : List UInt8 := dkwX8_goOn_2 ++ dktX8_goOn_3
def dkwX8_goOn_1 : List UInt8 := [182, 0, 73, 42, 180, 0, 16, 42, 180, 0, 55, 4, 100, 46, 158, 0, 147, 42, 42, 180, 0, 13, 42]
abbrev dktX8_goOn_1 : List UInt8 := dkwX8_goOn_1 ++ dktX8_goOn_2
def dkwX8_goOn_0 : List UInt8 := [42, 42, 180, 0, 13, 42, 180, 0, 55, 4, 100, 50, 42, 180, 0, 16, 42, 180, 0, 55, 4, 100, 46]
abbrev dktX8_goOn_0 : List UInt8 := dkwX8_goOn_0 ++ dktX8_goOn_1
theorem dksX8_goOn_0 : cX8_goOn.data.toList.drop 0 = dktX8_goOn_0 := by decide +kernel
theorem dksX8_goOn_1 : cX8_goOn.data.toList.drop 23 = dktX8_goOn_1 := dk_seg dksX8_goOn_0 23 rfl rfl
theorem dksX8_goOn_2 : cX8_goOn.data.toList.drop 46 = dktX8_goOn_2 := dk_seg dksX8_goOn_1 23 rfl rfl
theorem dksX8_goOn_3 : cX8_goOn.data.toList.drop 68 = dktX8_goOn_3 := dk_seg dksX8_goOn_2 22 rfl rfl
theorem dksX8_goOn_4 : cX8_goOn.data.toList.drop 90 = dktX8_goOn_4 := dk_seg dksX8_goOn_3 22 rfl rfl
theorem dksX8_goOn_5 : cX8_goOn.data.toList.drop 114 = dktX8_goOn_5 := dk_seg dksX8_goOn_4 24 rfl rfl
theorem dksX8_goOn_6 : cX8_goOn.data.toList.drop 138 = dktX8_goOn_6 := dk_seg dksX8_goOn_5 24 rfl rfl
theorem dksX8_goOn_7 : cX8_goOn.data.toList.drop 162 = dktX8_goOn_7 := dk_seg dksX8_goOn_6 24 rfl rfl
theorem dX8_goOn_0 : decode cX8_goOn 0 = .ok (.aload_n 0, 1) := dk_42 (dk_at dksX8_goOn_0 0 rfl rfl)
theorem dX8_goOn_1 : decode cX8_goOn 1 = .ok (.aload_n 0, 1) := dk_42 (dk_at dksX8_goOn_0 1 rfl rfl)
theorem dX8_goOn_2 : decode cX8_goOn 2 = .ok (.getfield 13, 3) := dk_180 0 13 (dk_at dksX8_goOn_0 2 rfl rfl)
theorem dX8_goOn_5 : decode cX8_goOn 5 = .ok (.aload_n 0, 1) := dk_42 (dk_at dksX8_goOn_0 5 rfl rfl)
theorem dX8_goOn_6 : decode cX8_goOn 6 = .ok (.getfield 55, 3) := dk_180 0 55 (dk_at dksX8_goOn_0 6 rfl rfl)
theorem dX8_goOn_9 : decode cX8_goOn 9 = .ok (.iconst 1, 1) := dk_4 (dk_at dksX8_goOn_0 9 rfl rfl)
theorem dX8_goOn_10 : decode cX8_goOn 10 = .ok (.isub, 1) := dk_100 (dk_at dksX8_goOn_0 10 rfl rfl)
theorem dX8_goOn_11 : decode cX8_goOn 11 = .ok (.aaload, 1) := dk_50 (dk_at dksX8_goOn_0 11 rfl rfl)
theorem dX8_goOn_12 : decode cX8_goOn 12 = .ok (.aload_n 0, 1) := dk_42 (dk_at dksX8_goOn_0 12 rfl rfl)
theorem dX8_goOn_13 : decode cX8_goOn 13 = .ok (.getfield 16, 3) := dk_180 0 16 (dk_at dksX8_goOn_0 13 rfl rfl)
theorem dX8_goOn_16 : decode cX8_goOn 16 = .ok (.aload_n 0, 1) := dk_42 (dk_at dksX8_goOn_0 16 rfl rfl)
theorem dX8_goOn_17 : decode cX8_goOn 17 = .ok (.getfield 55, 3) := dk_180 0 55 (dk_at dksX8_goOn_0 17 rfl rfl)
theorem dX8_goOn_20 : decode cX8_goOn 20 = .ok (.iconst 1, 1) := dk_4 (dk_at dksX8_goOn_0 20 rfl rfl)
theorem dX8_goOn_21 : decode cX8_goOn 21 = .ok (.isub, 1) := dk_100 (dk_at dksX8_goOn_0 21 rfl rfl)
theorem dX8_goOn_22 : decode cX8_goOn 22 = .ok (.iaload, 1) := dk_46 (dk_at dksX8_goOn_0 22 rfl rfl)
theorem dX8_goOn_23 : decode cX8_goOn 23 = .ok (.invokevirtual 73, 3) := dk_182 0 73 (dk_at dksX8_goOn_1 0 rfl rfl)
theorem dX8_goOn_26 : decode cX8_goOn 26 = .ok (.aload_n 0, 1) := dk_42 (dk_at dksX8_goOn_1 3 rfl rfl)
theorem dX8_goOn_27 : decode cX8_goOn 27 = .ok (.getfield 16, 3) := dk_180 0 16 (dk_at dksX8_goOn_1 4 rfl rfl)
theorem dX8_goOn_30 : decode cX8_goOn 30 = .ok (.aload_n 0, 1) := dk_42 (dk_at dksX8_goOn_1 7 rfl rfl)
theorem dX8_goOn_31 : decode cX8_goOn 31 = .ok (.getfield 55, 3) := dk_180 0 55 (dk_at dksX8_goOn_1 8 rfl rfl)
theorem dX8_goOn_34 : decode cX8_goOn 34 = .ok (.iconst 1, 1) := dk_4 (dk_at dksX8_goOn_1 11 rfl rfl)
theorem dX8_goOn_35 : decode cX8_goOn 35 = .ok (.isub, 1) := dk_100 (dk_at dksX8_goOn_1 12 rfl rfl)
theorem dX8_goOn_36 : decode cX8_goOn 36 = .ok (.iaload, 1) := dk_46 (dk_at dksX8_goOn_1 13 rfl rfl)
theorem dX8_goOn_37 : decode cX8_goOn 37 = .ok (.ifCond .le 147, 3) := dk_158 0 147 (dk_at dksX8_goOn_1 14 rfl rfl)
theorem dX8_goOn_40 : decode cX8_goOn 40 = .ok (.aload_n 0, 1) := dk_42 (dk_at dksX8_goOn_1 17 rfl rfl)
theorem dX8_goOn_41 : decode cX8_goOn 41 = .ok (.aload_n 0, 1) := dk_42 (dk_at dksX8_goOn_1 18 rfl rfl)
theorem dX8_goOn_42 : decode cX8_goOn 42 = .ok (.getfield 13, 3) := dk_180 0 13 (dk_at dksX8_goOn_1 19 rfl rfl)
theorem dX8_goOn_45 : decode cX8_goOn 45 = .ok (.aload_n 0, 1) := dk_42 (dk_at dksX8_goOn_1 22 rfl rfl)
theorem dX8_goOn_46 : decode cX8_goOn 46 = .ok (.getfield 55, 3) := dk_180 0 55 (dk_at dksX8_goOn_2 0 rfl rfl)
theorem dX8_goOn_49 : decode cX8_goOn 49 = .ok (.iconst 2, 1) := dk_5 (dk_at dksX8_goOn_2 3 rfl rfl)
theorem dX8_goOn_50 : decode cX8_goOn 50 = .ok (.isub, 1) := dk_100 (dk_at dksX8_goOn_2 4 rfl rfl)
theorem dX8_goOn_51 : decode cX8_goOn 51 = .ok (.aaload, 1) := dk_50 (dk_at dksX8_goOn_2 5 rfl rfl)
theorem dX8_goOn_52 : decode cX8_goOn 52 = .ok (.aload_n 0, 1) := dk_42 (dk_at dksX8_goOn_2 6 rfl rfl)
theorem dX8_goOn_53 : decode cX8_goOn 53 = .ok (.getfield 16, 3) := dk_180 0 16 (dk_at dksX8_goOn_2 7 rfl rfl)
theorem dX8_goOn_56 : decode cX8_goOn 56 = .ok (.aload_n 0, 1) := dk_42 (dk_at dksX8_goOn_2 10 rfl rfl)
theorem dX8_goOn_57 : decode cX8_goOn 57 = .ok (.getfield 55, 3) := dk_180 0 55 (dk_at dksX8_goOn_2 11 rfl rfl)
theorem dX8_goOn_60 : decode cX8_goOn 60 = .ok (.iconst 2, 1) := dk_5 (dk_at dksX8_goOn_2 14 rfl rfl)
theorem dX8_goOn_61 : decode cX8_goOn 61 = .ok (.isub, 1) := dk_100 (dk_at dksX8_goOn_2 15 rfl rfl)
theorem dX8_goOn_62 : decode cX8_goOn 62 = .ok (.iaload, 1) := dk_46 (dk_at dksX8_goOn_2 16 rfl rfl)
theorem dX8_goOn_63 : decode cX8_goOn 63 = .ok (.aload_n 0, 1) := dk_42 (dk_at dksX8_goOn_2 17 rfl rfl)
theorem dX8_goOn_64 : decode cX8_goOn 64 = .ok (.getfield 13, 3) := dk_180 0 13 (dk_at dksX8_goOn_2 18 rfl rfl)
theorem dX8_goOn_67 : decode cX8_goOn 67 = .ok (.aload_n 0, 1) := dk_42 (dk_at dksX8_goOn_2 21 rfl rfl)
theorem dX8_goOn_68 : decode cX8_goOn 68 = .ok (.getfield 55, 3) := dk_180 0 55 (dk_at dksX8_goOn_3 0 rfl rfl)
theorem dX8_goOn_71 : decode cX8_goOn 71 = .ok (.iconst 1, 1) := dk_4 (dk_at dksX8_goOn_3 3 rfl rfl)
theorem dX8_goOn_72 : decode cX8_goOn 72 = .ok (.isub, 1) := dk_100 (dk_at dksX8_goOn_3 4 rfl rfl)
theorem dX8_goOn_73 : decode cX8_goOn 73 = .ok (.aaload, 1) := dk_50 (dk_at dksX8_goOn_3 5 rfl rfl)
theorem dX8_goOn_74 : decode cX8_goOn 74 = .ok (.aload_n 0, 1) := dk_42 (dk_at dksX8_goOn_3 6 rfl rfl)
theorem dX8_goOn_75 : decode cX8_goOn 75 = .ok (.getfield 16, 3) := dk_180 0 16 (dk_at dksX8_goOn_3 7 rfl rfl)
theorem dX8_goOn_78 : decode cX8_goOn 78 = .ok (.aload_n 0, 1) := dk_42 (dk_at dksX8_goOn_3 10 rfl rfl)
theorem dX8_goOn_79 : decode cX8_goOn 79 = .ok (.getfield 55, 3) := dk_180 0 55 (dk_at dksX8_goOn_3 11 rfl rfl)
theorem dX8_goOn_82 : decode cX8_goOn 82 = .ok (.iconst 1, 1) := dk_4 (dk_at dksX8_goOn_3 14 rfl rfl)
theorem dX8_goOn_83 : decode cX8_goOn 83 = .ok (.isub, 1) := dk_100 (dk_at dksX8_goOn_3 15 rfl rfl)
theorem dX8_goOn_84 : decode cX8_goOn 84 = .ok (.iaload, 1) := dk_46 (dk_at dksX8_goOn_3 16 rfl rfl)
theorem dX8_goOn_85 : decode cX8_goOn 85 = .ok (.aload_n 0, 1) := dk_42 (dk_at dksX8_goOn_3 17 rfl rfl)
theorem dX8_goOn_86 : decode cX8_goOn 86 = .ok (.getfield 13, 3) := dk_180 0 13 (dk_at dksX8_goOn_3 18 rfl rfl)
theorem dX8_goOn_89 : decode cX8_goOn 89 = .ok (.aload_n 0, 1) := dk_42 (dk_at dksX8_goOn_3 21 rfl rfl)
theorem dX8_goOn_90 : decode cX8_goOn 90 = .ok (.getfield 55, 3) := dk_180 0 55 (dk_at dksX8_goOn_4 0 rfl rfl)
theorem dX8_goOn_93 : decode cX8_goOn 93 = .ok (.aaload, 1) := dk_50 (dk_at dksX8_goOn_4 3 rfl rfl)
theorem dX8_goOn_94 : decode cX8_goOn 94 = .ok (.invokevirtual 81, 3) := dk_182 0 81 (dk_at dksX8_goOn_4 4 rfl rfl)
theorem dX8_goOn_97 : decode cX8_goOn 97 = .ok (.istore_n 1, 1) := dk_60 (dk_at dksX8_goOn_4 7 rfl rfl)
theorem dX8_goOn_98 : decode cX8_goOn 98 = .ok (.iload_n 1, 1) := dk_27 (dk_at dksX8_goOn_4 8 rfl rfl)
theorem dX8_goOn_99 : decode cX8_goOn 99 = .ok (.bipush (-7), 2) := dk_16 249 (dk_at dksX8_goOn_4 9 rfl rfl)
theorem dX8_goOn_101 : decode cX8_goOn 101 = .ok (.if_icmp .ne 4, 3) := dk_160 0 4 (dk_at dksX8_goOn_4 11 rfl rfl)
theorem dX8_goOn_104 : decode cX8_goOn 104 = .ok (.return_, 1) := dk_177 (dk_at dksX8_goOn_4 14 rfl rfl)
theorem dX8_goOn_105 : decode cX8_goOn 105 = .ok (.aload_n 0, 1) := dk_42 (dk_at dksX8_goOn_4 15 rfl rfl)
theorem dX8_goOn_106 : decode cX8_goOn 106 = .ok (.getfield 16, 3) := dk_180 0 16 (dk_at dksX8_goOn_4 16 rfl rfl)
theorem dX8_goOn_109 : decode cX8_goOn 109 = .ok (.aload_n 0, 1) := dk_42 (dk_at dksX8_goOn_4 19 rfl rfl)
theorem dX8_goOn_110 : decode cX8_goOn 110 = .ok (.getfield 55, 3) := dk_180 0 55 (dk_at dksX8_goOn_4 20 rfl rfl)
theorem dX8_goOn_113 : decode cX8_goOn 113 = .ok (.iload_n 1, 1) := dk_27 (dk_at dksX8_goOn_4 23 rfl rfl)
theorem dX8_goOn_114 : decode cX8_goOn 114 = .ok (.iastore, 1) := dk_79 (dk_at dksX8_goOn_5 0 rfl rfl)
theorem dX8_goOn_115 : decode cX8_goOn 115 = .ok (.iconst 0, 1) := dk_3 (dk_at dksX8_goOn_5 1 rfl rfl)
theorem dX8_goOn_116 : decode cX8_goOn 116 = .ok (.istore_n 2, 1) := dk_61 (dk_at dksX8_goOn_5 2 rfl rfl)
theorem dX8_goOn_117 : decode cX8_goOn 117 = .ok (.iload_n 2, 1) := dk_28 (dk_at dksX8_goOn_5 3 rfl rfl)
theorem dX8_goOn_118 : decode cX8_goOn 118 = .ok (.iload_n 1, 1) := dk_27 (dk_at dksX8_goOn_5 4 rfl rfl)
theorem dX8_goOn_119 : decode cX8_goOn 119 = .ok (.if_icmp .gt 38, 3) := dk_163 0 38 (dk_at dksX8_goOn_5 5 rfl rfl)
theorem dX8_goOn_122 : decode cX8_goOn 122 = .ok (.aload_n 0, 1) := dk_42 (dk_at dksX8_goOn_5 8 rfl rfl)
theorem dX8_goOn_123 : decode cX8_goOn 123 = .ok (.getfield 13, 3) := dk_180 0 13 (dk_at dksX8_goOn_5 9 rfl rfl)
theorem dX8_goOn_126 : decode cX8_goOn 126 = .ok (.aload_n 0, 1) := dk_42 (dk_at dksX8_goOn_5 12 rfl rfl)
theorem dX8_goOn_127 : decode cX8_goOn 127 = .ok (.getfield 55, 3) := dk_180 0 55 (dk_at dksX8_goOn_5 13 rfl rfl)
theorem dX8_goOn_130 : decode cX8_goOn 130 = .ok (.aaload, 1) := dk_50 (dk_at dksX8_goOn_5 16 rfl rfl)
theorem dX8_goOn_131 : decode cX8_goOn 131 = .ok (.iload_n 2, 1) := dk_28 (dk_at dksX8_goOn_5 17 rfl rfl)
theorem dX8_goOn_132 : decode cX8_goOn 132 = .ok (.aaload, 1) := dk_50 (dk_at dksX8_goOn_5 18 rfl rfl)
theorem dX8_goOn_133 : decode cX8_goOn 133 = .ok (.aload_n 0, 1) := dk_42 (dk_at dksX8_goOn_5 19 rfl rfl)
theorem dX8_goOn_134 : decode cX8_goOn 134 = .ok (.getfield 13, 3) := dk_180 0 13 (dk_at dksX8_goOn_5 20 rfl rfl)
theorem dX8_goOn_137 : decode cX8_goOn 137 = .ok (.aload_n 0, 1) := dk_42 (dk_at dksX8_goOn_5 23 rfl rfl)
theorem dX8_goOn_138 : decode cX8_goOn 138 = .ok (.getfield 55, 3) := dk_180 0 55 (dk_at dksX8_goOn_6 0 rfl rfl)
theorem dX8_goOn_141 : decode cX8_goOn 141 = .ok (.aaload, 1) := dk_50 (dk_at dksX8_goOn_6 3 rfl rfl)
theorem dX8_goOn_142 : decode cX8_goOn 142 = .ok (.iload_n 2, 1) := dk_28 (dk_at dksX8_goOn_6 4 rfl rfl)
theorem dX8_goOn_143 : decode cX8_goOn 143 = .ok (.aaload, 1) := dk_50 (dk_at dksX8_goOn_6 5 rfl rfl)
theorem dX8_goOn_144 : decode cX8_goOn 144 = .ok (.getfield 85, 3) := dk_180 0 85 (dk_at dksX8_goOn_6 6 rfl rfl)
theorem dX8_goOn_147 : decode cX8_goOn 147 = .ok (.ineg, 1) := dk_116 (dk_at dksX8_goOn_6 9 rfl rfl)
theorem dX8_goOn_148 : decode cX8_goOn 148 = .ok (.putfield 85, 3) := dk_181 0 85 (dk_at dksX8_goOn_6 10 rfl rfl)
theorem dX8_goOn_151 : decode cX8_goOn 151 = .ok (.iinc 2 1, 3) := dk_132 2 1 (dk_at dksX8_goOn_6 13 rfl rfl)
theorem dX8_goOn_154 : decode cX8_goOn 154 = .ok (.goto (-37), 3) := dk_167 255 219 (dk_at dksX8_goOn_6 16 rfl rfl)
theorem dX8_goOn_157 : decode cX8_goOn 157 = .ok (.aload_n 0, 1) := dk_42 (dk_at dksX8_goOn_6 19 rfl rfl)
theorem dX8_goOn_158 : decode cX8_goOn 158 = .ok (.aload_n 0, 1) := dk_42 (dk_at dksX8_goOn_6 20 rfl rfl)
theorem dX8_goOn_159 : decode cX8_goOn 159 = .ok (.getfield 13, 3) := dk_180 0 13 (dk_at dksX8_goOn_6 21 rfl rfl)
theorem dX8_goOn_162 : decode cX8_goOn 162 = .ok (.aload_n 0, 1) := dk_42 (dk_at dksX8_goOn_7 0 rfl rfl)
theorem dX8_goOn_163 : decode cX8_goOn 163 = .ok (.getfield 55, 3) := dk_180 0 55 (dk_at dksX8_goOn_7 1 rfl rfl)
theorem dX8_goOn_166 : decode cX8_goOn 166 = .ok (.aaload, 1) := dk_50 (dk_at dksX8_goOn_7 4 rfl rfl)
theorem dX8_goOn_167 : decode cX8_goOn 167 = .ok (.iload_n 1, 1) := dk_27 (dk_at dksX8_goOn_7 5 rfl rfl)
theorem dX8_goOn_168 : decode cX8_goOn 168 = .ok (.invokevirtual 73, 3) := dk_182 0 73 (dk_at dksX8_goOn_7 6 rfl rfl)
theorem dX8_goOn_171 : decode cX8_goOn 171 = .ok (.aload_n 0, 1) := dk_42 (dk_at dksX8_goOn_7 9 rfl rfl)
theorem dX8_goOn_172 : decode cX8_goOn 172 = .ok (.dup, 1) := dk_89 (dk_at dksX8_goOn_7 10 rfl rfl)
theorem dX8_goOn_173 : decode cX8_goOn 173 = .ok (.getfield 55, 3) := dk_180 0 55 (dk_at dksX8_goOn_7 11 rfl rfl)
theorem dX8_goOn_176 : decode cX8_goOn 176 = .ok (.iconst 1, 1) := dk_4 (dk_at dksX8_goOn_7 14 rfl rfl)
theorem dX8_goOn_177 : decode cX8_goOn 177 = .ok (.iadd, 1) := dk_96 (dk_at dksX8_goOn_7 15 rfl rfl)
theorem dX8_goOn_178 : decode cX8_goOn 178 = .ok (.putfield 55, 3) := dk_181 0 55 (dk_at dksX8_goOn_7 16 rfl rfl)
theorem dX8_goOn_181 : decode cX8_goOn 181 = .ok (.goto (-155), 3) := dk_167 255 101 (dk_at dksX8_goOn_7 19 rfl rfl)
theorem dX8_goOn_184 : decode cX8_goOn 184 = .ok (.return_, 1) := dk_177 (dk_at dksX8_goOn_7 22 rfl rfl)
abbrev cX8_remainder : ByteArray := prog_3_method_8_code
def yX8_remainder : MethodName := ⟨RX8, "remainder", "([LIdealCourt$Whole;I[LIdealCourt$Whole;I[LIdealCourt$Whole;)I"⟩
def dkwX8_remainder_10 : List UInt8 := [21, 6, 172]
abbrev dktX8_remainder_10 : List UInt8 := dkwX8_remainder_10 ++ []
def dkwX8_remainder_9 : List UInt8 := [180, 0, 85, 154, 0, 9, 132, 6, 255, 167, 255, 237, 21, 6, 156, 0, 6, 16, 249, 172, 167, 255, 54]
abbrev dktX8_remainder_9 : List UInt8 := dkwX8_remainder_9 ++ dktX8_remainder_10
def dkwX8_remainder_8 : List UInt8 := [180, 0, 38, 2, 182, 0, 88, 132, 8, 1, 167, 255, 154, 21, 6, 155, 0, 20, 25, 5, 21, 6, 50]
abbrev dktX8_remainder_8 : List UInt8 := dkwX8_remainder_8 ++ dktX8_remainder_9
def dkwX8_remainder_7 : List UInt8 := [100, 21, 4, 96, 50, 182, 0, 77, 42, 180, 0, 44, 25, 5, 21, 8, 50, 25, 5, 21, 8, 50, 42]
abbrev dktX8_remainder_7 : List UInt8 := dkwX8_remainder_7 ++ dktX8_remainder_8
def dkwX8_remainder_6 : List UInt8 := [100, 162, 0, 6, 167, 0, 50, 42, 180, 0, 44, 42, 180, 0, 38, 42, 180, 0, 35, 45, 21, 8, 21, 6]
abbrev dktX8_remainder_6 : List UInt8 := dkwX8_remainder_6 ++ dktX8_remainder_7
def dkwX8_remainder_5 : List UInt8 := [180, 0, 31, 182, 0, 77, 25, 5, 21, 8, 50, 42, 180, 0, 38, 182, 0, 59, 21, 8, 21, 6, 21, 4]
abbrev dktX8_remainder_5 : List UInt8 := dkwX8_remainder_5 ++ dktX8_remainder_6
def dkwX8_remainder_4 : List UInt8 := [54, 8, 21, 8, 21, 6, 163, 0, 101, 42, 180, 0, 44, 42, 180, 0, 38, 25, 5, 21, 8, 50, 42]
abbrev dktX8_remainder_4 : List UInt8 := dkwX8_remainder_4 ++ dktX8_remainder_5
def dkwX8_remainder_3 : List UInt8 := [21, 6, 50, 182, 0, 59, 42, 180, 0, 35, 42, 180, 0, 35, 180, 0, 85, 21, 7, 104, 181, 0, 85, 3]
abbrev dktX8_remainder_3 : List UInt8 := dkwX8_remainder_3 ++ dktX8_remainder_4
def dkwX8_remainder_2 : List UInt8 := [42, 180, 0, 31, 180, 0, 85, 54, 7, 42, 180, 0, 31, 4, 181, 0, 85, 42, 180, 0, 35, 25, 5]
abbrev dktX8_remainder_2 : List UInt8 := dkwX8_remainder_2 ++ dktX8_remainder_3
def dkwX8_remainder_1 : List UInt8 := [167, 255, 235, 28, 54, 6, 21, 6, 21, 4, 161, 0, 201, 42, 180, 0, 31, 45, 21, 4, 50, 182, 0, 59]
abbrev dktX8_remainder_1 : List UInt8 := dkwX8_remainder_1 ++ dktX8_remainder_2
def dkwX8_remainder_0 : List UInt8 := [3, 54, 6, 21, 6, 28, 163, 0, 21, 25, 5, 21, 6, 50, 43, 21, 6, 50, 182, 0, 59, 132, 6, 1]
abbrev dktX8_remainder_0 : List UInt8 := dkwX8_remainder_0 ++ dktX8_remainder_1
theorem dksX8_remainder_0 : cX8_remainder.data.toList.drop 0 = dktX8_remainder_0 := by decide +kernel
theorem dksX8_remainder_1 : cX8_remainder.data.toList.drop 24 = dktX8_remainder_1 := dk_seg dksX8_remainder_0 24 rfl rfl
theorem dksX8_remainder_2 : cX8_remainder.data.toList.drop 48 = dktX8_remainder_2 := dk_seg dksX8_remainder_1 24 rfl rfl
theorem dksX8_remainder_3 : cX8_remainder.data.toList.drop 71 = dktX8_remainder_3 := dk_seg dksX8_remainder_2 23 rfl rfl
theorem dksX8_remainder_4 : cX8_remainder.data.toList.drop 95 = dktX8_remainder_4 := dk_seg dksX8_remainder_3 24 rfl rfl
theorem dksX8_remainder_5 : cX8_remainder.data.toList.drop 118 = dktX8_remainder_5 := dk_seg dksX8_remainder_4 23 rfl rfl
theorem dksX8_remainder_6 : cX8_remainder.data.toList.drop 142 = dktX8_remainder_6 := dk_seg dksX8_remainder_5 24 rfl rfl
theorem dksX8_remainder_7 : cX8_remainder.data.toList.drop 166 = dktX8_remainder_7 := dk_seg dksX8_remainder_6 24 rfl rfl
theorem dksX8_remainder_8 : cX8_remainder.data.toList.drop 189 = dktX8_remainder_8 := dk_seg dksX8_remainder_7 23 rfl rfl
theorem dksX8_remainder_9 : cX8_remainder.data.toList.drop 212 = dktX8_remainder_9 := dk_seg dksX8_remainder_8 23 rfl rfl
theorem dksX8_remainder_10 : cX8_remainder.data.toList.drop 235 = dktX8_remainder_10 := dk_seg dksX8_remainder_9 23 rfl rfl
theorem dX8_remainder_0 : decode cX8_remainder 0 = .ok (.iconst 0, 1) := dk_3 (dk_at dksX8_remainder_0 0 rfl rfl)
theorem dX8_remainder_1 : decode cX8_remainder 1 = .ok (.istore 6, 2) := dk_54 6 (dk_at dksX8_remainder_0 1 rfl rfl)
theorem dX8_remainder_3 : decode cX8_remainder 3 = .ok (.iload 6, 2) := dk_21 6 (dk_at dksX8_remainder_0 3 rfl rfl)
theorem dX8_remainder_5 : decode cX8_remainder 5 = .ok (.iload_n 2, 1) := dk_28 (dk_at dksX8_remainder_0 5 rfl rfl)
theorem dX8_remainder_6 : decode cX8_remainder 6 = .ok (.if_icmp .gt 21, 3) := dk_163 0 21 (dk_at dksX8_remainder_0 6 rfl rfl)
theorem dX8_remainder_9 : decode cX8_remainder 9 = .ok (.aload 5, 2) := dk_25 5 (dk_at dksX8_remainder_0 9 rfl rfl)
theorem dX8_remainder_11 : decode cX8_remainder 11 = .ok (.iload 6, 2) := dk_21 6 (dk_at dksX8_remainder_0 11 rfl rfl)
theorem dX8_remainder_13 : decode cX8_remainder 13 = .ok (.aaload, 1) := dk_50 (dk_at dksX8_remainder_0 13 rfl rfl)
theorem dX8_remainder_14 : decode cX8_remainder 14 = .ok (.aload_n 1, 1) := dk_43 (dk_at dksX8_remainder_0 14 rfl rfl)
theorem dX8_remainder_15 : decode cX8_remainder 15 = .ok (.iload 6, 2) := dk_21 6 (dk_at dksX8_remainder_0 15 rfl rfl)
theorem dX8_remainder_17 : decode cX8_remainder 17 = .ok (.aaload, 1) := dk_50 (dk_at dksX8_remainder_0 17 rfl rfl)
theorem dX8_remainder_18 : decode cX8_remainder 18 = .ok (.invokevirtual 59, 3) := dk_182 0 59 (dk_at dksX8_remainder_0 18 rfl rfl)
theorem dX8_remainder_21 : decode cX8_remainder 21 = .ok (.iinc 6 1, 3) := dk_132 6 1 (dk_at dksX8_remainder_0 21 rfl rfl)
theorem dX8_remainder_24 : decode cX8_remainder 24 = .ok (.goto (-21), 3) := dk_167 255 235 (dk_at dksX8_remainder_1 0 rfl rfl)
theorem dX8_remainder_27 : decode cX8_remainder 27 = .ok (.iload_n 2, 1) := dk_28 (dk_at dksX8_remainder_1 3 rfl rfl)
theorem dX8_remainder_28 : decode cX8_remainder 28 = .ok (.istore 6, 2) := dk_54 6 (dk_at dksX8_remainder_1 4 rfl rfl)
theorem dX8_remainder_30 : decode cX8_remainder 30 = .ok (.iload 6, 2) := dk_21 6 (dk_at dksX8_remainder_1 6 rfl rfl)
theorem dX8_remainder_32 : decode cX8_remainder 32 = .ok (.iload 4, 2) := dk_21 4 (dk_at dksX8_remainder_1 8 rfl rfl)
theorem dX8_remainder_34 : decode cX8_remainder 34 = .ok (.if_icmp .lt 201, 3) := dk_161 0 201 (dk_at dksX8_remainder_1 10 rfl rfl)
theorem dX8_remainder_37 : decode cX8_remainder 37 = .ok (.aload_n 0, 1) := dk_42 (dk_at dksX8_remainder_1 13 rfl rfl)
theorem dX8_remainder_38 : decode cX8_remainder 38 = .ok (.getfield 31, 3) := dk_180 0 31 (dk_at dksX8_remainder_1 14 rfl rfl)
theorem dX8_remainder_41 : decode cX8_remainder 41 = .ok (.aload_n 3, 1) := dk_45 (dk_at dksX8_remainder_1 17 rfl rfl)
theorem dX8_remainder_42 : decode cX8_remainder 42 = .ok (.iload 4, 2) := dk_21 4 (dk_at dksX8_remainder_1 18 rfl rfl)
theorem dX8_remainder_44 : decode cX8_remainder 44 = .ok (.aaload, 1) := dk_50 (dk_at dksX8_remainder_1 20 rfl rfl)
theorem dX8_remainder_45 : decode cX8_remainder 45 = .ok (.invokevirtual 59, 3) := dk_182 0 59 (dk_at dksX8_remainder_1 21 rfl rfl)
theorem dX8_remainder_48 : decode cX8_remainder 48 = .ok (.aload_n 0, 1) := dk_42 (dk_at dksX8_remainder_2 0 rfl rfl)
theorem dX8_remainder_49 : decode cX8_remainder 49 = .ok (.getfield 31, 3) := dk_180 0 31 (dk_at dksX8_remainder_2 1 rfl rfl)
theorem dX8_remainder_52 : decode cX8_remainder 52 = .ok (.getfield 85, 3) := dk_180 0 85 (dk_at dksX8_remainder_2 4 rfl rfl)
theorem dX8_remainder_55 : decode cX8_remainder 55 = .ok (.istore 7, 2) := dk_54 7 (dk_at dksX8_remainder_2 7 rfl rfl)
theorem dX8_remainder_57 : decode cX8_remainder 57 = .ok (.aload_n 0, 1) := dk_42 (dk_at dksX8_remainder_2 9 rfl rfl)
theorem dX8_remainder_58 : decode cX8_remainder 58 = .ok (.getfield 31, 3) := dk_180 0 31 (dk_at dksX8_remainder_2 10 rfl rfl)
theorem dX8_remainder_61 : decode cX8_remainder 61 = .ok (.iconst 1, 1) := dk_4 (dk_at dksX8_remainder_2 13 rfl rfl)
theorem dX8_remainder_62 : decode cX8_remainder 62 = .ok (.putfield 85, 3) := dk_181 0 85 (dk_at dksX8_remainder_2 14 rfl rfl)
theorem dX8_remainder_65 : decode cX8_remainder 65 = .ok (.aload_n 0, 1) := dk_42 (dk_at dksX8_remainder_2 17 rfl rfl)
theorem dX8_remainder_66 : decode cX8_remainder 66 = .ok (.getfield 35, 3) := dk_180 0 35 (dk_at dksX8_remainder_2 18 rfl rfl)
theorem dX8_remainder_69 : decode cX8_remainder 69 = .ok (.aload 5, 2) := dk_25 5 (dk_at dksX8_remainder_2 21 rfl rfl)
theorem dX8_remainder_71 : decode cX8_remainder 71 = .ok (.iload 6, 2) := dk_21 6 (dk_at dksX8_remainder_3 0 rfl rfl)
theorem dX8_remainder_73 : decode cX8_remainder 73 = .ok (.aaload, 1) := dk_50 (dk_at dksX8_remainder_3 2 rfl rfl)
theorem dX8_remainder_74 : decode cX8_remainder 74 = .ok (.invokevirtual 59, 3) := dk_182 0 59 (dk_at dksX8_remainder_3 3 rfl rfl)
theorem dX8_remainder_77 : decode cX8_remainder 77 = .ok (.aload_n 0, 1) := dk_42 (dk_at dksX8_remainder_3 6 rfl rfl)
theorem dX8_remainder_78 : decode cX8_remainder 78 = .ok (.getfield 35, 3) := dk_180 0 35 (dk_at dksX8_remainder_3 7 rfl rfl)
theorem dX8_remainder_81 : decode cX8_remainder 81 = .ok (.aload_n 0, 1) := dk_42 (dk_at dksX8_remainder_3 10 rfl rfl)
theorem dX8_remainder_82 : decode cX8_remainder 82 = .ok (.getfield 35, 3) := dk_180 0 35 (dk_at dksX8_remainder_3 11 rfl rfl)
theorem dX8_remainder_85 : decode cX8_remainder 85 = .ok (.getfield 85, 3) := dk_180 0 85 (dk_at dksX8_remainder_3 14 rfl rfl)
theorem dX8_remainder_88 : decode cX8_remainder 88 = .ok (.iload 7, 2) := dk_21 7 (dk_at dksX8_remainder_3 17 rfl rfl)
theorem dX8_remainder_90 : decode cX8_remainder 90 = .ok (.imul, 1) := dk_104 (dk_at dksX8_remainder_3 19 rfl rfl)
theorem dX8_remainder_91 : decode cX8_remainder 91 = .ok (.putfield 85, 3) := dk_181 0 85 (dk_at dksX8_remainder_3 20 rfl rfl)
theorem dX8_remainder_94 : decode cX8_remainder 94 = .ok (.iconst 0, 1) := dk_3 (dk_at dksX8_remainder_3 23 rfl rfl)
theorem dX8_remainder_95 : decode cX8_remainder 95 = .ok (.istore 8, 2) := dk_54 8 (dk_at dksX8_remainder_4 0 rfl rfl)
theorem dX8_remainder_97 : decode cX8_remainder 97 = .ok (.iload 8, 2) := dk_21 8 (dk_at dksX8_remainder_4 2 rfl rfl)
theorem dX8_remainder_99 : decode cX8_remainder 99 = .ok (.iload 6, 2) := dk_21 6 (dk_at dksX8_remainder_4 4 rfl rfl)
theorem dX8_remainder_101 : decode cX8_remainder 101 = .ok (.if_icmp .gt 101, 3) := dk_163 0 101 (dk_at dksX8_remainder_4 6 rfl rfl)
theorem dX8_remainder_104 : decode cX8_remainder 104 = .ok (.aload_n 0, 1) := dk_42 (dk_at dksX8_remainder_4 9 rfl rfl)
theorem dX8_remainder_105 : decode cX8_remainder 105 = .ok (.getfield 44, 3) := dk_180 0 44 (dk_at dksX8_remainder_4 10 rfl rfl)
theorem dX8_remainder_108 : decode cX8_remainder 108 = .ok (.aload_n 0, 1) := dk_42 (dk_at dksX8_remainder_4 13 rfl rfl)
theorem dX8_remainder_109 : decode cX8_remainder 109 = .ok (.getfield 38, 3) := dk_180 0 38 (dk_at dksX8_remainder_4 14 rfl rfl)
theorem dX8_remainder_112 : decode cX8_remainder 112 = .ok (.aload 5, 2) := dk_25 5 (dk_at dksX8_remainder_4 17 rfl rfl)
theorem dX8_remainder_114 : decode cX8_remainder 114 = .ok (.iload 8, 2) := dk_21 8 (dk_at dksX8_remainder_4 19 rfl rfl)
theorem dX8_remainder_116 : decode cX8_remainder 116 = .ok (.aaload, 1) := dk_50 (dk_at dksX8_remainder_4 21 rfl rfl)
theorem dX8_remainder_117 : decode cX8_remainder 117 = .ok (.aload_n 0, 1) := dk_42 (dk_at dksX8_remainder_4 22 rfl rfl)
theorem dX8_remainder_118 : decode cX8_remainder 118 = .ok (.getfield 31, 3) := dk_180 0 31 (dk_at dksX8_remainder_5 0 rfl rfl)
theorem dX8_remainder_121 : decode cX8_remainder 121 = .ok (.invokevirtual 77, 3) := dk_182 0 77 (dk_at dksX8_remainder_5 3 rfl rfl)
theorem dX8_remainder_124 : decode cX8_remainder 124 = .ok (.aload 5, 2) := dk_25 5 (dk_at dksX8_remainder_5 6 rfl rfl)
theorem dX8_remainder_126 : decode cX8_remainder 126 = .ok (.iload 8, 2) := dk_21 8 (dk_at dksX8_remainder_5 8 rfl rfl)
theorem dX8_remainder_128 : decode cX8_remainder 128 = .ok (.aaload, 1) := dk_50 (dk_at dksX8_remainder_5 10 rfl rfl)
theorem dX8_remainder_129 : decode cX8_remainder 129 = .ok (.aload_n 0, 1) := dk_42 (dk_at dksX8_remainder_5 11 rfl rfl)
theorem dX8_remainder_130 : decode cX8_remainder 130 = .ok (.getfield 38, 3) := dk_180 0 38 (dk_at dksX8_remainder_5 12 rfl rfl)
theorem dX8_remainder_133 : decode cX8_remainder 133 = .ok (.invokevirtual 59, 3) := dk_182 0 59 (dk_at dksX8_remainder_5 15 rfl rfl)
theorem dX8_remainder_136 : decode cX8_remainder 136 = .ok (.iload 8, 2) := dk_21 8 (dk_at dksX8_remainder_5 18 rfl rfl)
theorem dX8_remainder_138 : decode cX8_remainder 138 = .ok (.iload 6, 2) := dk_21 6 (dk_at dksX8_remainder_5 20 rfl rfl)
theorem dX8_remainder_140 : decode cX8_remainder 140 = .ok (.iload 4, 2) := dk_21 4 (dk_at dksX8_remainder_5 22 rfl rfl)
theorem dX8_remainder_142 : decode cX8_remainder 142 = .ok (.isub, 1) := dk_100 (dk_at dksX8_remainder_6 0 rfl rfl)
theorem dX8_remainder_143 : decode cX8_remainder 143 = .ok (.if_icmp .ge 6, 3) := dk_162 0 6 (dk_at dksX8_remainder_6 1 rfl rfl)
theorem dX8_remainder_146 : decode cX8_remainder 146 = .ok (.goto 50, 3) := dk_167 0 50 (dk_at dksX8_remainder_6 4 rfl rfl)
theorem dX8_remainder_149 : decode cX8_remainder 149 = .ok (.aload_n 0, 1) := dk_42 (dk_at dksX8_remainder_6 7 rfl rfl)
theorem dX8_remainder_150 : decode cX8_remainder 150 = .ok (.getfield 44, 3) := dk_180 0 44 (dk_at dksX8_remainder_6 8 rfl rfl)
theorem dX8_remainder_153 : decode cX8_remainder 153 = .ok (.aload_n 0, 1) := dk_42 (dk_at dksX8_remainder_6 11 rfl rfl)
theorem dX8_remainder_154 : decode cX8_remainder 154 = .ok (.getfield 38, 3) := dk_180 0 38 (dk_at dksX8_remainder_6 12 rfl rfl)
theorem dX8_remainder_157 : decode cX8_remainder 157 = .ok (.aload_n 0, 1) := dk_42 (dk_at dksX8_remainder_6 15 rfl rfl)
theorem dX8_remainder_158 : decode cX8_remainder 158 = .ok (.getfield 35, 3) := dk_180 0 35 (dk_at dksX8_remainder_6 16 rfl rfl)
theorem dX8_remainder_161 : decode cX8_remainder 161 = .ok (.aload_n 3, 1) := dk_45 (dk_at dksX8_remainder_6 19 rfl rfl)
theorem dX8_remainder_162 : decode cX8_remainder 162 = .ok (.iload 8, 2) := dk_21 8 (dk_at dksX8_remainder_6 20 rfl rfl)
theorem dX8_remainder_164 : decode cX8_remainder 164 = .ok (.iload 6, 2) := dk_21 6 (dk_at dksX8_remainder_6 22 rfl rfl)
theorem dX8_remainder_166 : decode cX8_remainder 166 = .ok (.isub, 1) := dk_100 (dk_at dksX8_remainder_7 0 rfl rfl)
theorem dX8_remainder_167 : decode cX8_remainder 167 = .ok (.iload 4, 2) := dk_21 4 (dk_at dksX8_remainder_7 1 rfl rfl)
theorem dX8_remainder_169 : decode cX8_remainder 169 = .ok (.iadd, 1) := dk_96 (dk_at dksX8_remainder_7 3 rfl rfl)
theorem dX8_remainder_170 : decode cX8_remainder 170 = .ok (.aaload, 1) := dk_50 (dk_at dksX8_remainder_7 4 rfl rfl)
theorem dX8_remainder_171 : decode cX8_remainder 171 = .ok (.invokevirtual 77, 3) := dk_182 0 77 (dk_at dksX8_remainder_7 5 rfl rfl)
theorem dX8_remainder_174 : decode cX8_remainder 174 = .ok (.aload_n 0, 1) := dk_42 (dk_at dksX8_remainder_7 8 rfl rfl)
theorem dX8_remainder_175 : decode cX8_remainder 175 = .ok (.getfield 44, 3) := dk_180 0 44 (dk_at dksX8_remainder_7 9 rfl rfl)
theorem dX8_remainder_178 : decode cX8_remainder 178 = .ok (.aload 5, 2) := dk_25 5 (dk_at dksX8_remainder_7 12 rfl rfl)
theorem dX8_remainder_180 : decode cX8_remainder 180 = .ok (.iload 8, 2) := dk_21 8 (dk_at dksX8_remainder_7 14 rfl rfl)
theorem dX8_remainder_182 : decode cX8_remainder 182 = .ok (.aaload, 1) := dk_50 (dk_at dksX8_remainder_7 16 rfl rfl)
theorem dX8_remainder_183 : decode cX8_remainder 183 = .ok (.aload 5, 2) := dk_25 5 (dk_at dksX8_remainder_7 17 rfl rfl)
theorem dX8_remainder_185 : decode cX8_remainder 185 = .ok (.iload 8, 2) := dk_21 8 (dk_at dksX8_remainder_7 19 rfl rfl)
theorem dX8_remainder_187 : decode cX8_remainder 187 = .ok (.aaload, 1) := dk_50 (dk_at dksX8_remainder_7 21 rfl rfl)
theorem dX8_remainder_188 : decode cX8_remainder 188 = .ok (.aload_n 0, 1) := dk_42 (dk_at dksX8_remainder_7 22 rfl rfl)
theorem dX8_remainder_189 : decode cX8_remainder 189 = .ok (.getfield 38, 3) := dk_180 0 38 (dk_at dksX8_remainder_8 0 rfl rfl)
theorem dX8_remainder_192 : decode cX8_remainder 192 = .ok (.iconst (-1), 1) := dk_2 (dk_at dksX8_remainder_8 3 rfl rfl)
theorem dX8_remainder_193 : decode cX8_remainder 193 = .ok (.invokevirtual 88, 3) := dk_182 0 88 (dk_at dksX8_remainder_8 4 rfl rfl)
theorem dX8_remainder_196 : decode cX8_remainder 196 = .ok (.iinc 8 1, 3) := dk_132 8 1 (dk_at dksX8_remainder_8 7 rfl rfl)
theorem dX8_remainder_199 : decode cX8_remainder 199 = .ok (.goto (-102), 3) := dk_167 255 154 (dk_at dksX8_remainder_8 10 rfl rfl)
theorem dX8_remainder_202 : decode cX8_remainder 202 = .ok (.iload 6, 2) := dk_21 6 (dk_at dksX8_remainder_8 13 rfl rfl)
theorem dX8_remainder_204 : decode cX8_remainder 204 = .ok (.ifCond .lt 20, 3) := dk_155 0 20 (dk_at dksX8_remainder_8 15 rfl rfl)
theorem dX8_remainder_207 : decode cX8_remainder 207 = .ok (.aload 5, 2) := dk_25 5 (dk_at dksX8_remainder_8 18 rfl rfl)
theorem dX8_remainder_209 : decode cX8_remainder 209 = .ok (.iload 6, 2) := dk_21 6 (dk_at dksX8_remainder_8 20 rfl rfl)
theorem dX8_remainder_211 : decode cX8_remainder 211 = .ok (.aaload, 1) := dk_50 (dk_at dksX8_remainder_8 22 rfl rfl)
theorem dX8_remainder_212 : decode cX8_remainder 212 = .ok (.getfield 85, 3) := dk_180 0 85 (dk_at dksX8_remainder_9 0 rfl rfl)
theorem dX8_remainder_215 : decode cX8_remainder 215 = .ok (.ifCond .ne 9, 3) := dk_154 0 9 (dk_at dksX8_remainder_9 3 rfl rfl)
theorem dX8_remainder_218 : decode cX8_remainder 218 = .ok (.iinc 6 (-1), 3) := dk_132 6 255 (dk_at dksX8_remainder_9 6 rfl rfl)
theorem dX8_remainder_221 : decode cX8_remainder 221 = .ok (.goto (-19), 3) := dk_167 255 237 (dk_at dksX8_remainder_9 9 rfl rfl)
theorem dX8_remainder_224 : decode cX8_remainder 224 = .ok (.iload 6, 2) := dk_21 6 (dk_at dksX8_remainder_9 12 rfl rfl)
theorem dX8_remainder_226 : decode cX8_remainder 226 = .ok (.ifCond .ge 6, 3) := dk_156 0 6 (dk_at dksX8_remainder_9 14 rfl rfl)
theorem dX8_remainder_229 : decode cX8_remainder 229 = .ok (.bipush (-7), 2) := dk_16 249 (dk_at dksX8_remainder_9 17 rfl rfl)
theorem dX8_remainder_231 : decode cX8_remainder 231 = .ok (.ireturn, 1) := dk_172 (dk_at dksX8_remainder_9 19 rfl rfl)
theorem dX8_remainder_232 : decode cX8_remainder 232 = .ok (.goto (-202), 3) := dk_167 255 54 (dk_at dksX8_remainder_9 20 rfl rfl)
theorem dX8_remainder_235 : decode cX8_remainder 235 = .ok (.iload 6, 2) := dk_21 6 (dk_at dksX8_remainder_10 0 rfl rfl)
theorem dX8_remainder_237 : decode cX8_remainder 237 = .ok (.ireturn, 1) := dk_172 (dk_at dksX8_remainder_10 2 rfl rfl)
abbrev cX8_without : ByteArray := prog_3_method_10_code
def yX8_without : MethodName := ⟨RX8, "without", "(I)V"⟩
def dkwX8_without_7 : List UInt8 := [177]
abbrev dktX8_without_7 : List UInt8 := dkwX8_without_7 ++ []
def dkwX8_without_6 : List UInt8 := [42, 180, 0, 13, 4, 50, 29, 50, 182, 0, 59, 132, 3, 1, 167, 255, 229, 42, 180, 0, 16, 3, 28, 79]
abbrev dktX8_without_6 : List UInt8 := dkwX8_without_6 ++ dktX8_without_7
def dkwX8_without_5 : List UInt8 := [167, 255, 187, 132, 3, 255, 167, 255, 143, 3, 62, 29, 28, 163, 0, 28, 42, 180, 0, 13, 3, 50, 29, 50]
abbrev dktX8_without_5 : List UInt8 := dkwX8_without_5 ++ dktX8_without_6
def dkwX8_without_4 : List UInt8 := [50, 42, 180, 0, 13, 3, 50, 29, 21, 4, 96, 50, 42, 180, 0, 38, 2, 182, 0, 88, 132, 4, 1]
abbrev dktX8_without_4 : List UInt8 := dkwX8_without_4 ++ dktX8_without_5
def dkwX8_without_3 : List UInt8 := [42, 180, 0, 22, 21, 4, 50, 182, 0, 77, 42, 180, 0, 44, 42, 180, 0, 13, 3, 50, 29, 21, 4, 96]
abbrev dktX8_without_3 : List UInt8 := dkwX8_without_3 ++ dktX8_without_4
def dkwX8_without_2 : List UInt8 := [54, 4, 21, 4, 27, 163, 0, 69, 42, 180, 0, 44, 42, 180, 0, 38, 42, 180, 0, 13, 4, 50, 29, 50]
abbrev dktX8_without_2 : List UInt8 := dkwX8_without_2 ++ dktX8_without_3
def dkwX8_without_1 : List UInt8 := [50, 29, 50, 42, 180, 0, 13, 3, 50, 29, 27, 96, 50, 42, 180, 0, 22, 27, 50, 182, 0, 95, 3]
abbrev dktX8_without_1 : List UInt8 := dkwX8_without_1 ++ dktX8_without_2
def dkwX8_without_0 : List UInt8 := [42, 180, 0, 16, 3, 46, 27, 100, 61, 28, 62, 29, 155, 0, 115, 42, 180, 0, 44, 42, 180, 0, 13, 4]
abbrev dktX8_without_0 : List UInt8 := dkwX8_without_0 ++ dktX8_without_1
theorem dksX8_without_0 : cX8_without.data.toList.drop 0 = dktX8_without_0 := by decide +kernel
theorem dksX8_without_1 : cX8_without.data.toList.drop 24 = dktX8_without_1 := dk_seg dksX8_without_0 24 rfl rfl
theorem dksX8_without_2 : cX8_without.data.toList.drop 47 = dktX8_without_2 := dk_seg dksX8_without_1 23 rfl rfl
theorem dksX8_without_3 : cX8_without.data.toList.drop 71 = dktX8_without_3 := dk_seg dksX8_without_2 24 rfl rfl
theorem dksX8_without_4 : cX8_without.data.toList.drop 95 = dktX8_without_4 := dk_seg dksX8_without_3 24 rfl rfl
theorem dksX8_without_5 : cX8_without.data.toList.drop 118 = dktX8_without_5 := dk_seg dksX8_without_4 23 rfl rfl
theorem dksX8_without_6 : cX8_without.data.toList.drop 142 = dktX8_without_6 := dk_seg dksX8_without_5 24 rfl rfl
theorem dksX8_without_7 : cX8_without.data.toList.drop 166 = dktX8_without_7 := dk_seg dksX8_without_6 24 rfl rfl
theorem dX8_without_0 : decode cX8_without 0 = .ok (.aload_n 0, 1) := dk_42 (dk_at dksX8_without_0 0 rfl rfl)
theorem dX8_without_1 : decode cX8_without 1 = .ok (.getfield 16, 3) := dk_180 0 16 (dk_at dksX8_without_0 1 rfl rfl)
theorem dX8_without_4 : decode cX8_without 4 = .ok (.iconst 0, 1) := dk_3 (dk_at dksX8_without_0 4 rfl rfl)
theorem dX8_without_5 : decode cX8_without 5 = .ok (.iaload, 1) := dk_46 (dk_at dksX8_without_0 5 rfl rfl)
theorem dX8_without_6 : decode cX8_without 6 = .ok (.iload_n 1, 1) := dk_27 (dk_at dksX8_without_0 6 rfl rfl)
theorem dX8_without_7 : decode cX8_without 7 = .ok (.isub, 1) := dk_100 (dk_at dksX8_without_0 7 rfl rfl)
theorem dX8_without_8 : decode cX8_without 8 = .ok (.istore_n 2, 1) := dk_61 (dk_at dksX8_without_0 8 rfl rfl)
theorem dX8_without_9 : decode cX8_without 9 = .ok (.iload_n 2, 1) := dk_28 (dk_at dksX8_without_0 9 rfl rfl)
theorem dX8_without_10 : decode cX8_without 10 = .ok (.istore_n 3, 1) := dk_62 (dk_at dksX8_without_0 10 rfl rfl)
theorem dX8_without_11 : decode cX8_without 11 = .ok (.iload_n 3, 1) := dk_29 (dk_at dksX8_without_0 11 rfl rfl)
theorem dX8_without_12 : decode cX8_without 12 = .ok (.ifCond .lt 115, 3) := dk_155 0 115 (dk_at dksX8_without_0 12 rfl rfl)
theorem dX8_without_15 : decode cX8_without 15 = .ok (.aload_n 0, 1) := dk_42 (dk_at dksX8_without_0 15 rfl rfl)
theorem dX8_without_16 : decode cX8_without 16 = .ok (.getfield 44, 3) := dk_180 0 44 (dk_at dksX8_without_0 16 rfl rfl)
theorem dX8_without_19 : decode cX8_without 19 = .ok (.aload_n 0, 1) := dk_42 (dk_at dksX8_without_0 19 rfl rfl)
theorem dX8_without_20 : decode cX8_without 20 = .ok (.getfield 13, 3) := dk_180 0 13 (dk_at dksX8_without_0 20 rfl rfl)
theorem dX8_without_23 : decode cX8_without 23 = .ok (.iconst 1, 1) := dk_4 (dk_at dksX8_without_0 23 rfl rfl)
theorem dX8_without_24 : decode cX8_without 24 = .ok (.aaload, 1) := dk_50 (dk_at dksX8_without_1 0 rfl rfl)
theorem dX8_without_25 : decode cX8_without 25 = .ok (.iload_n 3, 1) := dk_29 (dk_at dksX8_without_1 1 rfl rfl)
theorem dX8_without_26 : decode cX8_without 26 = .ok (.aaload, 1) := dk_50 (dk_at dksX8_without_1 2 rfl rfl)
theorem dX8_without_27 : decode cX8_without 27 = .ok (.aload_n 0, 1) := dk_42 (dk_at dksX8_without_1 3 rfl rfl)
theorem dX8_without_28 : decode cX8_without 28 = .ok (.getfield 13, 3) := dk_180 0 13 (dk_at dksX8_without_1 4 rfl rfl)
theorem dX8_without_31 : decode cX8_without 31 = .ok (.iconst 0, 1) := dk_3 (dk_at dksX8_without_1 7 rfl rfl)
theorem dX8_without_32 : decode cX8_without 32 = .ok (.aaload, 1) := dk_50 (dk_at dksX8_without_1 8 rfl rfl)
theorem dX8_without_33 : decode cX8_without 33 = .ok (.iload_n 3, 1) := dk_29 (dk_at dksX8_without_1 9 rfl rfl)
theorem dX8_without_34 : decode cX8_without 34 = .ok (.iload_n 1, 1) := dk_27 (dk_at dksX8_without_1 10 rfl rfl)
theorem dX8_without_35 : decode cX8_without 35 = .ok (.iadd, 1) := dk_96 (dk_at dksX8_without_1 11 rfl rfl)
theorem dX8_without_36 : decode cX8_without 36 = .ok (.aaload, 1) := dk_50 (dk_at dksX8_without_1 12 rfl rfl)
theorem dX8_without_37 : decode cX8_without 37 = .ok (.aload_n 0, 1) := dk_42 (dk_at dksX8_without_1 13 rfl rfl)
theorem dX8_without_38 : decode cX8_without 38 = .ok (.getfield 22, 3) := dk_180 0 22 (dk_at dksX8_without_1 14 rfl rfl)
theorem dX8_without_41 : decode cX8_without 41 = .ok (.iload_n 1, 1) := dk_27 (dk_at dksX8_without_1 17 rfl rfl)
theorem dX8_without_42 : decode cX8_without 42 = .ok (.aaload, 1) := dk_50 (dk_at dksX8_without_1 18 rfl rfl)
theorem dX8_without_43 : decode cX8_without 43 = .ok (.invokevirtual 95, 3) := dk_182 0 95 (dk_at dksX8_without_1 19 rfl rfl)
theorem dX8_without_46 : decode cX8_without 46 = .ok (.iconst 0, 1) := dk_3 (dk_at dksX8_without_1 22 rfl rfl)
theorem dX8_without_47 : decode cX8_without 47 = .ok (.istore 4, 2) := dk_54 4 (dk_at dksX8_without_2 0 rfl rfl)
theorem dX8_without_49 : decode cX8_without 49 = .ok (.iload 4, 2) := dk_21 4 (dk_at dksX8_without_2 2 rfl rfl)
theorem dX8_without_51 : decode cX8_without 51 = .ok (.iload_n 1, 1) := dk_27 (dk_at dksX8_without_2 4 rfl rfl)
theorem dX8_without_52 : decode cX8_without 52 = .ok (.if_icmp .gt 69, 3) := dk_163 0 69 (dk_at dksX8_without_2 5 rfl rfl)
theorem dX8_without_55 : decode cX8_without 55 = .ok (.aload_n 0, 1) := dk_42 (dk_at dksX8_without_2 8 rfl rfl)
theorem dX8_without_56 : decode cX8_without 56 = .ok (.getfield 44, 3) := dk_180 0 44 (dk_at dksX8_without_2 9 rfl rfl)
theorem dX8_without_59 : decode cX8_without 59 = .ok (.aload_n 0, 1) := dk_42 (dk_at dksX8_without_2 12 rfl rfl)
theorem dX8_without_60 : decode cX8_without 60 = .ok (.getfield 38, 3) := dk_180 0 38 (dk_at dksX8_without_2 13 rfl rfl)
theorem dX8_without_63 : decode cX8_without 63 = .ok (.aload_n 0, 1) := dk_42 (dk_at dksX8_without_2 16 rfl rfl)
theorem dX8_without_64 : decode cX8_without 64 = .ok (.getfield 13, 3) := dk_180 0 13 (dk_at dksX8_without_2 17 rfl rfl)
theorem dX8_without_67 : decode cX8_without 67 = .ok (.iconst 1, 1) := dk_4 (dk_at dksX8_without_2 20 rfl rfl)
theorem dX8_without_68 : decode cX8_without 68 = .ok (.aaload, 1) := dk_50 (dk_at dksX8_without_2 21 rfl rfl)
theorem dX8_without_69 : decode cX8_without 69 = .ok (.iload_n 3, 1) := dk_29 (dk_at dksX8_without_2 22 rfl rfl)
theorem dX8_without_70 : decode cX8_without 70 = .ok (.aaload, 1) := dk_50 (dk_at dksX8_without_2 23 rfl rfl)
theorem dX8_without_71 : decode cX8_without 71 = .ok (.aload_n 0, 1) := dk_42 (dk_at dksX8_without_3 0 rfl rfl)
theorem dX8_without_72 : decode cX8_without 72 = .ok (.getfield 22, 3) := dk_180 0 22 (dk_at dksX8_without_3 1 rfl rfl)
theorem dX8_without_75 : decode cX8_without 75 = .ok (.iload 4, 2) := dk_21 4 (dk_at dksX8_without_3 4 rfl rfl)
theorem dX8_without_77 : decode cX8_without 77 = .ok (.aaload, 1) := dk_50 (dk_at dksX8_without_3 6 rfl rfl)
theorem dX8_without_78 : decode cX8_without 78 = .ok (.invokevirtual 77, 3) := dk_182 0 77 (dk_at dksX8_without_3 7 rfl rfl)
theorem dX8_without_81 : decode cX8_without 81 = .ok (.aload_n 0, 1) := dk_42 (dk_at dksX8_without_3 10 rfl rfl)
theorem dX8_without_82 : decode cX8_without 82 = .ok (.getfield 44, 3) := dk_180 0 44 (dk_at dksX8_without_3 11 rfl rfl)
theorem dX8_without_85 : decode cX8_without 85 = .ok (.aload_n 0, 1) := dk_42 (dk_at dksX8_without_3 14 rfl rfl)
theorem dX8_without_86 : decode cX8_without 86 = .ok (.getfield 13, 3) := dk_180 0 13 (dk_at dksX8_without_3 15 rfl rfl)
theorem dX8_without_89 : decode cX8_without 89 = .ok (.iconst 0, 1) := dk_3 (dk_at dksX8_without_3 18 rfl rfl)
theorem dX8_without_90 : decode cX8_without 90 = .ok (.aaload, 1) := dk_50 (dk_at dksX8_without_3 19 rfl rfl)
theorem dX8_without_91 : decode cX8_without 91 = .ok (.iload_n 3, 1) := dk_29 (dk_at dksX8_without_3 20 rfl rfl)
theorem dX8_without_92 : decode cX8_without 92 = .ok (.iload 4, 2) := dk_21 4 (dk_at dksX8_without_3 21 rfl rfl)
theorem dX8_without_94 : decode cX8_without 94 = .ok (.iadd, 1) := dk_96 (dk_at dksX8_without_3 23 rfl rfl)
theorem dX8_without_95 : decode cX8_without 95 = .ok (.aaload, 1) := dk_50 (dk_at dksX8_without_4 0 rfl rfl)
theorem dX8_without_96 : decode cX8_without 96 = .ok (.aload_n 0, 1) := dk_42 (dk_at dksX8_without_4 1 rfl rfl)
theorem dX8_without_97 : decode cX8_without 97 = .ok (.getfield 13, 3) := dk_180 0 13 (dk_at dksX8_without_4 2 rfl rfl)
theorem dX8_without_100 : decode cX8_without 100 = .ok (.iconst 0, 1) := dk_3 (dk_at dksX8_without_4 5 rfl rfl)
theorem dX8_without_101 : decode cX8_without 101 = .ok (.aaload, 1) := dk_50 (dk_at dksX8_without_4 6 rfl rfl)
theorem dX8_without_102 : decode cX8_without 102 = .ok (.iload_n 3, 1) := dk_29 (dk_at dksX8_without_4 7 rfl rfl)
theorem dX8_without_103 : decode cX8_without 103 = .ok (.iload 4, 2) := dk_21 4 (dk_at dksX8_without_4 8 rfl rfl)
theorem dX8_without_105 : decode cX8_without 105 = .ok (.iadd, 1) := dk_96 (dk_at dksX8_without_4 10 rfl rfl)
theorem dX8_without_106 : decode cX8_without 106 = .ok (.aaload, 1) := dk_50 (dk_at dksX8_without_4 11 rfl rfl)
theorem dX8_without_107 : decode cX8_without 107 = .ok (.aload_n 0, 1) := dk_42 (dk_at dksX8_without_4 12 rfl rfl)
theorem dX8_without_108 : decode cX8_without 108 = .ok (.getfield 38, 3) := dk_180 0 38 (dk_at dksX8_without_4 13 rfl rfl)
theorem dX8_without_111 : decode cX8_without 111 = .ok (.iconst (-1), 1) := dk_2 (dk_at dksX8_without_4 16 rfl rfl)
theorem dX8_without_112 : decode cX8_without 112 = .ok (.invokevirtual 88, 3) := dk_182 0 88 (dk_at dksX8_without_4 17 rfl rfl)
theorem dX8_without_115 : decode cX8_without 115 = .ok (.iinc 4 1, 3) := dk_132 4 1 (dk_at dksX8_without_4 20 rfl rfl)
theorem dX8_without_118 : decode cX8_without 118 = .ok (.goto (-69), 3) := dk_167 255 187 (dk_at dksX8_without_5 0 rfl rfl)
theorem dX8_without_121 : decode cX8_without 121 = .ok (.iinc 3 (-1), 3) := dk_132 3 255 (dk_at dksX8_without_5 3 rfl rfl)
theorem dX8_without_124 : decode cX8_without 124 = .ok (.goto (-113), 3) := dk_167 255 143 (dk_at dksX8_without_5 6 rfl rfl)
theorem dX8_without_127 : decode cX8_without 127 = .ok (.iconst 0, 1) := dk_3 (dk_at dksX8_without_5 9 rfl rfl)
theorem dX8_without_128 : decode cX8_without 128 = .ok (.istore_n 3, 1) := dk_62 (dk_at dksX8_without_5 10 rfl rfl)
theorem dX8_without_129 : decode cX8_without 129 = .ok (.iload_n 3, 1) := dk_29 (dk_at dksX8_without_5 11 rfl rfl)
theorem dX8_without_130 : decode cX8_without 130 = .ok (.iload_n 2, 1) := dk_28 (dk_at dksX8_without_5 12 rfl rfl)
theorem dX8_without_131 : decode cX8_without 131 = .ok (.if_icmp .gt 28, 3) := dk_163 0 28 (dk_at dksX8_without_5 13 rfl rfl)
theorem dX8_without_134 : decode cX8_without 134 = .ok (.aload_n 0, 1) := dk_42 (dk_at dksX8_without_5 16 rfl rfl)
theorem dX8_without_135 : decode cX8_without 135 = .ok (.getfield 13, 3) := dk_180 0 13 (dk_at dksX8_without_5 17 rfl rfl)
theorem dX8_without_138 : decode cX8_without 138 = .ok (.iconst 0, 1) := dk_3 (dk_at dksX8_without_5 20 rfl rfl)
theorem dX8_without_139 : decode cX8_without 139 = .ok (.aaload, 1) := dk_50 (dk_at dksX8_without_5 21 rfl rfl)
theorem dX8_without_140 : decode cX8_without 140 = .ok (.iload_n 3, 1) := dk_29 (dk_at dksX8_without_5 22 rfl rfl)
theorem dX8_without_141 : decode cX8_without 141 = .ok (.aaload, 1) := dk_50 (dk_at dksX8_without_5 23 rfl rfl)
theorem dX8_without_142 : decode cX8_without 142 = .ok (.aload_n 0, 1) := dk_42 (dk_at dksX8_without_6 0 rfl rfl)
theorem dX8_without_143 : decode cX8_without 143 = .ok (.getfield 13, 3) := dk_180 0 13 (dk_at dksX8_without_6 1 rfl rfl)
theorem dX8_without_146 : decode cX8_without 146 = .ok (.iconst 1, 1) := dk_4 (dk_at dksX8_without_6 4 rfl rfl)
theorem dX8_without_147 : decode cX8_without 147 = .ok (.aaload, 1) := dk_50 (dk_at dksX8_without_6 5 rfl rfl)
theorem dX8_without_148 : decode cX8_without 148 = .ok (.iload_n 3, 1) := dk_29 (dk_at dksX8_without_6 6 rfl rfl)
theorem dX8_without_149 : decode cX8_without 149 = .ok (.aaload, 1) := dk_50 (dk_at dksX8_without_6 7 rfl rfl)
theorem dX8_without_150 : decode cX8_without 150 = .ok (.invokevirtual 59, 3) := dk_182 0 59 (dk_at dksX8_without_6 8 rfl rfl)
theorem dX8_without_153 : decode cX8_without 153 = .ok (.iinc 3 1, 3) := dk_132 3 1 (dk_at dksX8_without_6 11 rfl rfl)
theorem dX8_without_156 : decode cX8_without 156 = .ok (.goto (-27), 3) := dk_167 255 229 (dk_at dksX8_without_6 14 rfl rfl)
theorem dX8_without_159 : decode cX8_without 159 = .ok (.aload_n 0, 1) := dk_42 (dk_at dksX8_without_6 17 rfl rfl)
theorem dX8_without_160 : decode cX8_without 160 = .ok (.getfield 16, 3) := dk_180 0 16 (dk_at dksX8_without_6 18 rfl rfl)
theorem dX8_without_163 : decode cX8_without 163 = .ok (.iconst 0, 1) := dk_3 (dk_at dksX8_without_6 21 rfl rfl)
theorem dX8_without_164 : decode cX8_without 164 = .ok (.iload_n 2, 1) := dk_28 (dk_at dksX8_without_6 22 rfl rfl)
theorem dX8_without_165 : decode cX8_without 165 = .ok (.iastore, 1) := dk_79 (dk_at dksX8_without_6 23 rfl rfl)
theorem dX8_without_166 : decode cX8_without 166 = .ok (.return_, 1) := dk_177 (dk_at dksX8_without_7 0 rfl rfl)
abbrev cX8_changes : ByteArray := prog_3_method_13_code
def yX8_changes : MethodName := ⟨RX8, "changes", "(LIdealCourt$Whole;I)I"⟩
def dkwX8_changes_2 : List UInt8 := [21, 6, 54, 4, 132, 5, 1, 167, 255, 211, 29, 172]
abbrev dktX8_changes_2 : List UInt8 := dkwX8_changes_2 ++ []
def dkwX8_changes_1 : List UInt8 := [182, 0, 101, 54, 6, 21, 6, 154, 0, 6, 167, 0, 18, 21, 4, 21, 6, 116, 160, 0, 6, 132, 3, 1]
abbrev dktX8_changes_1 : List UInt8 := dkwX8_changes_1 ++ dktX8_changes_2
def dkwX8_changes_0 : List UInt8 := [3, 62, 3, 54, 4, 3, 54, 5, 21, 5, 42, 180, 0, 55, 162, 0, 42, 42, 21, 5, 43, 28]
abbrev dktX8_changes_0 : List UInt8 := dkwX8_changes_0 ++ dktX8_changes_1
theorem dksX8_changes_0 : cX8_changes.data.toList.drop 0 = dktX8_changes_0 := by decide +kernel
theorem dksX8_changes_1 : cX8_changes.data.toList.drop 22 = dktX8_changes_1 := dk_seg dksX8_changes_0 22 rfl rfl
theorem dksX8_changes_2 : cX8_changes.data.toList.drop 46 = dktX8_changes_2 := dk_seg dksX8_changes_1 24 rfl rfl
theorem dX8_changes_0 : decode cX8_changes 0 = .ok (.iconst 0, 1) := dk_3 (dk_at dksX8_changes_0 0 rfl rfl)
theorem dX8_changes_1 : decode cX8_changes 1 = .ok (.istore_n 3, 1) := dk_62 (dk_at dksX8_changes_0 1 rfl rfl)
theorem dX8_changes_2 : decode cX8_changes 2 = .ok (.iconst 0, 1) := dk_3 (dk_at dksX8_changes_0 2 rfl rfl)
theorem dX8_changes_3 : decode cX8_changes 3 = .ok (.istore 4, 2) := dk_54 4 (dk_at dksX8_changes_0 3 rfl rfl)
theorem dX8_changes_5 : decode cX8_changes 5 = .ok (.iconst 0, 1) := dk_3 (dk_at dksX8_changes_0 5 rfl rfl)
theorem dX8_changes_6 : decode cX8_changes 6 = .ok (.istore 5, 2) := dk_54 5 (dk_at dksX8_changes_0 6 rfl rfl)
theorem dX8_changes_8 : decode cX8_changes 8 = .ok (.iload 5, 2) := dk_21 5 (dk_at dksX8_changes_0 8 rfl rfl)
theorem dX8_changes_10 : decode cX8_changes 10 = .ok (.aload_n 0, 1) := dk_42 (dk_at dksX8_changes_0 10 rfl rfl)
theorem dX8_changes_11 : decode cX8_changes 11 = .ok (.getfield 55, 3) := dk_180 0 55 (dk_at dksX8_changes_0 11 rfl rfl)
theorem dX8_changes_14 : decode cX8_changes 14 = .ok (.if_icmp .ge 42, 3) := dk_162 0 42 (dk_at dksX8_changes_0 14 rfl rfl)
theorem dX8_changes_17 : decode cX8_changes 17 = .ok (.aload_n 0, 1) := dk_42 (dk_at dksX8_changes_0 17 rfl rfl)
theorem dX8_changes_18 : decode cX8_changes 18 = .ok (.iload 5, 2) := dk_21 5 (dk_at dksX8_changes_0 18 rfl rfl)
theorem dX8_changes_20 : decode cX8_changes 20 = .ok (.aload_n 1, 1) := dk_43 (dk_at dksX8_changes_0 20 rfl rfl)
theorem dX8_changes_21 : decode cX8_changes 21 = .ok (.iload_n 2, 1) := dk_28 (dk_at dksX8_changes_0 21 rfl rfl)
theorem dX8_changes_22 : decode cX8_changes 22 = .ok (.invokevirtual 101, 3) := dk_182 0 101 (dk_at dksX8_changes_1 0 rfl rfl)
theorem dX8_changes_25 : decode cX8_changes 25 = .ok (.istore 6, 2) := dk_54 6 (dk_at dksX8_changes_1 3 rfl rfl)
theorem dX8_changes_27 : decode cX8_changes 27 = .ok (.iload 6, 2) := dk_21 6 (dk_at dksX8_changes_1 5 rfl rfl)
theorem dX8_changes_29 : decode cX8_changes 29 = .ok (.ifCond .ne 6, 3) := dk_154 0 6 (dk_at dksX8_changes_1 7 rfl rfl)
theorem dX8_changes_32 : decode cX8_changes 32 = .ok (.goto 18, 3) := dk_167 0 18 (dk_at dksX8_changes_1 10 rfl rfl)
theorem dX8_changes_35 : decode cX8_changes 35 = .ok (.iload 4, 2) := dk_21 4 (dk_at dksX8_changes_1 13 rfl rfl)
theorem dX8_changes_37 : decode cX8_changes 37 = .ok (.iload 6, 2) := dk_21 6 (dk_at dksX8_changes_1 15 rfl rfl)
theorem dX8_changes_39 : decode cX8_changes 39 = .ok (.ineg, 1) := dk_116 (dk_at dksX8_changes_1 17 rfl rfl)
theorem dX8_changes_40 : decode cX8_changes 40 = .ok (.if_icmp .ne 6, 3) := dk_160 0 6 (dk_at dksX8_changes_1 18 rfl rfl)
theorem dX8_changes_43 : decode cX8_changes 43 = .ok (.iinc 3 1, 3) := dk_132 3 1 (dk_at dksX8_changes_1 21 rfl rfl)
theorem dX8_changes_46 : decode cX8_changes 46 = .ok (.iload 6, 2) := dk_21 6 (dk_at dksX8_changes_2 0 rfl rfl)
theorem dX8_changes_48 : decode cX8_changes 48 = .ok (.istore 4, 2) := dk_54 4 (dk_at dksX8_changes_2 2 rfl rfl)
theorem dX8_changes_50 : decode cX8_changes 50 = .ok (.iinc 5 1, 3) := dk_132 5 1 (dk_at dksX8_changes_2 4 rfl rfl)
theorem dX8_changes_53 : decode cX8_changes 53 = .ok (.goto (-45), 3) := dk_167 255 211 (dk_at dksX8_changes_2 7 rfl rfl)
theorem dX8_changes_56 : decode cX8_changes 56 = .ok (.iload_n 3, 1) := dk_29 (dk_at dksX8_changes_2 10 rfl rfl)
theorem dX8_changes_57 : decode cX8_changes 57 = .ok (.ireturn, 1) := dk_172 (dk_at dksX8_changes_2 11 rfl rfl)
abbrev cX8_signAt : ByteArray := prog_3_method_11_code
def yX8_signAt : MethodName := ⟨RX8, "signAt", "(ILIdealCourt$Whole;I)I"⟩
def dkwX8_signAt_5 : List UInt8 := [180, 0, 41, 4, 182, 0, 88, 132, 5, 255, 167, 255, 169, 42, 180, 0, 35, 180, 0, 85, 172]
abbrev dktX8_signAt_5 : List UInt8 := dkwX8_signAt_5 ++ []
def dkwX8_signAt_4 : List UInt8 := [21, 5, 50, 42, 180, 0, 31, 182, 0, 77, 42, 180, 0, 44, 42, 180, 0, 35, 42, 180, 0, 38, 42]
abbrev dktX8_signAt_4 : List UInt8 := dkwX8_signAt_4 ++ dktX8_signAt_5
def dkwX8_signAt_3 : List UInt8 := [42, 180, 0, 31, 3, 182, 0, 98, 132, 6, 1, 167, 255, 239, 42, 180, 0, 44, 42, 180, 0, 41, 25, 4]
abbrev dktX8_signAt_3 : List UInt8 := dkwX8_signAt_3 ++ dktX8_signAt_4
def dkwX8_signAt_2 : List UInt8 := [180, 0, 44, 42, 180, 0, 38, 42, 180, 0, 35, 44, 182, 0, 77, 3, 54, 6, 21, 6, 29, 162, 0, 17]
abbrev dktX8_signAt_2 : List UInt8 := dkwX8_signAt_2 ++ dktX8_signAt_3
def dkwX8_signAt_1 : List UInt8 := [42, 180, 0, 31, 10, 182, 0, 66, 42, 180, 0, 16, 27, 46, 4, 100, 54, 5, 21, 5, 155, 0, 88, 42]
abbrev dktX8_signAt_1 : List UInt8 := dkwX8_signAt_1 ++ dktX8_signAt_2
def dkwX8_signAt_0 : List UInt8 := [42, 180, 0, 13, 27, 50, 58, 4, 42, 180, 0, 35, 25, 4, 42, 180, 0, 16, 27, 46, 50, 182, 0, 59]
abbrev dktX8_signAt_0 : List UInt8 := dkwX8_signAt_0 ++ dktX8_signAt_1
theorem dksX8_signAt_0 : cX8_signAt.data.toList.drop 0 = dktX8_signAt_0 := by decide +kernel
theorem dksX8_signAt_1 : cX8_signAt.data.toList.drop 24 = dktX8_signAt_1 := dk_seg dksX8_signAt_0 24 rfl rfl
theorem dksX8_signAt_2 : cX8_signAt.data.toList.drop 48 = dktX8_signAt_2 := dk_seg dksX8_signAt_1 24 rfl rfl
theorem dksX8_signAt_3 : cX8_signAt.data.toList.drop 72 = dktX8_signAt_3 := dk_seg dksX8_signAt_2 24 rfl rfl
theorem dksX8_signAt_4 : cX8_signAt.data.toList.drop 96 = dktX8_signAt_4 := dk_seg dksX8_signAt_3 24 rfl rfl
theorem dksX8_signAt_5 : cX8_signAt.data.toList.drop 119 = dktX8_signAt_5 := dk_seg dksX8_signAt_4 23 rfl rfl
theorem dX8_signAt_0 : decode cX8_signAt 0 = .ok (.aload_n 0, 1) := dk_42 (dk_at dksX8_signAt_0 0 rfl rfl)
theorem dX8_signAt_1 : decode cX8_signAt 1 = .ok (.getfield 13, 3) := dk_180 0 13 (dk_at dksX8_signAt_0 1 rfl rfl)
theorem dX8_signAt_4 : decode cX8_signAt 4 = .ok (.iload_n 1, 1) := dk_27 (dk_at dksX8_signAt_0 4 rfl rfl)
theorem dX8_signAt_5 : decode cX8_signAt 5 = .ok (.aaload, 1) := dk_50 (dk_at dksX8_signAt_0 5 rfl rfl)
theorem dX8_signAt_6 : decode cX8_signAt 6 = .ok (.astore 4, 2) := dk_58 4 (dk_at dksX8_signAt_0 6 rfl rfl)
theorem dX8_signAt_8 : decode cX8_signAt 8 = .ok (.aload_n 0, 1) := dk_42 (dk_at dksX8_signAt_0 8 rfl rfl)
theorem dX8_signAt_9 : decode cX8_signAt 9 = .ok (.getfield 35, 3) := dk_180 0 35 (dk_at dksX8_signAt_0 9 rfl rfl)
theorem dX8_signAt_12 : decode cX8_signAt 12 = .ok (.aload 4, 2) := dk_25 4 (dk_at dksX8_signAt_0 12 rfl rfl)
theorem dX8_signAt_14 : decode cX8_signAt 14 = .ok (.aload_n 0, 1) := dk_42 (dk_at dksX8_signAt_0 14 rfl rfl)
theorem dX8_signAt_15 : decode cX8_signAt 15 = .ok (.getfield 16, 3) := dk_180 0 16 (dk_at dksX8_signAt_0 15 rfl rfl)
theorem dX8_signAt_18 : decode cX8_signAt 18 = .ok (.iload_n 1, 1) := dk_27 (dk_at dksX8_signAt_0 18 rfl rfl)
theorem dX8_signAt_19 : decode cX8_signAt 19 = .ok (.iaload, 1) := dk_46 (dk_at dksX8_signAt_0 19 rfl rfl)
theorem dX8_signAt_20 : decode cX8_signAt 20 = .ok (.aaload, 1) := dk_50 (dk_at dksX8_signAt_0 20 rfl rfl)
theorem dX8_signAt_21 : decode cX8_signAt 21 = .ok (.invokevirtual 59, 3) := dk_182 0 59 (dk_at dksX8_signAt_0 21 rfl rfl)
theorem dX8_signAt_24 : decode cX8_signAt 24 = .ok (.aload_n 0, 1) := dk_42 (dk_at dksX8_signAt_1 0 rfl rfl)
theorem dX8_signAt_25 : decode cX8_signAt 25 = .ok (.getfield 31, 3) := dk_180 0 31 (dk_at dksX8_signAt_1 1 rfl rfl)
theorem dX8_signAt_28 : decode cX8_signAt 28 = .ok (.lconst 1, 1) := dk_10 (dk_at dksX8_signAt_1 4 rfl rfl)
theorem dX8_signAt_29 : decode cX8_signAt 29 = .ok (.invokevirtual 66, 3) := dk_182 0 66 (dk_at dksX8_signAt_1 5 rfl rfl)
theorem dX8_signAt_32 : decode cX8_signAt 32 = .ok (.aload_n 0, 1) := dk_42 (dk_at dksX8_signAt_1 8 rfl rfl)
theorem dX8_signAt_33 : decode cX8_signAt 33 = .ok (.getfield 16, 3) := dk_180 0 16 (dk_at dksX8_signAt_1 9 rfl rfl)
theorem dX8_signAt_36 : decode cX8_signAt 36 = .ok (.iload_n 1, 1) := dk_27 (dk_at dksX8_signAt_1 12 rfl rfl)
theorem dX8_signAt_37 : decode cX8_signAt 37 = .ok (.iaload, 1) := dk_46 (dk_at dksX8_signAt_1 13 rfl rfl)
theorem dX8_signAt_38 : decode cX8_signAt 38 = .ok (.iconst 1, 1) := dk_4 (dk_at dksX8_signAt_1 14 rfl rfl)
theorem dX8_signAt_39 : decode cX8_signAt 39 = .ok (.isub, 1) := dk_100 (dk_at dksX8_signAt_1 15 rfl rfl)
theorem dX8_signAt_40 : decode cX8_signAt 40 = .ok (.istore 5, 2) := dk_54 5 (dk_at dksX8_signAt_1 16 rfl rfl)
theorem dX8_signAt_42 : decode cX8_signAt 42 = .ok (.iload 5, 2) := dk_21 5 (dk_at dksX8_signAt_1 18 rfl rfl)
theorem dX8_signAt_44 : decode cX8_signAt 44 = .ok (.ifCond .lt 88, 3) := dk_155 0 88 (dk_at dksX8_signAt_1 20 rfl rfl)
theorem dX8_signAt_47 : decode cX8_signAt 47 = .ok (.aload_n 0, 1) := dk_42 (dk_at dksX8_signAt_1 23 rfl rfl)
theorem dX8_signAt_48 : decode cX8_signAt 48 = .ok (.getfield 44, 3) := dk_180 0 44 (dk_at dksX8_signAt_2 0 rfl rfl)
theorem dX8_signAt_51 : decode cX8_signAt 51 = .ok (.aload_n 0, 1) := dk_42 (dk_at dksX8_signAt_2 3 rfl rfl)
theorem dX8_signAt_52 : decode cX8_signAt 52 = .ok (.getfield 38, 3) := dk_180 0 38 (dk_at dksX8_signAt_2 4 rfl rfl)
theorem dX8_signAt_55 : decode cX8_signAt 55 = .ok (.aload_n 0, 1) := dk_42 (dk_at dksX8_signAt_2 7 rfl rfl)
theorem dX8_signAt_56 : decode cX8_signAt 56 = .ok (.getfield 35, 3) := dk_180 0 35 (dk_at dksX8_signAt_2 8 rfl rfl)
theorem dX8_signAt_59 : decode cX8_signAt 59 = .ok (.aload_n 2, 1) := dk_44 (dk_at dksX8_signAt_2 11 rfl rfl)
theorem dX8_signAt_60 : decode cX8_signAt 60 = .ok (.invokevirtual 77, 3) := dk_182 0 77 (dk_at dksX8_signAt_2 12 rfl rfl)
theorem dX8_signAt_63 : decode cX8_signAt 63 = .ok (.iconst 0, 1) := dk_3 (dk_at dksX8_signAt_2 15 rfl rfl)
theorem dX8_signAt_64 : decode cX8_signAt 64 = .ok (.istore 6, 2) := dk_54 6 (dk_at dksX8_signAt_2 16 rfl rfl)
theorem dX8_signAt_66 : decode cX8_signAt 66 = .ok (.iload 6, 2) := dk_21 6 (dk_at dksX8_signAt_2 18 rfl rfl)
theorem dX8_signAt_68 : decode cX8_signAt 68 = .ok (.iload_n 3, 1) := dk_29 (dk_at dksX8_signAt_2 20 rfl rfl)
theorem dX8_signAt_69 : decode cX8_signAt 69 = .ok (.if_icmp .ge 17, 3) := dk_162 0 17 (dk_at dksX8_signAt_2 21 rfl rfl)
theorem dX8_signAt_72 : decode cX8_signAt 72 = .ok (.aload_n 0, 1) := dk_42 (dk_at dksX8_signAt_3 0 rfl rfl)
theorem dX8_signAt_73 : decode cX8_signAt 73 = .ok (.getfield 31, 3) := dk_180 0 31 (dk_at dksX8_signAt_3 1 rfl rfl)
theorem dX8_signAt_76 : decode cX8_signAt 76 = .ok (.iconst 0, 1) := dk_3 (dk_at dksX8_signAt_3 4 rfl rfl)
theorem dX8_signAt_77 : decode cX8_signAt 77 = .ok (.invokevirtual 98, 3) := dk_182 0 98 (dk_at dksX8_signAt_3 5 rfl rfl)
theorem dX8_signAt_80 : decode cX8_signAt 80 = .ok (.iinc 6 1, 3) := dk_132 6 1 (dk_at dksX8_signAt_3 8 rfl rfl)
theorem dX8_signAt_83 : decode cX8_signAt 83 = .ok (.goto (-17), 3) := dk_167 255 239 (dk_at dksX8_signAt_3 11 rfl rfl)
theorem dX8_signAt_86 : decode cX8_signAt 86 = .ok (.aload_n 0, 1) := dk_42 (dk_at dksX8_signAt_3 14 rfl rfl)
theorem dX8_signAt_87 : decode cX8_signAt 87 = .ok (.getfield 44, 3) := dk_180 0 44 (dk_at dksX8_signAt_3 15 rfl rfl)
theorem dX8_signAt_90 : decode cX8_signAt 90 = .ok (.aload_n 0, 1) := dk_42 (dk_at dksX8_signAt_3 18 rfl rfl)
theorem dX8_signAt_91 : decode cX8_signAt 91 = .ok (.getfield 41, 3) := dk_180 0 41 (dk_at dksX8_signAt_3 19 rfl rfl)
theorem dX8_signAt_94 : decode cX8_signAt 94 = .ok (.aload 4, 2) := dk_25 4 (dk_at dksX8_signAt_3 22 rfl rfl)
theorem dX8_signAt_96 : decode cX8_signAt 96 = .ok (.iload 5, 2) := dk_21 5 (dk_at dksX8_signAt_4 0 rfl rfl)
theorem dX8_signAt_98 : decode cX8_signAt 98 = .ok (.aaload, 1) := dk_50 (dk_at dksX8_signAt_4 2 rfl rfl)
theorem dX8_signAt_99 : decode cX8_signAt 99 = .ok (.aload_n 0, 1) := dk_42 (dk_at dksX8_signAt_4 3 rfl rfl)
theorem dX8_signAt_100 : decode cX8_signAt 100 = .ok (.getfield 31, 3) := dk_180 0 31 (dk_at dksX8_signAt_4 4 rfl rfl)
theorem dX8_signAt_103 : decode cX8_signAt 103 = .ok (.invokevirtual 77, 3) := dk_182 0 77 (dk_at dksX8_signAt_4 7 rfl rfl)
theorem dX8_signAt_106 : decode cX8_signAt 106 = .ok (.aload_n 0, 1) := dk_42 (dk_at dksX8_signAt_4 10 rfl rfl)
theorem dX8_signAt_107 : decode cX8_signAt 107 = .ok (.getfield 44, 3) := dk_180 0 44 (dk_at dksX8_signAt_4 11 rfl rfl)
theorem dX8_signAt_110 : decode cX8_signAt 110 = .ok (.aload_n 0, 1) := dk_42 (dk_at dksX8_signAt_4 14 rfl rfl)
theorem dX8_signAt_111 : decode cX8_signAt 111 = .ok (.getfield 35, 3) := dk_180 0 35 (dk_at dksX8_signAt_4 15 rfl rfl)
theorem dX8_signAt_114 : decode cX8_signAt 114 = .ok (.aload_n 0, 1) := dk_42 (dk_at dksX8_signAt_4 18 rfl rfl)
theorem dX8_signAt_115 : decode cX8_signAt 115 = .ok (.getfield 38, 3) := dk_180 0 38 (dk_at dksX8_signAt_4 19 rfl rfl)
theorem dX8_signAt_118 : decode cX8_signAt 118 = .ok (.aload_n 0, 1) := dk_42 (dk_at dksX8_signAt_4 22 rfl rfl)
theorem dX8_signAt_119 : decode cX8_signAt 119 = .ok (.getfield 41, 3) := dk_180 0 41 (dk_at dksX8_signAt_5 0 rfl rfl)
theorem dX8_signAt_122 : decode cX8_signAt 122 = .ok (.iconst 1, 1) := dk_4 (dk_at dksX8_signAt_5 3 rfl rfl)
theorem dX8_signAt_123 : decode cX8_signAt 123 = .ok (.invokevirtual 88, 3) := dk_182 0 88 (dk_at dksX8_signAt_5 4 rfl rfl)
theorem dX8_signAt_126 : decode cX8_signAt 126 = .ok (.iinc 5 (-1), 3) := dk_132 5 255 (dk_at dksX8_signAt_5 7 rfl rfl)
theorem dX8_signAt_129 : decode cX8_signAt 129 = .ok (.goto (-87), 3) := dk_167 255 169 (dk_at dksX8_signAt_5 10 rfl rfl)
theorem dX8_signAt_132 : decode cX8_signAt 132 = .ok (.aload_n 0, 1) := dk_42 (dk_at dksX8_signAt_5 13 rfl rfl)
theorem dX8_signAt_133 : decode cX8_signAt 133 = .ok (.getfield 35, 3) := dk_180 0 35 (dk_at dksX8_signAt_5 14 rfl rfl)
theorem dX8_signAt_136 : decode cX8_signAt 136 = .ok (.getfield 85, 3) := dk_180 0 85 (dk_at dksX8_signAt_5 17 rfl rfl)
theorem dX8_signAt_139 : decode cX8_signAt 139 = .ok (.ireturn, 1) := dk_172 (dk_at dksX8_signAt_5 20 rfl rfl)
abbrev cX8_common : ByteArray := prog_3_method_5_code
def yX8_common : MethodName := ⟨RX8, "common", "([II[II)V"⟩
def dkwX8_common_8 : List UInt8 := [182, 0, 52, 177]
abbrev dktX8_common_8 : List UInt8 := dkwX8_common_8 ++ []
def dkwX8_common_7 : List UInt8 := [4, 100, 50, 21, 7, 50, 182, 0, 59, 132, 7, 1, 167, 255, 222, 42, 21, 6, 182, 0, 63, 42]
abbrev dktX8_common_7 : List UInt8 := dkwX8_common_7 ++ dktX8_common_8
def dkwX8_common_6 : List UInt8 := [54, 7, 21, 7, 21, 6, 163, 0, 33, 42, 180, 0, 22, 21, 7, 50, 42, 180, 0, 13, 42, 180, 0, 55]
abbrev dktX8_common_6 : List UInt8 := dkwX8_common_6 ++ dktX8_common_7
def dkwX8_common_5 : List UInt8 := [182, 0, 52, 42, 180, 0, 16, 42, 180, 0, 55, 4, 100, 46, 54, 6, 21, 6, 154, 0, 4, 177, 3]
abbrev dktX8_common_5 : List UInt8 := dkwX8_common_5 ++ dktX8_common_6
def dkwX8_common_4 : List UInt8 := [4, 100, 50, 21, 6, 50, 182, 0, 59, 132, 6, 1, 167, 255, 220, 42, 180, 0, 16, 3, 21, 5, 79, 42]
abbrev dktX8_common_4 : List UInt8 := dkwX8_common_4 ++ dktX8_common_5
def dkwX8_common_3 : List UInt8 := [21, 6, 21, 5, 163, 0, 35, 42, 180, 0, 13, 3, 50, 21, 6, 50, 42, 180, 0, 13, 42, 180, 0, 55]
abbrev dktX8_common_3 : List UInt8 := dkwX8_common_3 ++ dktX8_common_4
def dkwX8_common_2 : List UInt8 := [5, 181, 0, 55, 42, 182, 0, 70, 42, 180, 0, 16, 42, 180, 0, 55, 4, 100, 46, 54, 5, 3, 54, 6]
abbrev dktX8_common_2 : List UInt8 := dkwX8_common_2 ++ dktX8_common_3
def dkwX8_common_1 : List UInt8 := [50, 45, 21, 5, 46, 133, 182, 0, 66, 132, 5, 1, 167, 255, 229, 42, 180, 0, 16, 4, 21, 4, 79, 42]
abbrev dktX8_common_1 : List UInt8 := dkwX8_common_1 ++ dktX8_common_2
def dkwX8_common_0 : List UInt8 := [42, 43, 28, 182, 0, 48, 3, 54, 5, 21, 5, 21, 4, 163, 0, 26, 42, 180, 0, 13, 4, 50, 21, 5]
abbrev dktX8_common_0 : List UInt8 := dkwX8_common_0 ++ dktX8_common_1
theorem dksX8_common_0 : cX8_common.data.toList.drop 0 = dktX8_common_0 := by decide +kernel
theorem dksX8_common_1 : cX8_common.data.toList.drop 24 = dktX8_common_1 := dk_seg dksX8_common_0 24 rfl rfl
theorem dksX8_common_2 : cX8_common.data.toList.drop 48 = dktX8_common_2 := dk_seg dksX8_common_1 24 rfl rfl
theorem dksX8_common_3 : cX8_common.data.toList.drop 72 = dktX8_common_3 := dk_seg dksX8_common_2 24 rfl rfl
theorem dksX8_common_4 : cX8_common.data.toList.drop 96 = dktX8_common_4 := dk_seg dksX8_common_3 24 rfl rfl
theorem dksX8_common_5 : cX8_common.data.toList.drop 120 = dktX8_common_5 := dk_seg dksX8_common_4 24 rfl rfl
theorem dksX8_common_6 : cX8_common.data.toList.drop 143 = dktX8_common_6 := dk_seg dksX8_common_5 23 rfl rfl
theorem dksX8_common_7 : cX8_common.data.toList.drop 167 = dktX8_common_7 := dk_seg dksX8_common_6 24 rfl rfl
theorem dksX8_common_8 : cX8_common.data.toList.drop 189 = dktX8_common_8 := dk_seg dksX8_common_7 22 rfl rfl
theorem dX8_common_0 : decode cX8_common 0 = .ok (.aload_n 0, 1) := dk_42 (dk_at dksX8_common_0 0 rfl rfl)
theorem dX8_common_1 : decode cX8_common 1 = .ok (.aload_n 1, 1) := dk_43 (dk_at dksX8_common_0 1 rfl rfl)
theorem dX8_common_2 : decode cX8_common 2 = .ok (.iload_n 2, 1) := dk_28 (dk_at dksX8_common_0 2 rfl rfl)
theorem dX8_common_3 : decode cX8_common 3 = .ok (.invokevirtual 48, 3) := dk_182 0 48 (dk_at dksX8_common_0 3 rfl rfl)
theorem dX8_common_6 : decode cX8_common 6 = .ok (.iconst 0, 1) := dk_3 (dk_at dksX8_common_0 6 rfl rfl)
theorem dX8_common_7 : decode cX8_common 7 = .ok (.istore 5, 2) := dk_54 5 (dk_at dksX8_common_0 7 rfl rfl)
theorem dX8_common_9 : decode cX8_common 9 = .ok (.iload 5, 2) := dk_21 5 (dk_at dksX8_common_0 9 rfl rfl)
theorem dX8_common_11 : decode cX8_common 11 = .ok (.iload 4, 2) := dk_21 4 (dk_at dksX8_common_0 11 rfl rfl)
theorem dX8_common_13 : decode cX8_common 13 = .ok (.if_icmp .gt 26, 3) := dk_163 0 26 (dk_at dksX8_common_0 13 rfl rfl)
theorem dX8_common_16 : decode cX8_common 16 = .ok (.aload_n 0, 1) := dk_42 (dk_at dksX8_common_0 16 rfl rfl)
theorem dX8_common_17 : decode cX8_common 17 = .ok (.getfield 13, 3) := dk_180 0 13 (dk_at dksX8_common_0 17 rfl rfl)
theorem dX8_common_20 : decode cX8_common 20 = .ok (.iconst 1, 1) := dk_4 (dk_at dksX8_common_0 20 rfl rfl)
theorem dX8_common_21 : decode cX8_common 21 = .ok (.aaload, 1) := dk_50 (dk_at dksX8_common_0 21 rfl rfl)
theorem dX8_common_22 : decode cX8_common 22 = .ok (.iload 5, 2) := dk_21 5 (dk_at dksX8_common_0 22 rfl rfl)
theorem dX8_common_24 : decode cX8_common 24 = .ok (.aaload, 1) := dk_50 (dk_at dksX8_common_1 0 rfl rfl)
theorem dX8_common_25 : decode cX8_common 25 = .ok (.aload_n 3, 1) := dk_45 (dk_at dksX8_common_1 1 rfl rfl)
theorem dX8_common_26 : decode cX8_common 26 = .ok (.iload 5, 2) := dk_21 5 (dk_at dksX8_common_1 2 rfl rfl)
theorem dX8_common_28 : decode cX8_common 28 = .ok (.iaload, 1) := dk_46 (dk_at dksX8_common_1 4 rfl rfl)
theorem dX8_common_29 : decode cX8_common 29 = .ok (.i2l, 1) := dk_133 (dk_at dksX8_common_1 5 rfl rfl)
theorem dX8_common_30 : decode cX8_common 30 = .ok (.invokevirtual 66, 3) := dk_182 0 66 (dk_at dksX8_common_1 6 rfl rfl)
theorem dX8_common_33 : decode cX8_common 33 = .ok (.iinc 5 1, 3) := dk_132 5 1 (dk_at dksX8_common_1 9 rfl rfl)
theorem dX8_common_36 : decode cX8_common 36 = .ok (.goto (-27), 3) := dk_167 255 229 (dk_at dksX8_common_1 12 rfl rfl)
theorem dX8_common_39 : decode cX8_common 39 = .ok (.aload_n 0, 1) := dk_42 (dk_at dksX8_common_1 15 rfl rfl)
theorem dX8_common_40 : decode cX8_common 40 = .ok (.getfield 16, 3) := dk_180 0 16 (dk_at dksX8_common_1 16 rfl rfl)
theorem dX8_common_43 : decode cX8_common 43 = .ok (.iconst 1, 1) := dk_4 (dk_at dksX8_common_1 19 rfl rfl)
theorem dX8_common_44 : decode cX8_common 44 = .ok (.iload 4, 2) := dk_21 4 (dk_at dksX8_common_1 20 rfl rfl)
theorem dX8_common_46 : decode cX8_common 46 = .ok (.iastore, 1) := dk_79 (dk_at dksX8_common_1 22 rfl rfl)
theorem dX8_common_47 : decode cX8_common 47 = .ok (.aload_n 0, 1) := dk_42 (dk_at dksX8_common_1 23 rfl rfl)
theorem dX8_common_48 : decode cX8_common 48 = .ok (.iconst 2, 1) := dk_5 (dk_at dksX8_common_2 0 rfl rfl)
theorem dX8_common_49 : decode cX8_common 49 = .ok (.putfield 55, 3) := dk_181 0 55 (dk_at dksX8_common_2 1 rfl rfl)
theorem dX8_common_52 : decode cX8_common 52 = .ok (.aload_n 0, 1) := dk_42 (dk_at dksX8_common_2 4 rfl rfl)
theorem dX8_common_53 : decode cX8_common 53 = .ok (.invokevirtual 70, 3) := dk_182 0 70 (dk_at dksX8_common_2 5 rfl rfl)
theorem dX8_common_56 : decode cX8_common 56 = .ok (.aload_n 0, 1) := dk_42 (dk_at dksX8_common_2 8 rfl rfl)
theorem dX8_common_57 : decode cX8_common 57 = .ok (.getfield 16, 3) := dk_180 0 16 (dk_at dksX8_common_2 9 rfl rfl)
theorem dX8_common_60 : decode cX8_common 60 = .ok (.aload_n 0, 1) := dk_42 (dk_at dksX8_common_2 12 rfl rfl)
theorem dX8_common_61 : decode cX8_common 61 = .ok (.getfield 55, 3) := dk_180 0 55 (dk_at dksX8_common_2 13 rfl rfl)
theorem dX8_common_64 : decode cX8_common 64 = .ok (.iconst 1, 1) := dk_4 (dk_at dksX8_common_2 16 rfl rfl)
theorem dX8_common_65 : decode cX8_common 65 = .ok (.isub, 1) := dk_100 (dk_at dksX8_common_2 17 rfl rfl)
theorem dX8_common_66 : decode cX8_common 66 = .ok (.iaload, 1) := dk_46 (dk_at dksX8_common_2 18 rfl rfl)
theorem dX8_common_67 : decode cX8_common 67 = .ok (.istore 5, 2) := dk_54 5 (dk_at dksX8_common_2 19 rfl rfl)
theorem dX8_common_69 : decode cX8_common 69 = .ok (.iconst 0, 1) := dk_3 (dk_at dksX8_common_2 21 rfl rfl)
theorem dX8_common_70 : decode cX8_common 70 = .ok (.istore 6, 2) := dk_54 6 (dk_at dksX8_common_2 22 rfl rfl)
theorem dX8_common_72 : decode cX8_common 72 = .ok (.iload 6, 2) := dk_21 6 (dk_at dksX8_common_3 0 rfl rfl)
theorem dX8_common_74 : decode cX8_common 74 = .ok (.iload 5, 2) := dk_21 5 (dk_at dksX8_common_3 2 rfl rfl)
theorem dX8_common_76 : decode cX8_common 76 = .ok (.if_icmp .gt 35, 3) := dk_163 0 35 (dk_at dksX8_common_3 4 rfl rfl)
theorem dX8_common_79 : decode cX8_common 79 = .ok (.aload_n 0, 1) := dk_42 (dk_at dksX8_common_3 7 rfl rfl)
theorem dX8_common_80 : decode cX8_common 80 = .ok (.getfield 13, 3) := dk_180 0 13 (dk_at dksX8_common_3 8 rfl rfl)
theorem dX8_common_83 : decode cX8_common 83 = .ok (.iconst 0, 1) := dk_3 (dk_at dksX8_common_3 11 rfl rfl)
theorem dX8_common_84 : decode cX8_common 84 = .ok (.aaload, 1) := dk_50 (dk_at dksX8_common_3 12 rfl rfl)
theorem dX8_common_85 : decode cX8_common 85 = .ok (.iload 6, 2) := dk_21 6 (dk_at dksX8_common_3 13 rfl rfl)
theorem dX8_common_87 : decode cX8_common 87 = .ok (.aaload, 1) := dk_50 (dk_at dksX8_common_3 15 rfl rfl)
theorem dX8_common_88 : decode cX8_common 88 = .ok (.aload_n 0, 1) := dk_42 (dk_at dksX8_common_3 16 rfl rfl)
theorem dX8_common_89 : decode cX8_common 89 = .ok (.getfield 13, 3) := dk_180 0 13 (dk_at dksX8_common_3 17 rfl rfl)
theorem dX8_common_92 : decode cX8_common 92 = .ok (.aload_n 0, 1) := dk_42 (dk_at dksX8_common_3 20 rfl rfl)
theorem dX8_common_93 : decode cX8_common 93 = .ok (.getfield 55, 3) := dk_180 0 55 (dk_at dksX8_common_3 21 rfl rfl)
theorem dX8_common_96 : decode cX8_common 96 = .ok (.iconst 1, 1) := dk_4 (dk_at dksX8_common_4 0 rfl rfl)
theorem dX8_common_97 : decode cX8_common 97 = .ok (.isub, 1) := dk_100 (dk_at dksX8_common_4 1 rfl rfl)
theorem dX8_common_98 : decode cX8_common 98 = .ok (.aaload, 1) := dk_50 (dk_at dksX8_common_4 2 rfl rfl)
theorem dX8_common_99 : decode cX8_common 99 = .ok (.iload 6, 2) := dk_21 6 (dk_at dksX8_common_4 3 rfl rfl)
theorem dX8_common_101 : decode cX8_common 101 = .ok (.aaload, 1) := dk_50 (dk_at dksX8_common_4 5 rfl rfl)
theorem dX8_common_102 : decode cX8_common 102 = .ok (.invokevirtual 59, 3) := dk_182 0 59 (dk_at dksX8_common_4 6 rfl rfl)
theorem dX8_common_105 : decode cX8_common 105 = .ok (.iinc 6 1, 3) := dk_132 6 1 (dk_at dksX8_common_4 9 rfl rfl)
theorem dX8_common_108 : decode cX8_common 108 = .ok (.goto (-36), 3) := dk_167 255 220 (dk_at dksX8_common_4 12 rfl rfl)
theorem dX8_common_111 : decode cX8_common 111 = .ok (.aload_n 0, 1) := dk_42 (dk_at dksX8_common_4 15 rfl rfl)
theorem dX8_common_112 : decode cX8_common 112 = .ok (.getfield 16, 3) := dk_180 0 16 (dk_at dksX8_common_4 16 rfl rfl)
theorem dX8_common_115 : decode cX8_common 115 = .ok (.iconst 0, 1) := dk_3 (dk_at dksX8_common_4 19 rfl rfl)
theorem dX8_common_116 : decode cX8_common 116 = .ok (.iload 5, 2) := dk_21 5 (dk_at dksX8_common_4 20 rfl rfl)
theorem dX8_common_118 : decode cX8_common 118 = .ok (.iastore, 1) := dk_79 (dk_at dksX8_common_4 22 rfl rfl)
theorem dX8_common_119 : decode cX8_common 119 = .ok (.aload_n 0, 1) := dk_42 (dk_at dksX8_common_4 23 rfl rfl)
theorem dX8_common_120 : decode cX8_common 120 = .ok (.invokevirtual 52, 3) := dk_182 0 52 (dk_at dksX8_common_5 0 rfl rfl)
theorem dX8_common_123 : decode cX8_common 123 = .ok (.aload_n 0, 1) := dk_42 (dk_at dksX8_common_5 3 rfl rfl)
theorem dX8_common_124 : decode cX8_common 124 = .ok (.getfield 16, 3) := dk_180 0 16 (dk_at dksX8_common_5 4 rfl rfl)
theorem dX8_common_127 : decode cX8_common 127 = .ok (.aload_n 0, 1) := dk_42 (dk_at dksX8_common_5 7 rfl rfl)
theorem dX8_common_128 : decode cX8_common 128 = .ok (.getfield 55, 3) := dk_180 0 55 (dk_at dksX8_common_5 8 rfl rfl)
theorem dX8_common_131 : decode cX8_common 131 = .ok (.iconst 1, 1) := dk_4 (dk_at dksX8_common_5 11 rfl rfl)
theorem dX8_common_132 : decode cX8_common 132 = .ok (.isub, 1) := dk_100 (dk_at dksX8_common_5 12 rfl rfl)
theorem dX8_common_133 : decode cX8_common 133 = .ok (.iaload, 1) := dk_46 (dk_at dksX8_common_5 13 rfl rfl)
theorem dX8_common_134 : decode cX8_common 134 = .ok (.istore 6, 2) := dk_54 6 (dk_at dksX8_common_5 14 rfl rfl)
theorem dX8_common_136 : decode cX8_common 136 = .ok (.iload 6, 2) := dk_21 6 (dk_at dksX8_common_5 16 rfl rfl)
theorem dX8_common_138 : decode cX8_common 138 = .ok (.ifCond .ne 4, 3) := dk_154 0 4 (dk_at dksX8_common_5 18 rfl rfl)
theorem dX8_common_141 : decode cX8_common 141 = .ok (.return_, 1) := dk_177 (dk_at dksX8_common_5 21 rfl rfl)
theorem dX8_common_142 : decode cX8_common 142 = .ok (.iconst 0, 1) := dk_3 (dk_at dksX8_common_5 22 rfl rfl)
theorem dX8_common_143 : decode cX8_common 143 = .ok (.istore 7, 2) := dk_54 7 (dk_at dksX8_common_6 0 rfl rfl)
theorem dX8_common_145 : decode cX8_common 145 = .ok (.iload 7, 2) := dk_21 7 (dk_at dksX8_common_6 2 rfl rfl)
theorem dX8_common_147 : decode cX8_common 147 = .ok (.iload 6, 2) := dk_21 6 (dk_at dksX8_common_6 4 rfl rfl)
theorem dX8_common_149 : decode cX8_common 149 = .ok (.if_icmp .gt 33, 3) := dk_163 0 33 (dk_at dksX8_common_6 6 rfl rfl)
theorem dX8_common_152 : decode cX8_common 152 = .ok (.aload_n 0, 1) := dk_42 (dk_at dksX8_common_6 9 rfl rfl)
theorem dX8_common_153 : decode cX8_common 153 = .ok (.getfield 22, 3) := dk_180 0 22 (dk_at dksX8_common_6 10 rfl rfl)
theorem dX8_common_156 : decode cX8_common 156 = .ok (.iload 7, 2) := dk_21 7 (dk_at dksX8_common_6 13 rfl rfl)
theorem dX8_common_158 : decode cX8_common 158 = .ok (.aaload, 1) := dk_50 (dk_at dksX8_common_6 15 rfl rfl)
theorem dX8_common_159 : decode cX8_common 159 = .ok (.aload_n 0, 1) := dk_42 (dk_at dksX8_common_6 16 rfl rfl)
theorem dX8_common_160 : decode cX8_common 160 = .ok (.getfield 13, 3) := dk_180 0 13 (dk_at dksX8_common_6 17 rfl rfl)
theorem dX8_common_163 : decode cX8_common 163 = .ok (.aload_n 0, 1) := dk_42 (dk_at dksX8_common_6 20 rfl rfl)
theorem dX8_common_164 : decode cX8_common 164 = .ok (.getfield 55, 3) := dk_180 0 55 (dk_at dksX8_common_6 21 rfl rfl)
theorem dX8_common_167 : decode cX8_common 167 = .ok (.iconst 1, 1) := dk_4 (dk_at dksX8_common_7 0 rfl rfl)
theorem dX8_common_168 : decode cX8_common 168 = .ok (.isub, 1) := dk_100 (dk_at dksX8_common_7 1 rfl rfl)
theorem dX8_common_169 : decode cX8_common 169 = .ok (.aaload, 1) := dk_50 (dk_at dksX8_common_7 2 rfl rfl)
theorem dX8_common_170 : decode cX8_common 170 = .ok (.iload 7, 2) := dk_21 7 (dk_at dksX8_common_7 3 rfl rfl)
theorem dX8_common_172 : decode cX8_common 172 = .ok (.aaload, 1) := dk_50 (dk_at dksX8_common_7 5 rfl rfl)
theorem dX8_common_173 : decode cX8_common 173 = .ok (.invokevirtual 59, 3) := dk_182 0 59 (dk_at dksX8_common_7 6 rfl rfl)
theorem dX8_common_176 : decode cX8_common 176 = .ok (.iinc 7 1, 3) := dk_132 7 1 (dk_at dksX8_common_7 9 rfl rfl)
theorem dX8_common_179 : decode cX8_common 179 = .ok (.goto (-34), 3) := dk_167 255 222 (dk_at dksX8_common_7 12 rfl rfl)
theorem dX8_common_182 : decode cX8_common 182 = .ok (.aload_n 0, 1) := dk_42 (dk_at dksX8_common_7 15 rfl rfl)
theorem dX8_common_183 : decode cX8_common 183 = .ok (.iload 6, 2) := dk_21 6 (dk_at dksX8_common_7 16 rfl rfl)
theorem dX8_common_185 : decode cX8_common 185 = .ok (.invokevirtual 63, 3) := dk_182 0 63 (dk_at dksX8_common_7 18 rfl rfl)
theorem dX8_common_188 : decode cX8_common 188 = .ok (.aload_n 0, 1) := dk_42 (dk_at dksX8_common_7 21 rfl rfl)
theorem dX8_common_189 : decode cX8_common 189 = .ok (.invokevirtual 52, 3) := dk_182 0 52 (dk_at dksX8_common_8 0 rfl rfl)
theorem dX8_common_192 : decode cX8_common 192 = .ok (.return_, 1) := dk_177 (dk_at dksX8_common_8 3 rfl rfl)
abbrev cX8_only : ByteArray := prog_3_method_4_code
def yX8_only : MethodName := ⟨RX8, "only", "([II)V"⟩
def dkwX8_only_0 : List UInt8 := [42, 43, 28, 182, 0, 48, 42, 4, 181, 0, 55, 177]
abbrev dktX8_only_0 : List UInt8 := dkwX8_only_0 ++ []
theorem dksX8_only_0 : cX8_only.data.toList.drop 0 = dktX8_only_0 := by decide +kernel
theorem dX8_only_0 : decode cX8_only 0 = .ok (.aload_n 0, 1) := dk_42 (dk_at dksX8_only_0 0 rfl rfl)
theorem dX8_only_1 : decode cX8_only 1 = .ok (.aload_n 1, 1) := dk_43 (dk_at dksX8_only_0 1 rfl rfl)
theorem dX8_only_2 : decode cX8_only 2 = .ok (.iload_n 2, 1) := dk_28 (dk_at dksX8_only_0 2 rfl rfl)
theorem dX8_only_3 : decode cX8_only 3 = .ok (.invokevirtual 48, 3) := dk_182 0 48 (dk_at dksX8_only_0 3 rfl rfl)
theorem dX8_only_6 : decode cX8_only 6 = .ok (.aload_n 0, 1) := dk_42 (dk_at dksX8_only_0 6 rfl rfl)
theorem dX8_only_7 : decode cX8_only 7 = .ok (.iconst 1, 1) := dk_4 (dk_at dksX8_only_0 7 rfl rfl)
theorem dX8_only_8 : decode cX8_only 8 = .ok (.putfield 55, 3) := dk_181 0 55 (dk_at dksX8_only_0 8 rfl rfl)
theorem dX8_only_11 : decode cX8_only 11 = .ok (.return_, 1) := dk_177 (dk_at dksX8_only_0 11 rfl rfl)
abbrev cX8_sign : ByteArray := prog_3_method_12_code
def yX8_sign : MethodName := ⟨RX8, "sign", "(LIdealCourt$Whole;I)I"⟩
def dkwX8_sign_0 : List UInt8 := [42, 3, 43, 28, 182, 0, 101, 172]
abbrev dktX8_sign_0 : List UInt8 := dkwX8_sign_0 ++ []
theorem dksX8_sign_0 : cX8_sign.data.toList.drop 0 = dktX8_sign_0 := by decide +kernel
theorem dX8_sign_0 : decode cX8_sign 0 = .ok (.aload_n 0, 1) := dk_42 (dk_at dksX8_sign_0 0 rfl rfl)
theorem dX8_sign_1 : decode cX8_sign 1 = .ok (.iconst 0, 1) := dk_3 (dk_at dksX8_sign_0 1 rfl rfl)
theorem dX8_sign_2 : decode cX8_sign 2 = .ok (.aload_n 1, 1) := dk_43 (dk_at dksX8_sign_0 2 rfl rfl)
theorem dX8_sign_3 : decode cX8_sign 3 = .ok (.iload_n 2, 1) := dk_28 (dk_at dksX8_sign_0 3 rfl rfl)
theorem dX8_sign_4 : decode cX8_sign 4 = .ok (.invokevirtual 101, 3) := dk_182 0 101 (dk_at dksX8_sign_0 4 rfl rfl)
theorem dX8_sign_7 : decode cX8_sign 7 = .ok (.ireturn, 1) := dk_172 (dk_at dksX8_sign_0 7 rfl rfl)
theorem q107 : (Jvm.Cond.initialized "IdealCourt$Chain") ∈ lw_all := lw_g (lw_at lw_m1 9 rfl) rfl
theorem q194 : (Jvm.Cond.fieldLinkNest "IdealCourt$Chain" (85 : Nat) "IdealCourt$Whole" "sign" "I" "IdealCourt") ∈ lw_tbl := lw_at lw_m1 96 rfl
theorem q390 : (Jvm.Cond.instantiable "IdealCourt$Chain" (9 : Nat)) ∈ lw_all := lw_g (lw_at lw_m2 52 rfl) rfl
theorem q392 : (Jvm.Cond.instanceMethod ({ cls := "IdealCourt$Chain", name := "<init>", desc := "(LIdealCourt$Reckoner;)V" } : Jvm.MethodName)) ∈ lw_all := lw_g (lw_at lw_m2 54 rfl) rfl
theorem q393 : (Jvm.Cond.code ({ cls := "IdealCourt$Chain", name := "<init>", desc := "(LIdealCourt$Reckoner;)V" } : Jvm.MethodName) prog_3_method_1_code (4 : Nat) (Option.none : Option Jvm.ClassFile.FieldType)) ∈ lw_all := lw_g (lw_at lw_m2 55 rfl) rfl
theorem q394 : (Jvm.Cond.methodLink "IdealCourt$Chain" (3 : Nat) ({ cls := "java/lang/Object", name := "<init>", desc := "()V" } : Jvm.MethodName)) ∈ lw_all := lw_g (lw_at lw_m2 56 rfl) rfl
theorem q395 : (Jvm.Cond.classLink "IdealCourt$Chain" (11 : Nat) "[[LIdealCourt$Whole;") ∈ lw_all := lw_g (lw_at lw_m2 57 rfl) rfl
theorem q398 : (Jvm.Cond.classLink "IdealCourt$Chain" (20 : Nat) "IdealCourt$Whole") ∈ lw_all := lw_g (lw_at lw_m2 60 rfl) rfl
theorem q399 : (Jvm.Cond.methodLink "IdealCourt$Chain" (28 : Nat) ({ cls := "IdealCourt$Whole", name := "<init>", desc := "(I)V" } : Jvm.MethodName)) ∈ lw_all := lw_g (lw_at lw_m2 61 rfl) rfl
theorem q400 : (Jvm.Cond.fieldLink "IdealCourt$Chain" (44 : Nat) "IdealCourt$Chain" "by" "LIdealCourt$Reckoner;") ∈ lw_all := lw_g (lw_at lw_m2 62 rfl) rfl
theorem q401 : (Jvm.Cond.fieldLink "IdealCourt$Chain" (13 : Nat) "IdealCourt$Chain" "rows" "[[LIdealCourt$Whole;") ∈ lw_all := lw_g (lw_at lw_m2 63 rfl) rfl
theorem q402 : (Jvm.Cond.fieldLink "IdealCourt$Chain" (16 : Nat) "IdealCourt$Chain" "degrees" "[I") ∈ lw_all := lw_g (lw_at lw_m2 64 rfl) rfl
theorem q403 : (Jvm.Cond.fieldLink "IdealCourt$Chain" (22 : Nat) "IdealCourt$Chain" "left" "[LIdealCourt$Whole;") ∈ lw_all := lw_g (lw_at lw_m2 65 rfl) rfl
theorem q404 : (Jvm.Cond.fieldLink "IdealCourt$Chain" (31 : Nat) "IdealCourt$Chain" "x" "LIdealCourt$Whole;") ∈ lw_all := lw_g (lw_at lw_m2 66 rfl) rfl
theorem q405 : (Jvm.Cond.fieldLink "IdealCourt$Chain" (35 : Nat) "IdealCourt$Chain" "y" "LIdealCourt$Whole;") ∈ lw_all := lw_g (lw_at lw_m2 67 rfl) rfl
theorem q406 : (Jvm.Cond.fieldLink "IdealCourt$Chain" (38 : Nat) "IdealCourt$Chain" "z" "LIdealCourt$Whole;") ∈ lw_all := lw_g (lw_at lw_m2 68 rfl) rfl
theorem q407 : (Jvm.Cond.fieldLink "IdealCourt$Chain" (41 : Nat) "IdealCourt$Chain" "w" "LIdealCourt$Whole;") ∈ lw_all := lw_g (lw_at lw_m2 69 rfl) rfl
theorem q408 : (Jvm.Cond.fieldLink "IdealCourt$Chain" (55 : Nat) "IdealCourt$Chain" "many" "I") ∈ lw_all := lw_g (lw_at lw_m2 70 rfl) rfl
theorem q409 : (Jvm.Cond.laysFinal "IdealCourt$Chain" "IdealCourt$Chain" "by" "LIdealCourt$Reckoner;") ∈ lw_all := lw_g (lw_at lw_m2 71 rfl) rfl
theorem q410 : (Jvm.Cond.soleField "IdealCourt$Chain" "by") ∈ lw_all := lw_g (lw_at lw_m2 72 rfl) rfl
theorem q411 : (Jvm.Cond.laysFinal "IdealCourt$Chain" "IdealCourt$Chain" "rows" "[[LIdealCourt$Whole;") ∈ lw_all := lw_g (lw_at lw_m2 73 rfl) rfl
theorem q412 : (Jvm.Cond.soleField "IdealCourt$Chain" "rows") ∈ lw_all := lw_g (lw_at lw_m2 74 rfl) rfl
theorem q413 : (Jvm.Cond.laysFinal "IdealCourt$Chain" "IdealCourt$Chain" "degrees" "[I") ∈ lw_all := lw_g (lw_at lw_m2 75 rfl) rfl
theorem q414 : (Jvm.Cond.soleField "IdealCourt$Chain" "degrees") ∈ lw_all := lw_g (lw_at lw_m2 76 rfl) rfl
theorem q415 : (Jvm.Cond.laysFinal "IdealCourt$Chain" "IdealCourt$Chain" "left" "[LIdealCourt$Whole;") ∈ lw_all := lw_g (lw_at lw_m2 77 rfl) rfl
theorem q416 : (Jvm.Cond.soleField "IdealCourt$Chain" "left") ∈ lw_all := lw_g (lw_at lw_m2 78 rfl) rfl
theorem q417 : (Jvm.Cond.laysFinal "IdealCourt$Chain" "IdealCourt$Chain" "x" "LIdealCourt$Whole;") ∈ lw_all := lw_g (lw_at lw_m2 79 rfl) rfl
theorem q418 : (Jvm.Cond.soleField "IdealCourt$Chain" "x") ∈ lw_all := lw_g (lw_at lw_m2 80 rfl) rfl
theorem q419 : (Jvm.Cond.laysFinal "IdealCourt$Chain" "IdealCourt$Chain" "y" "LIdealCourt$Whole;") ∈ lw_all := lw_g (lw_at lw_m2 81 rfl) rfl
theorem q420 : (Jvm.Cond.soleField "IdealCourt$Chain" "y") ∈ lw_all := lw_g (lw_at lw_m2 82 rfl) rfl
theorem q421 : (Jvm.Cond.laysFinal "IdealCourt$Chain" "IdealCourt$Chain" "z" "LIdealCourt$Whole;") ∈ lw_all := lw_g (lw_at lw_m2 83 rfl) rfl
theorem q422 : (Jvm.Cond.soleField "IdealCourt$Chain" "z") ∈ lw_all := lw_g (lw_at lw_m2 84 rfl) rfl
theorem q423 : (Jvm.Cond.laysFinal "IdealCourt$Chain" "IdealCourt$Chain" "w" "LIdealCourt$Whole;") ∈ lw_all := lw_g (lw_at lw_m2 85 rfl) rfl
theorem q424 : (Jvm.Cond.soleField "IdealCourt$Chain" "w") ∈ lw_all := lw_g (lw_at lw_m2 86 rfl) rfl
theorem q425 : (Jvm.Cond.lays "IdealCourt$Chain" "IdealCourt$Chain" "many" "I") ∈ lw_all := lw_g (lw_at lw_m2 87 rfl) rfl
theorem q426 : (Jvm.Cond.soleField "IdealCourt$Chain" "many") ∈ lw_all := lw_g (lw_at lw_m2 88 rfl) rfl
theorem q427 : (Jvm.Cond.superclass "IdealCourt$Chain" "java/lang/Object") ∈ lw_all := lw_g (lw_at lw_m2 89 rfl) rfl
theorem q1506 : (Jvm.Cond.instanceMethod ({ cls := "IdealCourt$Chain", name := "begin", desc := "([II)V" } : Jvm.MethodName)) ∈ lw_all := lw_g (lw_at lw_m6 208 rfl) rfl
theorem q1507 : (Jvm.Cond.selects "IdealCourt$Chain" ({ cls := "IdealCourt$Chain", name := "begin", desc := "([II)V" } : Jvm.MethodName) ({ cls := "IdealCourt$Chain", name := "begin", desc := "([II)V" } : Jvm.MethodName)) ∈ lw_all := lw_g (lw_at lw_m6 209 rfl) rfl
theorem q1508 : (Jvm.Cond.code ({ cls := "IdealCourt$Chain", name := "begin", desc := "([II)V" } : Jvm.MethodName) prog_3_method_2_code (5 : Nat) (Option.none : Option Jvm.ClassFile.FieldType)) ∈ lw_all := lw_g (lw_at lw_m6 210 rfl) rfl
theorem q1509 : (Jvm.Cond.methodLink "IdealCourt$Chain" (48 : Nat) ({ cls := "IdealCourt$Chain", name := "put", desc := "([II)V" } : Jvm.MethodName)) ∈ lw_all := lw_g (lw_at lw_m6 211 rfl) rfl
theorem q1510 : (Jvm.Cond.privateMethod ({ cls := "IdealCourt$Chain", name := "put", desc := "([II)V" } : Jvm.MethodName)) ∈ lw_tbl := lw_at lw_m6 212 rfl
theorem q1511 : (Jvm.Cond.instanceMethod ({ cls := "IdealCourt$Chain", name := "put", desc := "([II)V" } : Jvm.MethodName)) ∈ lw_all := lw_g (lw_at lw_m6 213 rfl) rfl
theorem q1512 : (Jvm.Cond.code ({ cls := "IdealCourt$Chain", name := "put", desc := "([II)V" } : Jvm.MethodName) prog_3_method_3_code (4 : Nat) (Option.none : Option Jvm.ClassFile.FieldType)) ∈ lw_all := lw_g (lw_at lw_m6 214 rfl) rfl
theorem q1513 : (Jvm.Cond.methodLink "IdealCourt$Chain" (66 : Nat) ({ cls := "IdealCourt$Whole", name := "set", desc := "(J)V" } : Jvm.MethodName)) ∈ lw_all := lw_g (lw_at lw_m6 215 rfl) rfl
theorem q1514 : (Jvm.Cond.methodLink "IdealCourt$Chain" (52 : Nat) ({ cls := "IdealCourt$Chain", name := "run", desc := "()V" } : Jvm.MethodName)) ∈ lw_all := lw_g (lw_at lw_m6 216 rfl) rfl
theorem q1515 : (Jvm.Cond.privateMethod ({ cls := "IdealCourt$Chain", name := "run", desc := "()V" } : Jvm.MethodName)) ∈ lw_tbl := lw_at lw_m6 217 rfl
theorem q1516 : (Jvm.Cond.instanceMethod ({ cls := "IdealCourt$Chain", name := "run", desc := "()V" } : Jvm.MethodName)) ∈ lw_all := lw_g (lw_at lw_m6 218 rfl) rfl
theorem q1517 : (Jvm.Cond.code ({ cls := "IdealCourt$Chain", name := "run", desc := "()V" } : Jvm.MethodName) prog_3_method_6_code (3 : Nat) (Option.none : Option Jvm.ClassFile.FieldType)) ∈ lw_all := lw_g (lw_at lw_m6 219 rfl) rfl
theorem q1518 : (Jvm.Cond.methodLink "IdealCourt$Chain" (73 : Nat) ({ cls := "IdealCourt$Chain", name := "bare", desc := "([LIdealCourt$Whole;I)V" } : Jvm.MethodName)) ∈ lw_all := lw_g (lw_at lw_m6 220 rfl) rfl
theorem q1519 : (Jvm.Cond.privateMethod ({ cls := "IdealCourt$Chain", name := "bare", desc := "([LIdealCourt$Whole;I)V" } : Jvm.MethodName)) ∈ lw_tbl := lw_at lw_m6 221 rfl
theorem q1520 : (Jvm.Cond.instanceMethod ({ cls := "IdealCourt$Chain", name := "bare", desc := "([LIdealCourt$Whole;I)V" } : Jvm.MethodName)) ∈ lw_all := lw_g (lw_at lw_m6 222 rfl) rfl
theorem q1521 : (Jvm.Cond.code ({ cls := "IdealCourt$Chain", name := "bare", desc := "([LIdealCourt$Whole;I)V" } : Jvm.MethodName) prog_3_method_9_code (4 : Nat) (Option.none : Option Jvm.ClassFile.FieldType)) ∈ lw_all := lw_g (lw_at lw_m6 223 rfl) rfl
theorem q1522 : (Jvm.Cond.methodLink "IdealCourt$Chain" (92 : Nat) ({ cls := "IdealCourt$Reckoner", name := "common", desc := "(LIdealCourt$Whole;LIdealCourt$Whole;LIdealCourt$Whole;)V" } : Jvm.MethodName)) ∈ lw_all := lw_g (lw_at lw_m6 224 rfl) rfl
theorem q1523 : (Jvm.Cond.methodLink "IdealCourt$Chain" (95 : Nat) ({ cls := "IdealCourt$Reckoner", name := "part", desc := "(LIdealCourt$Whole;LIdealCourt$Whole;LIdealCourt$Whole;)V" } : Jvm.MethodName)) ∈ lw_all := lw_g (lw_at lw_m6 225 rfl) rfl
theorem q1524 : (Jvm.Cond.methodLink "IdealCourt$Chain" (77 : Nat) ({ cls := "IdealCourt$Reckoner", name := "times", desc := "(LIdealCourt$Whole;LIdealCourt$Whole;LIdealCourt$Whole;)V" } : Jvm.MethodName)) ∈ lw_all := lw_g (lw_at lw_m6 226 rfl) rfl
theorem q1525 : (Jvm.Cond.methodLink "IdealCourt$Chain" (70 : Nat) ({ cls := "IdealCourt$Chain", name := "goOn", desc := "()V" } : Jvm.MethodName)) ∈ lw_all := lw_g (lw_at lw_m6 227 rfl) rfl
theorem q1526 : (Jvm.Cond.privateMethod ({ cls := "IdealCourt$Chain", name := "goOn", desc := "()V" } : Jvm.MethodName)) ∈ lw_tbl := lw_at lw_m6 228 rfl
theorem q1527 : (Jvm.Cond.instanceMethod ({ cls := "IdealCourt$Chain", name := "goOn", desc := "()V" } : Jvm.MethodName)) ∈ lw_all := lw_g (lw_at lw_m6 229 rfl) rfl
theorem q1528 : (Jvm.Cond.code ({ cls := "IdealCourt$Chain", name := "goOn", desc := "()V" } : Jvm.MethodName) prog_3_method_7_code (3 : Nat) (Option.none : Option Jvm.ClassFile.FieldType)) ∈ lw_all := lw_g (lw_at lw_m6 230 rfl) rfl
theorem q1529 : (Jvm.Cond.methodLink "IdealCourt$Chain" (81 : Nat) ({ cls := "IdealCourt$Chain", name := "remainder", desc := "([LIdealCourt$Whole;I[LIdealCourt$Whole;I[LIdealCourt$Whole;)I" } : Jvm.MethodName)) ∈ lw_all := lw_g (lw_at lw_m6 231 rfl) rfl
theorem q1530 : (Jvm.Cond.privateMethod ({ cls := "IdealCourt$Chain", name := "remainder", desc := "([LIdealCourt$Whole;I[LIdealCourt$Whole;I[LIdealCourt$Whole;)I" } : Jvm.MethodName)) ∈ lw_tbl := lw_at lw_m6 232 rfl
theorem q1531 : (Jvm.Cond.instanceMethod ({ cls := "IdealCourt$Chain", name := "remainder", desc := "([LIdealCourt$Whole;I[LIdealCourt$Whole;I[LIdealCourt$Whole;)I" } : Jvm.MethodName)) ∈ lw_all := lw_g (lw_at lw_m6 233 rfl) rfl
theorem q1532 : (Jvm.Cond.code ({ cls := "IdealCourt$Chain", name := "remainder", desc := "([LIdealCourt$Whole;I[LIdealCourt$Whole;I[LIdealCourt$Whole;)I" } : Jvm.MethodName) prog_3_method_8_code (9 : Nat) (Option.some Jvm.ClassFile.FieldType.int)) ∈ lw_all := lw_g (lw_at lw_m6 234 rfl) rfl
theorem q1533 : (Jvm.Cond.methodLink "IdealCourt$Chain" (59 : Nat) ({ cls := "IdealCourt$Whole", name := "be", desc := "(LIdealCourt$Whole;)V" } : Jvm.MethodName)) ∈ lw_all := lw_g (lw_at lw_m6 235 rfl) rfl
theorem q1534 : (Jvm.Cond.methodLink "IdealCourt$Chain" (88 : Nat) ({ cls := "IdealCourt$Reckoner", name := "add", desc := "(LIdealCourt$Whole;LIdealCourt$Whole;LIdealCourt$Whole;I)V" } : Jvm.MethodName)) ∈ lw_all := lw_g (lw_at lw_m6 236 rfl) rfl
theorem q1535 : (Jvm.Cond.methodLink "IdealCourt$Chain" (63 : Nat) ({ cls := "IdealCourt$Chain", name := "without", desc := "(I)V" } : Jvm.MethodName)) ∈ lw_all := lw_g (lw_at lw_m6 237 rfl) rfl
theorem q1536 : (Jvm.Cond.privateMethod ({ cls := "IdealCourt$Chain", name := "without", desc := "(I)V" } : Jvm.MethodName)) ∈ lw_tbl := lw_at lw_m6 238 rfl
theorem q1537 : (Jvm.Cond.instanceMethod ({ cls := "IdealCourt$Chain", name := "without", desc := "(I)V" } : Jvm.MethodName)) ∈ lw_all := lw_g (lw_at lw_m6 239 rfl) rfl
theorem q1538 : (Jvm.Cond.code ({ cls := "IdealCourt$Chain", name := "without", desc := "(I)V" } : Jvm.MethodName) prog_3_method_10_code (5 : Nat) (Option.none : Option Jvm.ClassFile.FieldType)) ∈ lw_all := lw_g (lw_at lw_m7 0 rfl) rfl
theorem q1548 : (Jvm.Cond.instanceMethod ({ cls := "IdealCourt$Chain", name := "changes", desc := "(LIdealCourt$Whole;I)I" } : Jvm.MethodName)) ∈ lw_all := lw_g (lw_at lw_m7 10 rfl) rfl
theorem q1549 : (Jvm.Cond.selects "IdealCourt$Chain" ({ cls := "IdealCourt$Chain", name := "changes", desc := "(LIdealCourt$Whole;I)I" } : Jvm.MethodName) ({ cls := "IdealCourt$Chain", name := "changes", desc := "(LIdealCourt$Whole;I)I" } : Jvm.MethodName)) ∈ lw_all := lw_g (lw_at lw_m7 11 rfl) rfl
theorem q1550 : (Jvm.Cond.code ({ cls := "IdealCourt$Chain", name := "changes", desc := "(LIdealCourt$Whole;I)I" } : Jvm.MethodName) prog_3_method_13_code (7 : Nat) (Option.some Jvm.ClassFile.FieldType.int)) ∈ lw_all := lw_g (lw_at lw_m7 12 rfl) rfl
theorem q1551 : (Jvm.Cond.methodLink "IdealCourt$Chain" (101 : Nat) ({ cls := "IdealCourt$Chain", name := "signAt", desc := "(ILIdealCourt$Whole;I)I" } : Jvm.MethodName)) ∈ lw_all := lw_g (lw_at lw_m7 13 rfl) rfl
theorem q1552 : (Jvm.Cond.privateMethod ({ cls := "IdealCourt$Chain", name := "signAt", desc := "(ILIdealCourt$Whole;I)I" } : Jvm.MethodName)) ∈ lw_tbl := lw_at lw_m7 14 rfl
theorem q1553 : (Jvm.Cond.instanceMethod ({ cls := "IdealCourt$Chain", name := "signAt", desc := "(ILIdealCourt$Whole;I)I" } : Jvm.MethodName)) ∈ lw_all := lw_g (lw_at lw_m7 15 rfl) rfl
theorem q1554 : (Jvm.Cond.code ({ cls := "IdealCourt$Chain", name := "signAt", desc := "(ILIdealCourt$Whole;I)I" } : Jvm.MethodName) prog_3_method_11_code (7 : Nat) (Option.some Jvm.ClassFile.FieldType.int)) ∈ lw_all := lw_g (lw_at lw_m7 16 rfl) rfl
theorem q1555 : (Jvm.Cond.methodLink "IdealCourt$Chain" (98 : Nat) ({ cls := "IdealCourt$Whole", name := "twice", desc := "(I)V" } : Jvm.MethodName)) ∈ lw_all := lw_g (lw_at lw_m7 17 rfl) rfl
theorem q1590 : (Jvm.Cond.instanceMethod ({ cls := "IdealCourt$Chain", name := "common", desc := "([II[II)V" } : Jvm.MethodName)) ∈ lw_all := lw_g (lw_at lw_m7 52 rfl) rfl
theorem q1591 : (Jvm.Cond.selects "IdealCourt$Chain" ({ cls := "IdealCourt$Chain", name := "common", desc := "([II[II)V" } : Jvm.MethodName) ({ cls := "IdealCourt$Chain", name := "common", desc := "([II[II)V" } : Jvm.MethodName)) ∈ lw_all := lw_g (lw_at lw_m7 53 rfl) rfl
theorem q1592 : (Jvm.Cond.code ({ cls := "IdealCourt$Chain", name := "common", desc := "([II[II)V" } : Jvm.MethodName) prog_3_method_5_code (8 : Nat) (Option.none : Option Jvm.ClassFile.FieldType)) ∈ lw_all := lw_g (lw_at lw_m7 54 rfl) rfl
theorem q1594 : (Jvm.Cond.instanceMethod ({ cls := "IdealCourt$Chain", name := "only", desc := "([II)V" } : Jvm.MethodName)) ∈ lw_all := lw_g (lw_at lw_m7 56 rfl) rfl
theorem q1595 : (Jvm.Cond.selects "IdealCourt$Chain" ({ cls := "IdealCourt$Chain", name := "only", desc := "([II)V" } : Jvm.MethodName) ({ cls := "IdealCourt$Chain", name := "only", desc := "([II)V" } : Jvm.MethodName)) ∈ lw_all := lw_g (lw_at lw_m7 57 rfl) rfl
theorem q1596 : (Jvm.Cond.code ({ cls := "IdealCourt$Chain", name := "only", desc := "([II)V" } : Jvm.MethodName) prog_3_method_4_code (3 : Nat) (Option.none : Option Jvm.ClassFile.FieldType)) ∈ lw_all := lw_g (lw_at lw_m7 58 rfl) rfl
theorem q1598 : (Jvm.Cond.instanceMethod ({ cls := "IdealCourt$Chain", name := "sign", desc := "(LIdealCourt$Whole;I)I" } : Jvm.MethodName)) ∈ lw_all := lw_g (lw_at lw_m7 60 rfl) rfl
theorem q1599 : (Jvm.Cond.selects "IdealCourt$Chain" ({ cls := "IdealCourt$Chain", name := "sign", desc := "(LIdealCourt$Whole;I)I" } : Jvm.MethodName) ({ cls := "IdealCourt$Chain", name := "sign", desc := "(LIdealCourt$Whole;I)I" } : Jvm.MethodName)) ∈ lw_all := lw_g (lw_at lw_m7 61 rfl) rfl
theorem q1600 : (Jvm.Cond.code ({ cls := "IdealCourt$Chain", name := "sign", desc := "(LIdealCourt$Whole;I)I" } : Jvm.MethodName) prog_3_method_12_code (3 : Nat) (Option.some Jvm.ClassFile.FieldType.int)) ∈ lw_all := lw_g (lw_at lw_m7 62 rfl) rfl
theorem in_X8 : ∀ w ∈ wsX80, w ∈ lw_all := lw_in wsX80 [409, 411, 413, 415, 417, 419, 421, 423, 425] (by decide +kernel) (by decide +kernel)
