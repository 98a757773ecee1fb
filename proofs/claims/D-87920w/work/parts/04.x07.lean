/-! IdealCourt$Square -/
set_option maxRecDepth 100000
def RX7 : String := "IdealCourt$Square"
def TX7 : u_T := fun k => match k with
  | 0 => ("IdealCourt$Square", "terms", "LIdealCourt$Terms;", true)
  | 1 => ("IdealCourt$Square", "by", "LIdealCourt$Reckoner;", true)
  | 2 => ("IdealCourt$Square", "cells", "[I", true)
  | 3 => ("IdealCourt$Square", "divisor", "LIdealCourt$Whole;", true)
  | 4 => ("IdealCourt$Square", "work", "[LIdealCourt$Whole;", true)
  | 5 => ("IdealCourt$Square", "x", "LIdealCourt$Whole;", true)
  | 6 => ("IdealCourt$Square", "y", "LIdealCourt$Whole;", true)
  | 7 => ("IdealCourt$Square", "z", "LIdealCourt$Whole;", true)
  | 8 => ("IdealCourt$Square", "termOf", "[S", true)
  | 9 => ("IdealCourt$Square", "columnOf", "[I", true)
  | 10 => ("IdealCourt$Square", "leads", "[I", true)
  | 11 => ("IdealCourt$Square", "sorted", "[I", true)
  | 12 => ("IdealCourt$Square", "usedBy", "[I", true)
  | 13 => ("IdealCourt$Square", "usedTerm", "[I", true)
  | 14 => ("IdealCourt$Square", "numbers", "[I", true)
  | 15 => ("IdealCourt$Square", "rows", "I", false)
  | 16 => ("IdealCourt$Square", "most", "I", false)
  | 17 => ("IdealCourt$Square", "told", "I", false)
  | 18 => ("IdealCourt$Square", "order", "LIdealCourt$Ranks;", false)
  | _ => ("IdealCourt$Square", "divided", "LIdealCourt$Whole;", true)
def tyX7 : Nat → FieldType := fun k => match k with
  | 0 => .object "IdealCourt$Terms"
  | 1 => .object "IdealCourt$Reckoner"
  | 2 => .array .int
  | 3 => .object "IdealCourt$Whole"
  | 4 => .array (.object "IdealCourt$Whole")
  | 5 => .object "IdealCourt$Whole"
  | 6 => .object "IdealCourt$Whole"
  | 7 => .object "IdealCourt$Whole"
  | 8 => .array .short
  | 9 => .array .int
  | 10 => .array .int
  | 11 => .array .int
  | 12 => .array .int
  | 13 => .array .int
  | 14 => .array .int
  | 15 => .int
  | 16 => .int
  | 17 => .int
  | 18 => .object "IdealCourt$Ranks"
  | _ => .object "IdealCourt$Whole"
abbrev wsX70 : List Cond := u_ws RX7 TX7 20
set_option maxRecDepth 100000 in
theorem nmX7 : ∀ a, a < 20 → ∀ b, b < 20 → a ≠ b → (TX7 a).2.1 ≠ (TX7 b).2.1 := by decide +kernel
set_option maxRecDepth 100000 in
theorem tyX7_ok : ∀ k, k < 20 → parseFieldDescriptor (TX7 k).2.2.1 = some (tyX7 k) := by decide +kernel
abbrev cX7_init : ByteArray := prog_14_method_1_code
def yX7_init : MethodName := ⟨RX7, "<init>", "(LIdealCourt$Terms;LIdealCourt$Reckoner;)V"⟩
def dkwX7_init_8 : List UInt8 := [183, 0, 19, 83, 132, 3, 1, 167, 255, 232, 177]
abbrev dktX7_init_8 : List UInt8 := dkwX7_init_8 ++ []
def dkwX7_init_7 : List UInt8 := [181, 0, 72, 3, 62, 29, 16, 70, 162, 0, 24, 42, 180, 0, 26, 29, 187, 0, 15, 89, 16, 48]
abbrev dktX7_init_7 : List UInt8 := dkwX7_init_7 ++ dktX7_init_8
def dkwX7_init_6 : List UInt8 := [181, 0, 61, 42, 187, 0, 15, 89, 17, 0, 160, 183, 0, 19, 181, 0, 65, 42, 43, 181, 0, 68, 42, 44]
abbrev dktX7_init_6 : List UInt8 := dkwX7_init_6 ++ dktX7_init_7
def dkwX7_init_5 : List UInt8 := [181, 0, 52, 42, 16, 35, 188, 10, 181, 0, 55, 42, 16, 35, 188, 10, 181, 0, 58, 42, 16, 249]
abbrev dktX7_init_5 : List UInt8 := dkwX7_init_5 ++ dktX7_init_6
def dkwX7_init_4 : List UInt8 := [181, 0, 43, 42, 16, 35, 188, 10, 181, 0, 46, 42, 16, 35, 188, 10, 181, 0, 49, 42, 16, 35, 188, 10]
abbrev dktX7_init_4 : List UInt8 := dkwX7_init_4 ++ dktX7_init_5
def dkwX7_init_3 : List UInt8 := [17, 0, 160, 183, 0, 19, 181, 0, 36, 42, 16, 35, 188, 9, 181, 0, 39, 42, 17, 1, 199, 188, 10]
abbrev dktX7_init_3 : List UInt8 := dkwX7_init_3 ++ dktX7_init_4
def dkwX7_init_2 : List UInt8 := [181, 0, 30, 42, 187, 0, 15, 89, 17, 0, 160, 183, 0, 19, 181, 0, 33, 42, 187, 0, 15, 89]
abbrev dktX7_init_2 : List UInt8 := dkwX7_init_2 ++ dktX7_init_3
def dkwX7_init_1 : List UInt8 := [181, 0, 22, 42, 16, 70, 189, 0, 15, 181, 0, 26, 42, 187, 0, 15, 89, 17, 0, 160, 183, 0, 19]
abbrev dktX7_init_1 : List UInt8 := dkwX7_init_1 ++ dktX7_init_2
def dkwX7_init_0 : List UInt8 := [42, 183, 0, 3, 42, 17, 114, 216, 188, 10, 181, 0, 11, 42, 187, 0, 15, 89, 17, 0, 160, 183, 0, 19]
abbrev dktX7_init_0 : List UInt8 := dkwX7_init_0 ++ dktX7_init_1
theorem dksX7_init_0 : cX7_init.data.toList.drop 0 = dktX7_init_0 := by decide +kernel
theorem dksX7_init_1 : cX7_init.data.toList.drop 24 = dktX7_init_1 := dk_seg dksX7_init_0 24 rfl rfl
theorem dksX7_init_2 : cX7_init.data.toList.drop 47 = dktX7_init_2 := dk_seg dksX7_init_1 23 rfl rfl
theorem dksX7_init_3 : cX7_init.data.toList.drop 69 = dktX7_init_3 := dk_seg dksX7_init_2 22 rfl rfl
theorem dksX7_init_4 : cX7_init.data.toList.drop 92 = dktX7_init_4 := dk_seg dksX7_init_3 23 rfl rfl
theorem dksX7_init_5 : cX7_init.data.toList.drop 116 = dktX7_init_5 := dk_seg dksX7_init_4 24 rfl rfl
theorem dksX7_init_6 : cX7_init.data.toList.drop 138 = dktX7_init_6 := dk_seg dksX7_init_5 22 rfl rfl
theorem dksX7_init_7 : cX7_init.data.toList.drop 162 = dktX7_init_7 := dk_seg dksX7_init_6 24 rfl rfl
theorem dksX7_init_8 : cX7_init.data.toList.drop 184 = dktX7_init_8 := dk_seg dksX7_init_7 22 rfl rfl
theorem dX7_init_0 : decode cX7_init 0 = .ok (.aload_n 0, 1) := dk_42 (dk_at dksX7_init_0 0 rfl rfl)
theorem dX7_init_1 : decode cX7_init 1 = .ok (.invokespecial 3, 3) := dk_183 0 3 (dk_at dksX7_init_0 1 rfl rfl)
theorem dX7_init_4 : decode cX7_init 4 = .ok (.aload_n 0, 1) := dk_42 (dk_at dksX7_init_0 4 rfl rfl)
theorem dX7_init_5 : decode cX7_init 5 = .ok (.sipush 29400, 3) := dk_17 114 216 (dk_at dksX7_init_0 5 rfl rfl)
theorem dX7_init_8 : decode cX7_init 8 = .ok (.newarray .int, 2) := dk_188_10 (dk_at dksX7_init_0 8 rfl rfl)
theorem dX7_init_10 : decode cX7_init 10 = .ok (.putfield 11, 3) := dk_181 0 11 (dk_at dksX7_init_0 10 rfl rfl)
theorem dX7_init_13 : decode cX7_init 13 = .ok (.aload_n 0, 1) := dk_42 (dk_at dksX7_init_0 13 rfl rfl)
theorem dX7_init_14 : decode cX7_init 14 = .ok (.new 15, 3) := dk_187 0 15 (dk_at dksX7_init_0 14 rfl rfl)
theorem dX7_init_17 : decode cX7_init 17 = .ok (.dup, 1) := dk_89 (dk_at dksX7_init_0 17 rfl rfl)
theorem dX7_init_18 : decode cX7_init 18 = .ok (.sipush 160, 3) := dk_17 0 160 (dk_at dksX7_init_0 18 rfl rfl)
theorem dX7_init_21 : decode cX7_init 21 = .ok (.invokespecial 19, 3) := dk_183 0 19 (dk_at dksX7_init_0 21 rfl rfl)
theorem dX7_init_24 : decode cX7_init 24 = .ok (.putfield 22, 3) := dk_181 0 22 (dk_at dksX7_init_1 0 rfl rfl)
theorem dX7_init_27 : decode cX7_init 27 = .ok (.aload_n 0, 1) := dk_42 (dk_at dksX7_init_1 3 rfl rfl)
theorem dX7_init_28 : decode cX7_init 28 = .ok (.bipush 70, 2) := dk_16 70 (dk_at dksX7_init_1 4 rfl rfl)
theorem dX7_init_30 : decode cX7_init 30 = .ok (.anewarray 15, 3) := dk_189 0 15 (dk_at dksX7_init_1 6 rfl rfl)
theorem dX7_init_33 : decode cX7_init 33 = .ok (.putfield 26, 3) := dk_181 0 26 (dk_at dksX7_init_1 9 rfl rfl)
theorem dX7_init_36 : decode cX7_init 36 = .ok (.aload_n 0, 1) := dk_42 (dk_at dksX7_init_1 12 rfl rfl)
theorem dX7_init_37 : decode cX7_init 37 = .ok (.new 15, 3) := dk_187 0 15 (dk_at dksX7_init_1 13 rfl rfl)
theorem dX7_init_40 : decode cX7_init 40 = .ok (.dup, 1) := dk_89 (dk_at dksX7_init_1 16 rfl rfl)
theorem dX7_init_41 : decode cX7_init 41 = .ok (.sipush 160, 3) := dk_17 0 160 (dk_at dksX7_init_1 17 rfl rfl)
theorem dX7_init_44 : decode cX7_init 44 = .ok (.invokespecial 19, 3) := dk_183 0 19 (dk_at dksX7_init_1 20 rfl rfl)
theorem dX7_init_47 : decode cX7_init 47 = .ok (.putfield 30, 3) := dk_181 0 30 (dk_at dksX7_init_2 0 rfl rfl)
theorem dX7_init_50 : decode cX7_init 50 = .ok (.aload_n 0, 1) := dk_42 (dk_at dksX7_init_2 3 rfl rfl)
theorem dX7_init_51 : decode cX7_init 51 = .ok (.new 15, 3) := dk_187 0 15 (dk_at dksX7_init_2 4 rfl rfl)
theorem dX7_init_54 : decode cX7_init 54 = .ok (.dup, 1) := dk_89 (dk_at dksX7_init_2 7 rfl rfl)
theorem dX7_init_55 : decode cX7_init 55 = .ok (.sipush 160, 3) := dk_17 0 160 (dk_at dksX7_init_2 8 rfl rfl)
theorem dX7_init_58 : decode cX7_init 58 = .ok (.invokespecial 19, 3) := dk_183 0 19 (dk_at dksX7_init_2 11 rfl rfl)
theorem dX7_init_61 : decode cX7_init 61 = .ok (.putfield 33, 3) := dk_181 0 33 (dk_at dksX7_init_2 14 rfl rfl)
theorem dX7_init_64 : decode cX7_init 64 = .ok (.aload_n 0, 1) := dk_42 (dk_at dksX7_init_2 17 rfl rfl)
theorem dX7_init_65 : decode cX7_init 65 = .ok (.new 15, 3) := dk_187 0 15 (dk_at dksX7_init_2 18 rfl rfl)
theorem dX7_init_68 : decode cX7_init 68 = .ok (.dup, 1) := dk_89 (dk_at dksX7_init_2 21 rfl rfl)
theorem dX7_init_69 : decode cX7_init 69 = .ok (.sipush 160, 3) := dk_17 0 160 (dk_at dksX7_init_3 0 rfl rfl)
theorem dX7_init_72 : decode cX7_init 72 = .ok (.invokespecial 19, 3) := dk_183 0 19 (dk_at dksX7_init_3 3 rfl rfl)
theorem dX7_init_75 : decode cX7_init 75 = .ok (.putfield 36, 3) := dk_181 0 36 (dk_at dksX7_init_3 6 rfl rfl)
theorem dX7_init_78 : decode cX7_init 78 = .ok (.aload_n 0, 1) := dk_42 (dk_at dksX7_init_3 9 rfl rfl)
theorem dX7_init_79 : decode cX7_init 79 = .ok (.bipush 35, 2) := dk_16 35 (dk_at dksX7_init_3 10 rfl rfl)
theorem dX7_init_81 : decode cX7_init 81 = .ok (.newarray .short, 2) := dk_188_9 (dk_at dksX7_init_3 12 rfl rfl)
theorem dX7_init_83 : decode cX7_init 83 = .ok (.putfield 39, 3) := dk_181 0 39 (dk_at dksX7_init_3 14 rfl rfl)
theorem dX7_init_86 : decode cX7_init 86 = .ok (.aload_n 0, 1) := dk_42 (dk_at dksX7_init_3 17 rfl rfl)
theorem dX7_init_87 : decode cX7_init 87 = .ok (.sipush 455, 3) := dk_17 1 199 (dk_at dksX7_init_3 18 rfl rfl)
theorem dX7_init_90 : decode cX7_init 90 = .ok (.newarray .int, 2) := dk_188_10 (dk_at dksX7_init_3 21 rfl rfl)
theorem dX7_init_92 : decode cX7_init 92 = .ok (.putfield 43, 3) := dk_181 0 43 (dk_at dksX7_init_4 0 rfl rfl)
theorem dX7_init_95 : decode cX7_init 95 = .ok (.aload_n 0, 1) := dk_42 (dk_at dksX7_init_4 3 rfl rfl)
theorem dX7_init_96 : decode cX7_init 96 = .ok (.bipush 35, 2) := dk_16 35 (dk_at dksX7_init_4 4 rfl rfl)
theorem dX7_init_98 : decode cX7_init 98 = .ok (.newarray .int, 2) := dk_188_10 (dk_at dksX7_init_4 6 rfl rfl)
theorem dX7_init_100 : decode cX7_init 100 = .ok (.putfield 46, 3) := dk_181 0 46 (dk_at dksX7_init_4 8 rfl rfl)
theorem dX7_init_103 : decode cX7_init 103 = .ok (.aload_n 0, 1) := dk_42 (dk_at dksX7_init_4 11 rfl rfl)
theorem dX7_init_104 : decode cX7_init 104 = .ok (.bipush 35, 2) := dk_16 35 (dk_at dksX7_init_4 12 rfl rfl)
theorem dX7_init_106 : decode cX7_init 106 = .ok (.newarray .int, 2) := dk_188_10 (dk_at dksX7_init_4 14 rfl rfl)
theorem dX7_init_108 : decode cX7_init 108 = .ok (.putfield 49, 3) := dk_181 0 49 (dk_at dksX7_init_4 16 rfl rfl)
theorem dX7_init_111 : decode cX7_init 111 = .ok (.aload_n 0, 1) := dk_42 (dk_at dksX7_init_4 19 rfl rfl)
theorem dX7_init_112 : decode cX7_init 112 = .ok (.bipush 35, 2) := dk_16 35 (dk_at dksX7_init_4 20 rfl rfl)
theorem dX7_init_114 : decode cX7_init 114 = .ok (.newarray .int, 2) := dk_188_10 (dk_at dksX7_init_4 22 rfl rfl)
theorem dX7_init_116 : decode cX7_init 116 = .ok (.putfield 52, 3) := dk_181 0 52 (dk_at dksX7_init_5 0 rfl rfl)
theorem dX7_init_119 : decode cX7_init 119 = .ok (.aload_n 0, 1) := dk_42 (dk_at dksX7_init_5 3 rfl rfl)
theorem dX7_init_120 : decode cX7_init 120 = .ok (.bipush 35, 2) := dk_16 35 (dk_at dksX7_init_5 4 rfl rfl)
theorem dX7_init_122 : decode cX7_init 122 = .ok (.newarray .int, 2) := dk_188_10 (dk_at dksX7_init_5 6 rfl rfl)
theorem dX7_init_124 : decode cX7_init 124 = .ok (.putfield 55, 3) := dk_181 0 55 (dk_at dksX7_init_5 8 rfl rfl)
theorem dX7_init_127 : decode cX7_init 127 = .ok (.aload_n 0, 1) := dk_42 (dk_at dksX7_init_5 11 rfl rfl)
theorem dX7_init_128 : decode cX7_init 128 = .ok (.bipush 35, 2) := dk_16 35 (dk_at dksX7_init_5 12 rfl rfl)
theorem dX7_init_130 : decode cX7_init 130 = .ok (.newarray .int, 2) := dk_188_10 (dk_at dksX7_init_5 14 rfl rfl)
theorem dX7_init_132 : decode cX7_init 132 = .ok (.putfield 58, 3) := dk_181 0 58 (dk_at dksX7_init_5 16 rfl rfl)
theorem dX7_init_135 : decode cX7_init 135 = .ok (.aload_n 0, 1) := dk_42 (dk_at dksX7_init_5 19 rfl rfl)
theorem dX7_init_136 : decode cX7_init 136 = .ok (.bipush (-7), 2) := dk_16 249 (dk_at dksX7_init_5 20 rfl rfl)
theorem dX7_init_138 : decode cX7_init 138 = .ok (.putfield 61, 3) := dk_181 0 61 (dk_at dksX7_init_6 0 rfl rfl)
theorem dX7_init_141 : decode cX7_init 141 = .ok (.aload_n 0, 1) := dk_42 (dk_at dksX7_init_6 3 rfl rfl)
theorem dX7_init_142 : decode cX7_init 142 = .ok (.new 15, 3) := dk_187 0 15 (dk_at dksX7_init_6 4 rfl rfl)
theorem dX7_init_145 : decode cX7_init 145 = .ok (.dup, 1) := dk_89 (dk_at dksX7_init_6 7 rfl rfl)
theorem dX7_init_146 : decode cX7_init 146 = .ok (.sipush 160, 3) := dk_17 0 160 (dk_at dksX7_init_6 8 rfl rfl)
theorem dX7_init_149 : decode cX7_init 149 = .ok (.invokespecial 19, 3) := dk_183 0 19 (dk_at dksX7_init_6 11 rfl rfl)
theorem dX7_init_152 : decode cX7_init 152 = .ok (.putfield 65, 3) := dk_181 0 65 (dk_at dksX7_init_6 14 rfl rfl)
theorem dX7_init_155 : decode cX7_init 155 = .ok (.aload_n 0, 1) := dk_42 (dk_at dksX7_init_6 17 rfl rfl)
theorem dX7_init_156 : decode cX7_init 156 = .ok (.aload_n 1, 1) := dk_43 (dk_at dksX7_init_6 18 rfl rfl)
theorem dX7_init_157 : decode cX7_init 157 = .ok (.putfield 68, 3) := dk_181 0 68 (dk_at dksX7_init_6 19 rfl rfl)
theorem dX7_init_160 : decode cX7_init 160 = .ok (.aload_n 0, 1) := dk_42 (dk_at dksX7_init_6 22 rfl rfl)
theorem dX7_init_161 : decode cX7_init 161 = .ok (.aload_n 2, 1) := dk_44 (dk_at dksX7_init_6 23 rfl rfl)
theorem dX7_init_162 : decode cX7_init 162 = .ok (.putfield 72, 3) := dk_181 0 72 (dk_at dksX7_init_7 0 rfl rfl)
theorem dX7_init_165 : decode cX7_init 165 = .ok (.iconst 0, 1) := dk_3 (dk_at dksX7_init_7 3 rfl rfl)
theorem dX7_init_166 : decode cX7_init 166 = .ok (.istore_n 3, 1) := dk_62 (dk_at dksX7_init_7 4 rfl rfl)
theorem dX7_init_167 : decode cX7_init 167 = .ok (.iload_n 3, 1) := dk_29 (dk_at dksX7_init_7 5 rfl rfl)
theorem dX7_init_168 : decode cX7_init 168 = .ok (.bipush 70, 2) := dk_16 70 (dk_at dksX7_init_7 6 rfl rfl)
theorem dX7_init_170 : decode cX7_init 170 = .ok (.if_icmp .ge 24, 3) := dk_162 0 24 (dk_at dksX7_init_7 8 rfl rfl)
theorem dX7_init_173 : decode cX7_init 173 = .ok (.aload_n 0, 1) := dk_42 (dk_at dksX7_init_7 11 rfl rfl)
theorem dX7_init_174 : decode cX7_init 174 = .ok (.getfield 26, 3) := dk_180 0 26 (dk_at dksX7_init_7 12 rfl rfl)
theorem dX7_init_177 : decode cX7_init 177 = .ok (.iload_n 3, 1) := dk_29 (dk_at dksX7_init_7 15 rfl rfl)
theorem dX7_init_178 : decode cX7_init 178 = .ok (.new 15, 3) := dk_187 0 15 (dk_at dksX7_init_7 16 rfl rfl)
theorem dX7_init_181 : decode cX7_init 181 = .ok (.dup, 1) := dk_89 (dk_at dksX7_init_7 19 rfl rfl)
theorem dX7_init_182 : decode cX7_init 182 = .ok (.bipush 48, 2) := dk_16 48 (dk_at dksX7_init_7 20 rfl rfl)
theorem dX7_init_184 : decode cX7_init 184 = .ok (.invokespecial 19, 3) := dk_183 0 19 (dk_at dksX7_init_8 0 rfl rfl)
theorem dX7_init_187 : decode cX7_init 187 = .ok (.aastore, 1) := dk_83 (dk_at dksX7_init_8 3 rfl rfl)
theorem dX7_init_188 : decode cX7_init 188 = .ok (.iinc 3 1, 3) := dk_132 3 1 (dk_at dksX7_init_8 4 rfl rfl)
theorem dX7_init_191 : decode cX7_init 191 = .ok (.goto (-24), 3) := dk_167 255 232 (dk_at dksX7_init_8 7 rfl rfl)
theorem dX7_init_194 : decode cX7_init 194 = .ok (.return_, 1) := dk_177 (dk_at dksX7_init_8 10 rfl rfl)
abbrev cX7_tell : ByteArray := prog_14_method_9_code
def yX7_tell : MethodName := ⟨RX7, "tell", "([IILIdealCourt$Ranks;I)V"⟩
def dkwX7_tell_9 : List UInt8 := [167, 255, 208, 42, 180, 0, 49, 21, 6, 21, 5, 79, 132, 5, 1, 167, 255, 180, 177]
abbrev dktX7_tell_9 : List UInt8 := dkwX7_tell_9 ++ []
def dkwX7_tell_8 : List UInt8 := [164, 0, 25, 42, 180, 0, 49, 21, 6, 42, 180, 0, 49, 21, 6, 4, 100, 46, 79, 132, 6, 255]
abbrev dktX7_tell_8 : List UInt8 := dkwX7_tell_8 ++ dktX7_tell_9
def dkwX7_tell_7 : List UInt8 := [158, 0, 49, 42, 180, 0, 46, 42, 180, 0, 49, 21, 6, 4, 100, 46, 46, 42, 180, 0, 46, 21, 5, 46]
abbrev dktX7_tell_7 : List UInt8 := dkwX7_tell_7 ++ dktX7_tell_8
def dkwX7_tell_6 : List UInt8 := [132, 5, 1, 167, 255, 132, 3, 54, 5, 21, 5, 42, 180, 0, 80, 162, 0, 73, 21, 5, 54, 6, 21, 6]
abbrev dktX7_tell_6 : List UInt8 := dkwX7_tell_6 ++ dktX7_tell_7
def dkwX7_tell_5 : List UInt8 := [163, 0, 17, 42, 43, 21, 5, 42, 180, 0, 39, 21, 7, 53, 182, 0, 156, 132, 7, 255, 167, 255, 212]
abbrev dktX7_tell_5 : List UInt8 := dkwX7_tell_5 ++ dktX7_tell_6
def dkwX7_tell_4 : List UInt8 := [155, 0, 45, 42, 180, 0, 68, 42, 180, 0, 39, 21, 7, 53, 182, 0, 87, 21, 6, 96, 21, 4]
abbrev dktX7_tell_4 : List UInt8 := dkwX7_tell_4 ++ dktX7_tell_5
def dkwX7_tell_3 : List UInt8 := [21, 7, 182, 0, 87, 184, 0, 153, 54, 6, 132, 7, 1, 167, 255, 202, 16, 34, 54, 7, 21, 7]
abbrev dktX7_tell_3 : List UInt8 := dkwX7_tell_3 ++ dktX7_tell_4
def dkwX7_tell_2 : List UInt8 := [163, 0, 33, 43, 17, 1, 199, 21, 5, 104, 21, 7, 96, 46, 153, 0, 19, 21, 6, 42, 180, 0, 68]
abbrev dktX7_tell_2 : List UInt8 := dkwX7_tell_2 ++ dktX7_tell_3
def dkwX7_tell_1 : List UInt8 := [54, 6, 3, 54, 7, 21, 7, 17, 1, 199, 162, 0, 52, 42, 180, 0, 68, 21, 7, 182, 0, 87, 7]
abbrev dktX7_tell_1 : List UInt8 := dkwX7_tell_1 ++ dktX7_tell_2
def dkwX7_tell_0 : List UInt8 := [42, 45, 21, 4, 182, 0, 146, 42, 28, 181, 0, 150, 3, 54, 5, 21, 5, 28, 162, 0, 124, 16, 249]
abbrev dktX7_tell_0 : List UInt8 := dkwX7_tell_0 ++ dktX7_tell_1
theorem dksX7_tell_0 : cX7_tell.data.toList.drop 0 = dktX7_tell_0 := by decide +kernel
theorem dksX7_tell_1 : cX7_tell.data.toList.drop 23 = dktX7_tell_1 := dk_seg dksX7_tell_0 23 rfl rfl
theorem dksX7_tell_2 : cX7_tell.data.toList.drop 46 = dktX7_tell_2 := dk_seg dksX7_tell_1 23 rfl rfl
theorem dksX7_tell_3 : cX7_tell.data.toList.drop 69 = dktX7_tell_3 := dk_seg dksX7_tell_2 23 rfl rfl
theorem dksX7_tell_4 : cX7_tell.data.toList.drop 91 = dktX7_tell_4 := dk_seg dksX7_tell_3 22 rfl rfl
theorem dksX7_tell_5 : cX7_tell.data.toList.drop 113 = dktX7_tell_5 := dk_seg dksX7_tell_4 22 rfl rfl
theorem dksX7_tell_6 : cX7_tell.data.toList.drop 136 = dktX7_tell_6 := dk_seg dksX7_tell_5 23 rfl rfl
theorem dksX7_tell_7 : cX7_tell.data.toList.drop 160 = dktX7_tell_7 := dk_seg dksX7_tell_6 24 rfl rfl
theorem dksX7_tell_8 : cX7_tell.data.toList.drop 184 = dktX7_tell_8 := dk_seg dksX7_tell_7 24 rfl rfl
theorem dksX7_tell_9 : cX7_tell.data.toList.drop 206 = dktX7_tell_9 := dk_seg dksX7_tell_8 22 rfl rfl
theorem dX7_tell_0 : decode cX7_tell 0 = .ok (.aload_n 0, 1) := dk_42 (dk_at dksX7_tell_0 0 rfl rfl)
theorem dX7_tell_1 : decode cX7_tell 1 = .ok (.aload_n 3, 1) := dk_45 (dk_at dksX7_tell_0 1 rfl rfl)
theorem dX7_tell_2 : decode cX7_tell 2 = .ok (.iload 4, 2) := dk_21 4 (dk_at dksX7_tell_0 2 rfl rfl)
theorem dX7_tell_4 : decode cX7_tell 4 = .ok (.invokevirtual 146, 3) := dk_182 0 146 (dk_at dksX7_tell_0 4 rfl rfl)
theorem dX7_tell_7 : decode cX7_tell 7 = .ok (.aload_n 0, 1) := dk_42 (dk_at dksX7_tell_0 7 rfl rfl)
theorem dX7_tell_8 : decode cX7_tell 8 = .ok (.iload_n 2, 1) := dk_28 (dk_at dksX7_tell_0 8 rfl rfl)
theorem dX7_tell_9 : decode cX7_tell 9 = .ok (.putfield 150, 3) := dk_181 0 150 (dk_at dksX7_tell_0 9 rfl rfl)
theorem dX7_tell_12 : decode cX7_tell 12 = .ok (.iconst 0, 1) := dk_3 (dk_at dksX7_tell_0 12 rfl rfl)
theorem dX7_tell_13 : decode cX7_tell 13 = .ok (.istore 5, 2) := dk_54 5 (dk_at dksX7_tell_0 13 rfl rfl)
theorem dX7_tell_15 : decode cX7_tell 15 = .ok (.iload 5, 2) := dk_21 5 (dk_at dksX7_tell_0 15 rfl rfl)
theorem dX7_tell_17 : decode cX7_tell 17 = .ok (.iload_n 2, 1) := dk_28 (dk_at dksX7_tell_0 17 rfl rfl)
theorem dX7_tell_18 : decode cX7_tell 18 = .ok (.if_icmp .ge 124, 3) := dk_162 0 124 (dk_at dksX7_tell_0 18 rfl rfl)
theorem dX7_tell_21 : decode cX7_tell 21 = .ok (.bipush (-7), 2) := dk_16 249 (dk_at dksX7_tell_0 21 rfl rfl)
theorem dX7_tell_23 : decode cX7_tell 23 = .ok (.istore 6, 2) := dk_54 6 (dk_at dksX7_tell_1 0 rfl rfl)
theorem dX7_tell_25 : decode cX7_tell 25 = .ok (.iconst 0, 1) := dk_3 (dk_at dksX7_tell_1 2 rfl rfl)
theorem dX7_tell_26 : decode cX7_tell 26 = .ok (.istore 7, 2) := dk_54 7 (dk_at dksX7_tell_1 3 rfl rfl)
theorem dX7_tell_28 : decode cX7_tell 28 = .ok (.iload 7, 2) := dk_21 7 (dk_at dksX7_tell_1 5 rfl rfl)
theorem dX7_tell_30 : decode cX7_tell 30 = .ok (.sipush 455, 3) := dk_17 1 199 (dk_at dksX7_tell_1 7 rfl rfl)
theorem dX7_tell_33 : decode cX7_tell 33 = .ok (.if_icmp .ge 52, 3) := dk_162 0 52 (dk_at dksX7_tell_1 10 rfl rfl)
theorem dX7_tell_36 : decode cX7_tell 36 = .ok (.aload_n 0, 1) := dk_42 (dk_at dksX7_tell_1 13 rfl rfl)
theorem dX7_tell_37 : decode cX7_tell 37 = .ok (.getfield 68, 3) := dk_180 0 68 (dk_at dksX7_tell_1 14 rfl rfl)
theorem dX7_tell_40 : decode cX7_tell 40 = .ok (.iload 7, 2) := dk_21 7 (dk_at dksX7_tell_1 17 rfl rfl)
theorem dX7_tell_42 : decode cX7_tell 42 = .ok (.invokevirtual 87, 3) := dk_182 0 87 (dk_at dksX7_tell_1 19 rfl rfl)
theorem dX7_tell_45 : decode cX7_tell 45 = .ok (.iconst 4, 1) := dk_7 (dk_at dksX7_tell_1 22 rfl rfl)
theorem dX7_tell_46 : decode cX7_tell 46 = .ok (.if_icmp .gt 33, 3) := dk_163 0 33 (dk_at dksX7_tell_2 0 rfl rfl)
theorem dX7_tell_49 : decode cX7_tell 49 = .ok (.aload_n 1, 1) := dk_43 (dk_at dksX7_tell_2 3 rfl rfl)
theorem dX7_tell_50 : decode cX7_tell 50 = .ok (.sipush 455, 3) := dk_17 1 199 (dk_at dksX7_tell_2 4 rfl rfl)
theorem dX7_tell_53 : decode cX7_tell 53 = .ok (.iload 5, 2) := dk_21 5 (dk_at dksX7_tell_2 7 rfl rfl)
theorem dX7_tell_55 : decode cX7_tell 55 = .ok (.imul, 1) := dk_104 (dk_at dksX7_tell_2 9 rfl rfl)
theorem dX7_tell_56 : decode cX7_tell 56 = .ok (.iload 7, 2) := dk_21 7 (dk_at dksX7_tell_2 10 rfl rfl)
theorem dX7_tell_58 : decode cX7_tell 58 = .ok (.iadd, 1) := dk_96 (dk_at dksX7_tell_2 12 rfl rfl)
theorem dX7_tell_59 : decode cX7_tell 59 = .ok (.iaload, 1) := dk_46 (dk_at dksX7_tell_2 13 rfl rfl)
theorem dX7_tell_60 : decode cX7_tell 60 = .ok (.ifCond .eq 19, 3) := dk_153 0 19 (dk_at dksX7_tell_2 14 rfl rfl)
theorem dX7_tell_63 : decode cX7_tell 63 = .ok (.iload 6, 2) := dk_21 6 (dk_at dksX7_tell_2 17 rfl rfl)
theorem dX7_tell_65 : decode cX7_tell 65 = .ok (.aload_n 0, 1) := dk_42 (dk_at dksX7_tell_2 19 rfl rfl)
theorem dX7_tell_66 : decode cX7_tell 66 = .ok (.getfield 68, 3) := dk_180 0 68 (dk_at dksX7_tell_2 20 rfl rfl)
theorem dX7_tell_69 : decode cX7_tell 69 = .ok (.iload 7, 2) := dk_21 7 (dk_at dksX7_tell_3 0 rfl rfl)
theorem dX7_tell_71 : decode cX7_tell 71 = .ok (.invokevirtual 87, 3) := dk_182 0 87 (dk_at dksX7_tell_3 2 rfl rfl)
theorem dX7_tell_74 : decode cX7_tell 74 = .ok (.invokestatic 153, 3) := dk_184 0 153 (dk_at dksX7_tell_3 5 rfl rfl)
theorem dX7_tell_77 : decode cX7_tell 77 = .ok (.istore 6, 2) := dk_54 6 (dk_at dksX7_tell_3 8 rfl rfl)
theorem dX7_tell_79 : decode cX7_tell 79 = .ok (.iinc 7 1, 3) := dk_132 7 1 (dk_at dksX7_tell_3 10 rfl rfl)
theorem dX7_tell_82 : decode cX7_tell 82 = .ok (.goto (-54), 3) := dk_167 255 202 (dk_at dksX7_tell_3 13 rfl rfl)
theorem dX7_tell_85 : decode cX7_tell 85 = .ok (.bipush 34, 2) := dk_16 34 (dk_at dksX7_tell_3 16 rfl rfl)
theorem dX7_tell_87 : decode cX7_tell 87 = .ok (.istore 7, 2) := dk_54 7 (dk_at dksX7_tell_3 18 rfl rfl)
theorem dX7_tell_89 : decode cX7_tell 89 = .ok (.iload 7, 2) := dk_21 7 (dk_at dksX7_tell_3 20 rfl rfl)
theorem dX7_tell_91 : decode cX7_tell 91 = .ok (.ifCond .lt 45, 3) := dk_155 0 45 (dk_at dksX7_tell_4 0 rfl rfl)
theorem dX7_tell_94 : decode cX7_tell 94 = .ok (.aload_n 0, 1) := dk_42 (dk_at dksX7_tell_4 3 rfl rfl)
theorem dX7_tell_95 : decode cX7_tell 95 = .ok (.getfield 68, 3) := dk_180 0 68 (dk_at dksX7_tell_4 4 rfl rfl)
theorem dX7_tell_98 : decode cX7_tell 98 = .ok (.aload_n 0, 1) := dk_42 (dk_at dksX7_tell_4 7 rfl rfl)
theorem dX7_tell_99 : decode cX7_tell 99 = .ok (.getfield 39, 3) := dk_180 0 39 (dk_at dksX7_tell_4 8 rfl rfl)
theorem dX7_tell_102 : decode cX7_tell 102 = .ok (.iload 7, 2) := dk_21 7 (dk_at dksX7_tell_4 11 rfl rfl)
theorem dX7_tell_104 : decode cX7_tell 104 = .ok (.saload, 1) := dk_53 (dk_at dksX7_tell_4 13 rfl rfl)
theorem dX7_tell_105 : decode cX7_tell 105 = .ok (.invokevirtual 87, 3) := dk_182 0 87 (dk_at dksX7_tell_4 14 rfl rfl)
theorem dX7_tell_108 : decode cX7_tell 108 = .ok (.iload 6, 2) := dk_21 6 (dk_at dksX7_tell_4 17 rfl rfl)
theorem dX7_tell_110 : decode cX7_tell 110 = .ok (.iadd, 1) := dk_96 (dk_at dksX7_tell_4 19 rfl rfl)
theorem dX7_tell_111 : decode cX7_tell 111 = .ok (.iload 4, 2) := dk_21 4 (dk_at dksX7_tell_4 20 rfl rfl)
theorem dX7_tell_113 : decode cX7_tell 113 = .ok (.if_icmp .gt 17, 3) := dk_163 0 17 (dk_at dksX7_tell_5 0 rfl rfl)
theorem dX7_tell_116 : decode cX7_tell 116 = .ok (.aload_n 0, 1) := dk_42 (dk_at dksX7_tell_5 3 rfl rfl)
theorem dX7_tell_117 : decode cX7_tell 117 = .ok (.aload_n 1, 1) := dk_43 (dk_at dksX7_tell_5 4 rfl rfl)
theorem dX7_tell_118 : decode cX7_tell 118 = .ok (.iload 5, 2) := dk_21 5 (dk_at dksX7_tell_5 5 rfl rfl)
theorem dX7_tell_120 : decode cX7_tell 120 = .ok (.aload_n 0, 1) := dk_42 (dk_at dksX7_tell_5 7 rfl rfl)
theorem dX7_tell_121 : decode cX7_tell 121 = .ok (.getfield 39, 3) := dk_180 0 39 (dk_at dksX7_tell_5 8 rfl rfl)
theorem dX7_tell_124 : decode cX7_tell 124 = .ok (.iload 7, 2) := dk_21 7 (dk_at dksX7_tell_5 11 rfl rfl)
theorem dX7_tell_126 : decode cX7_tell 126 = .ok (.saload, 1) := dk_53 (dk_at dksX7_tell_5 13 rfl rfl)
theorem dX7_tell_127 : decode cX7_tell 127 = .ok (.invokevirtual 156, 3) := dk_182 0 156 (dk_at dksX7_tell_5 14 rfl rfl)
theorem dX7_tell_130 : decode cX7_tell 130 = .ok (.iinc 7 (-1), 3) := dk_132 7 255 (dk_at dksX7_tell_5 17 rfl rfl)
theorem dX7_tell_133 : decode cX7_tell 133 = .ok (.goto (-44), 3) := dk_167 255 212 (dk_at dksX7_tell_5 20 rfl rfl)
theorem dX7_tell_136 : decode cX7_tell 136 = .ok (.iinc 5 1, 3) := dk_132 5 1 (dk_at dksX7_tell_6 0 rfl rfl)
theorem dX7_tell_139 : decode cX7_tell 139 = .ok (.goto (-124), 3) := dk_167 255 132 (dk_at dksX7_tell_6 3 rfl rfl)
theorem dX7_tell_142 : decode cX7_tell 142 = .ok (.iconst 0, 1) := dk_3 (dk_at dksX7_tell_6 6 rfl rfl)
theorem dX7_tell_143 : decode cX7_tell 143 = .ok (.istore 5, 2) := dk_54 5 (dk_at dksX7_tell_6 7 rfl rfl)
theorem dX7_tell_145 : decode cX7_tell 145 = .ok (.iload 5, 2) := dk_21 5 (dk_at dksX7_tell_6 9 rfl rfl)
theorem dX7_tell_147 : decode cX7_tell 147 = .ok (.aload_n 0, 1) := dk_42 (dk_at dksX7_tell_6 11 rfl rfl)
theorem dX7_tell_148 : decode cX7_tell 148 = .ok (.getfield 80, 3) := dk_180 0 80 (dk_at dksX7_tell_6 12 rfl rfl)
theorem dX7_tell_151 : decode cX7_tell 151 = .ok (.if_icmp .ge 73, 3) := dk_162 0 73 (dk_at dksX7_tell_6 15 rfl rfl)
theorem dX7_tell_154 : decode cX7_tell 154 = .ok (.iload 5, 2) := dk_21 5 (dk_at dksX7_tell_6 18 rfl rfl)
theorem dX7_tell_156 : decode cX7_tell 156 = .ok (.istore 6, 2) := dk_54 6 (dk_at dksX7_tell_6 20 rfl rfl)
theorem dX7_tell_158 : decode cX7_tell 158 = .ok (.iload 6, 2) := dk_21 6 (dk_at dksX7_tell_6 22 rfl rfl)
theorem dX7_tell_160 : decode cX7_tell 160 = .ok (.ifCond .le 49, 3) := dk_158 0 49 (dk_at dksX7_tell_7 0 rfl rfl)
theorem dX7_tell_163 : decode cX7_tell 163 = .ok (.aload_n 0, 1) := dk_42 (dk_at dksX7_tell_7 3 rfl rfl)
theorem dX7_tell_164 : decode cX7_tell 164 = .ok (.getfield 46, 3) := dk_180 0 46 (dk_at dksX7_tell_7 4 rfl rfl)
theorem dX7_tell_167 : decode cX7_tell 167 = .ok (.aload_n 0, 1) := dk_42 (dk_at dksX7_tell_7 7 rfl rfl)
theorem dX7_tell_168 : decode cX7_tell 168 = .ok (.getfield 49, 3) := dk_180 0 49 (dk_at dksX7_tell_7 8 rfl rfl)
theorem dX7_tell_171 : decode cX7_tell 171 = .ok (.iload 6, 2) := dk_21 6 (dk_at dksX7_tell_7 11 rfl rfl)
theorem dX7_tell_173 : decode cX7_tell 173 = .ok (.iconst 1, 1) := dk_4 (dk_at dksX7_tell_7 13 rfl rfl)
theorem dX7_tell_174 : decode cX7_tell 174 = .ok (.isub, 1) := dk_100 (dk_at dksX7_tell_7 14 rfl rfl)
theorem dX7_tell_175 : decode cX7_tell 175 = .ok (.iaload, 1) := dk_46 (dk_at dksX7_tell_7 15 rfl rfl)
theorem dX7_tell_176 : decode cX7_tell 176 = .ok (.iaload, 1) := dk_46 (dk_at dksX7_tell_7 16 rfl rfl)
theorem dX7_tell_177 : decode cX7_tell 177 = .ok (.aload_n 0, 1) := dk_42 (dk_at dksX7_tell_7 17 rfl rfl)
theorem dX7_tell_178 : decode cX7_tell 178 = .ok (.getfield 46, 3) := dk_180 0 46 (dk_at dksX7_tell_7 18 rfl rfl)
theorem dX7_tell_181 : decode cX7_tell 181 = .ok (.iload 5, 2) := dk_21 5 (dk_at dksX7_tell_7 21 rfl rfl)
theorem dX7_tell_183 : decode cX7_tell 183 = .ok (.iaload, 1) := dk_46 (dk_at dksX7_tell_7 23 rfl rfl)
theorem dX7_tell_184 : decode cX7_tell 184 = .ok (.if_icmp .le 25, 3) := dk_164 0 25 (dk_at dksX7_tell_8 0 rfl rfl)
theorem dX7_tell_187 : decode cX7_tell 187 = .ok (.aload_n 0, 1) := dk_42 (dk_at dksX7_tell_8 3 rfl rfl)
theorem dX7_tell_188 : decode cX7_tell 188 = .ok (.getfield 49, 3) := dk_180 0 49 (dk_at dksX7_tell_8 4 rfl rfl)
theorem dX7_tell_191 : decode cX7_tell 191 = .ok (.iload 6, 2) := dk_21 6 (dk_at dksX7_tell_8 7 rfl rfl)
theorem dX7_tell_193 : decode cX7_tell 193 = .ok (.aload_n 0, 1) := dk_42 (dk_at dksX7_tell_8 9 rfl rfl)
theorem dX7_tell_194 : decode cX7_tell 194 = .ok (.getfield 49, 3) := dk_180 0 49 (dk_at dksX7_tell_8 10 rfl rfl)
theorem dX7_tell_197 : decode cX7_tell 197 = .ok (.iload 6, 2) := dk_21 6 (dk_at dksX7_tell_8 13 rfl rfl)
theorem dX7_tell_199 : decode cX7_tell 199 = .ok (.iconst 1, 1) := dk_4 (dk_at dksX7_tell_8 15 rfl rfl)
theorem dX7_tell_200 : decode cX7_tell 200 = .ok (.isub, 1) := dk_100 (dk_at dksX7_tell_8 16 rfl rfl)
theorem dX7_tell_201 : decode cX7_tell 201 = .ok (.iaload, 1) := dk_46 (dk_at dksX7_tell_8 17 rfl rfl)
theorem dX7_tell_202 : decode cX7_tell 202 = .ok (.iastore, 1) := dk_79 (dk_at dksX7_tell_8 18 rfl rfl)
theorem dX7_tell_203 : decode cX7_tell 203 = .ok (.iinc 6 (-1), 3) := dk_132 6 255 (dk_at dksX7_tell_8 19 rfl rfl)
theorem dX7_tell_206 : decode cX7_tell 206 = .ok (.goto (-48), 3) := dk_167 255 208 (dk_at dksX7_tell_9 0 rfl rfl)
theorem dX7_tell_209 : decode cX7_tell 209 = .ok (.aload_n 0, 1) := dk_42 (dk_at dksX7_tell_9 3 rfl rfl)
theorem dX7_tell_210 : decode cX7_tell 210 = .ok (.getfield 49, 3) := dk_180 0 49 (dk_at dksX7_tell_9 4 rfl rfl)
theorem dX7_tell_213 : decode cX7_tell 213 = .ok (.iload 6, 2) := dk_21 6 (dk_at dksX7_tell_9 7 rfl rfl)
theorem dX7_tell_215 : decode cX7_tell 215 = .ok (.iload 5, 2) := dk_21 5 (dk_at dksX7_tell_9 9 rfl rfl)
theorem dX7_tell_217 : decode cX7_tell 217 = .ok (.iastore, 1) := dk_79 (dk_at dksX7_tell_9 11 rfl rfl)
theorem dX7_tell_218 : decode cX7_tell 218 = .ok (.iinc 5 1, 3) := dk_132 5 1 (dk_at dksX7_tell_9 12 rfl rfl)
theorem dX7_tell_221 : decode cX7_tell 221 = .ok (.goto (-76), 3) := dk_167 255 180 (dk_at dksX7_tell_9 15 rfl rfl)
theorem dX7_tell_224 : decode cX7_tell 224 = .ok (.return_, 1) := dk_177 (dk_at dksX7_tell_9 18 rfl rfl)
abbrev cX7_begin : ByteArray := prog_14_method_2_code
def yX7_begin : MethodName := ⟨RX7, "begin", "(LIdealCourt$Ranks;I)V"⟩
def dkwX7_begin_6 : List UInt8 := [180, 0, 43, 42, 180, 0, 39, 21, 4, 53, 21, 4, 79, 132, 4, 1, 167, 255, 232, 177]
abbrev dktX7_begin_6 : List UInt8 := dkwX7_begin_6 ++ []
def dkwX7_begin_5 : List UInt8 := [21, 4, 147, 86, 132, 3, 1, 132, 4, 1, 167, 255, 157, 3, 54, 4, 21, 4, 16, 35, 162, 0, 23, 42]
abbrev dktX7_begin_5 : List UInt8 := dkwX7_begin_5 ++ dktX7_begin_6
def dkwX7_begin_4 : List UInt8 := [21, 5, 42, 180, 0, 39, 21, 5, 4, 100, 53, 86, 132, 5, 255, 167, 255, 212, 42, 180, 0, 39, 21, 5]
abbrev dktX7_begin_4 : List UInt8 := dkwX7_begin_4 ++ dktX7_begin_5
def dkwX7_begin_3 : List UInt8 := [21, 4, 42, 180, 0, 39, 21, 5, 4, 100, 53, 185, 0, 93, 3, 0, 158, 0, 25, 42, 180, 0, 39]
abbrev dktX7_begin_3 : List UInt8 := dkwX7_begin_3 ++ dktX7_begin_4
def dkwX7_begin_2 : List UInt8 := [180, 0, 68, 21, 4, 182, 0, 87, 7, 164, 0, 6, 167, 0, 66, 29, 54, 5, 21, 5, 158, 0, 45, 43]
abbrev dktX7_begin_2 : List UInt8 := dkwX7_begin_2 ++ dktX7_begin_3
def dkwX7_begin_1 : List UInt8 := [62, 3, 54, 4, 21, 4, 17, 1, 199, 162, 0, 97, 42, 180, 0, 43, 21, 4, 16, 249, 79, 42]
abbrev dktX7_begin_1 : List UInt8 := dkwX7_begin_1 ++ dktX7_begin_2
def dkwX7_begin_0 : List UInt8 := [42, 43, 181, 0, 76, 42, 3, 181, 0, 80, 42, 28, 181, 0, 61, 42, 180, 0, 22, 10, 182, 0, 83, 3]
abbrev dktX7_begin_0 : List UInt8 := dkwX7_begin_0 ++ dktX7_begin_1
theorem dksX7_begin_0 : cX7_begin.data.toList.drop 0 = dktX7_begin_0 := by decide +kernel
theorem dksX7_begin_1 : cX7_begin.data.toList.drop 24 = dktX7_begin_1 := dk_seg dksX7_begin_0 24 rfl rfl
theorem dksX7_begin_2 : cX7_begin.data.toList.drop 46 = dktX7_begin_2 := dk_seg dksX7_begin_1 22 rfl rfl
theorem dksX7_begin_3 : cX7_begin.data.toList.drop 70 = dktX7_begin_3 := dk_seg dksX7_begin_2 24 rfl rfl
theorem dksX7_begin_4 : cX7_begin.data.toList.drop 93 = dktX7_begin_4 := dk_seg dksX7_begin_3 23 rfl rfl
theorem dksX7_begin_5 : cX7_begin.data.toList.drop 117 = dktX7_begin_5 := dk_seg dksX7_begin_4 24 rfl rfl
theorem dksX7_begin_6 : cX7_begin.data.toList.drop 141 = dktX7_begin_6 := dk_seg dksX7_begin_5 24 rfl rfl
theorem dX7_begin_0 : decode cX7_begin 0 = .ok (.aload_n 0, 1) := dk_42 (dk_at dksX7_begin_0 0 rfl rfl)
theorem dX7_begin_1 : decode cX7_begin 1 = .ok (.aload_n 1, 1) := dk_43 (dk_at dksX7_begin_0 1 rfl rfl)
theorem dX7_begin_2 : decode cX7_begin 2 = .ok (.putfield 76, 3) := dk_181 0 76 (dk_at dksX7_begin_0 2 rfl rfl)
theorem dX7_begin_5 : decode cX7_begin 5 = .ok (.aload_n 0, 1) := dk_42 (dk_at dksX7_begin_0 5 rfl rfl)
theorem dX7_begin_6 : decode cX7_begin 6 = .ok (.iconst 0, 1) := dk_3 (dk_at dksX7_begin_0 6 rfl rfl)
theorem dX7_begin_7 : decode cX7_begin 7 = .ok (.putfield 80, 3) := dk_181 0 80 (dk_at dksX7_begin_0 7 rfl rfl)
theorem dX7_begin_10 : decode cX7_begin 10 = .ok (.aload_n 0, 1) := dk_42 (dk_at dksX7_begin_0 10 rfl rfl)
theorem dX7_begin_11 : decode cX7_begin 11 = .ok (.iload_n 2, 1) := dk_28 (dk_at dksX7_begin_0 11 rfl rfl)
theorem dX7_begin_12 : decode cX7_begin 12 = .ok (.putfield 61, 3) := dk_181 0 61 (dk_at dksX7_begin_0 12 rfl rfl)
theorem dX7_begin_15 : decode cX7_begin 15 = .ok (.aload_n 0, 1) := dk_42 (dk_at dksX7_begin_0 15 rfl rfl)
theorem dX7_begin_16 : decode cX7_begin 16 = .ok (.getfield 22, 3) := dk_180 0 22 (dk_at dksX7_begin_0 16 rfl rfl)
theorem dX7_begin_19 : decode cX7_begin 19 = .ok (.lconst 1, 1) := dk_10 (dk_at dksX7_begin_0 19 rfl rfl)
theorem dX7_begin_20 : decode cX7_begin 20 = .ok (.invokevirtual 83, 3) := dk_182 0 83 (dk_at dksX7_begin_0 20 rfl rfl)
theorem dX7_begin_23 : decode cX7_begin 23 = .ok (.iconst 0, 1) := dk_3 (dk_at dksX7_begin_0 23 rfl rfl)
theorem dX7_begin_24 : decode cX7_begin 24 = .ok (.istore_n 3, 1) := dk_62 (dk_at dksX7_begin_1 0 rfl rfl)
theorem dX7_begin_25 : decode cX7_begin 25 = .ok (.iconst 0, 1) := dk_3 (dk_at dksX7_begin_1 1 rfl rfl)
theorem dX7_begin_26 : decode cX7_begin 26 = .ok (.istore 4, 2) := dk_54 4 (dk_at dksX7_begin_1 2 rfl rfl)
theorem dX7_begin_28 : decode cX7_begin 28 = .ok (.iload 4, 2) := dk_21 4 (dk_at dksX7_begin_1 4 rfl rfl)
theorem dX7_begin_30 : decode cX7_begin 30 = .ok (.sipush 455, 3) := dk_17 1 199 (dk_at dksX7_begin_1 6 rfl rfl)
theorem dX7_begin_33 : decode cX7_begin 33 = .ok (.if_icmp .ge 97, 3) := dk_162 0 97 (dk_at dksX7_begin_1 9 rfl rfl)
theorem dX7_begin_36 : decode cX7_begin 36 = .ok (.aload_n 0, 1) := dk_42 (dk_at dksX7_begin_1 12 rfl rfl)
theorem dX7_begin_37 : decode cX7_begin 37 = .ok (.getfield 43, 3) := dk_180 0 43 (dk_at dksX7_begin_1 13 rfl rfl)
theorem dX7_begin_40 : decode cX7_begin 40 = .ok (.iload 4, 2) := dk_21 4 (dk_at dksX7_begin_1 16 rfl rfl)
theorem dX7_begin_42 : decode cX7_begin 42 = .ok (.bipush (-7), 2) := dk_16 249 (dk_at dksX7_begin_1 18 rfl rfl)
theorem dX7_begin_44 : decode cX7_begin 44 = .ok (.iastore, 1) := dk_79 (dk_at dksX7_begin_1 20 rfl rfl)
theorem dX7_begin_45 : decode cX7_begin 45 = .ok (.aload_n 0, 1) := dk_42 (dk_at dksX7_begin_1 21 rfl rfl)
theorem dX7_begin_46 : decode cX7_begin 46 = .ok (.getfield 68, 3) := dk_180 0 68 (dk_at dksX7_begin_2 0 rfl rfl)
theorem dX7_begin_49 : decode cX7_begin 49 = .ok (.iload 4, 2) := dk_21 4 (dk_at dksX7_begin_2 3 rfl rfl)
theorem dX7_begin_51 : decode cX7_begin 51 = .ok (.invokevirtual 87, 3) := dk_182 0 87 (dk_at dksX7_begin_2 5 rfl rfl)
theorem dX7_begin_54 : decode cX7_begin 54 = .ok (.iconst 4, 1) := dk_7 (dk_at dksX7_begin_2 8 rfl rfl)
theorem dX7_begin_55 : decode cX7_begin 55 = .ok (.if_icmp .le 6, 3) := dk_164 0 6 (dk_at dksX7_begin_2 9 rfl rfl)
theorem dX7_begin_58 : decode cX7_begin 58 = .ok (.goto 66, 3) := dk_167 0 66 (dk_at dksX7_begin_2 12 rfl rfl)
theorem dX7_begin_61 : decode cX7_begin 61 = .ok (.iload_n 3, 1) := dk_29 (dk_at dksX7_begin_2 15 rfl rfl)
theorem dX7_begin_62 : decode cX7_begin 62 = .ok (.istore 5, 2) := dk_54 5 (dk_at dksX7_begin_2 16 rfl rfl)
theorem dX7_begin_64 : decode cX7_begin 64 = .ok (.iload 5, 2) := dk_21 5 (dk_at dksX7_begin_2 18 rfl rfl)
theorem dX7_begin_66 : decode cX7_begin 66 = .ok (.ifCond .le 45, 3) := dk_158 0 45 (dk_at dksX7_begin_2 20 rfl rfl)
theorem dX7_begin_69 : decode cX7_begin 69 = .ok (.aload_n 1, 1) := dk_43 (dk_at dksX7_begin_2 23 rfl rfl)
theorem dX7_begin_70 : decode cX7_begin 70 = .ok (.iload 4, 2) := dk_21 4 (dk_at dksX7_begin_3 0 rfl rfl)
theorem dX7_begin_72 : decode cX7_begin 72 = .ok (.aload_n 0, 1) := dk_42 (dk_at dksX7_begin_3 2 rfl rfl)
theorem dX7_begin_73 : decode cX7_begin 73 = .ok (.getfield 39, 3) := dk_180 0 39 (dk_at dksX7_begin_3 3 rfl rfl)
theorem dX7_begin_76 : decode cX7_begin 76 = .ok (.iload 5, 2) := dk_21 5 (dk_at dksX7_begin_3 6 rfl rfl)
theorem dX7_begin_78 : decode cX7_begin 78 = .ok (.iconst 1, 1) := dk_4 (dk_at dksX7_begin_3 8 rfl rfl)
theorem dX7_begin_79 : decode cX7_begin 79 = .ok (.isub, 1) := dk_100 (dk_at dksX7_begin_3 9 rfl rfl)
theorem dX7_begin_80 : decode cX7_begin 80 = .ok (.saload, 1) := dk_53 (dk_at dksX7_begin_3 10 rfl rfl)
theorem dX7_begin_81 : decode cX7_begin 81 = .ok (.invokeinterface 93 3, 5) := by decide +kernel
theorem dX7_begin_86 : decode cX7_begin 86 = .ok (.ifCond .le 25, 3) := dk_158 0 25 (dk_at dksX7_begin_3 16 rfl rfl)
theorem dX7_begin_89 : decode cX7_begin 89 = .ok (.aload_n 0, 1) := dk_42 (dk_at dksX7_begin_3 19 rfl rfl)
theorem dX7_begin_90 : decode cX7_begin 90 = .ok (.getfield 39, 3) := dk_180 0 39 (dk_at dksX7_begin_3 20 rfl rfl)
theorem dX7_begin_93 : decode cX7_begin 93 = .ok (.iload 5, 2) := dk_21 5 (dk_at dksX7_begin_4 0 rfl rfl)
theorem dX7_begin_95 : decode cX7_begin 95 = .ok (.aload_n 0, 1) := dk_42 (dk_at dksX7_begin_4 2 rfl rfl)
theorem dX7_begin_96 : decode cX7_begin 96 = .ok (.getfield 39, 3) := dk_180 0 39 (dk_at dksX7_begin_4 3 rfl rfl)
theorem dX7_begin_99 : decode cX7_begin 99 = .ok (.iload 5, 2) := dk_21 5 (dk_at dksX7_begin_4 6 rfl rfl)
theorem dX7_begin_101 : decode cX7_begin 101 = .ok (.iconst 1, 1) := dk_4 (dk_at dksX7_begin_4 8 rfl rfl)
theorem dX7_begin_102 : decode cX7_begin 102 = .ok (.isub, 1) := dk_100 (dk_at dksX7_begin_4 9 rfl rfl)
theorem dX7_begin_103 : decode cX7_begin 103 = .ok (.saload, 1) := dk_53 (dk_at dksX7_begin_4 10 rfl rfl)
theorem dX7_begin_104 : decode cX7_begin 104 = .ok (.sastore, 1) := dk_86 (dk_at dksX7_begin_4 11 rfl rfl)
theorem dX7_begin_105 : decode cX7_begin 105 = .ok (.iinc 5 (-1), 3) := dk_132 5 255 (dk_at dksX7_begin_4 12 rfl rfl)
theorem dX7_begin_108 : decode cX7_begin 108 = .ok (.goto (-44), 3) := dk_167 255 212 (dk_at dksX7_begin_4 15 rfl rfl)
theorem dX7_begin_111 : decode cX7_begin 111 = .ok (.aload_n 0, 1) := dk_42 (dk_at dksX7_begin_4 18 rfl rfl)
theorem dX7_begin_112 : decode cX7_begin 112 = .ok (.getfield 39, 3) := dk_180 0 39 (dk_at dksX7_begin_4 19 rfl rfl)
theorem dX7_begin_115 : decode cX7_begin 115 = .ok (.iload 5, 2) := dk_21 5 (dk_at dksX7_begin_4 22 rfl rfl)
theorem dX7_begin_117 : decode cX7_begin 117 = .ok (.iload 4, 2) := dk_21 4 (dk_at dksX7_begin_5 0 rfl rfl)
theorem dX7_begin_119 : decode cX7_begin 119 = .ok (.i2s, 1) := dk_147 (dk_at dksX7_begin_5 2 rfl rfl)
theorem dX7_begin_120 : decode cX7_begin 120 = .ok (.sastore, 1) := dk_86 (dk_at dksX7_begin_5 3 rfl rfl)
theorem dX7_begin_121 : decode cX7_begin 121 = .ok (.iinc 3 1, 3) := dk_132 3 1 (dk_at dksX7_begin_5 4 rfl rfl)
theorem dX7_begin_124 : decode cX7_begin 124 = .ok (.iinc 4 1, 3) := dk_132 4 1 (dk_at dksX7_begin_5 7 rfl rfl)
theorem dX7_begin_127 : decode cX7_begin 127 = .ok (.goto (-99), 3) := dk_167 255 157 (dk_at dksX7_begin_5 10 rfl rfl)
theorem dX7_begin_130 : decode cX7_begin 130 = .ok (.iconst 0, 1) := dk_3 (dk_at dksX7_begin_5 13 rfl rfl)
theorem dX7_begin_131 : decode cX7_begin 131 = .ok (.istore 4, 2) := dk_54 4 (dk_at dksX7_begin_5 14 rfl rfl)
theorem dX7_begin_133 : decode cX7_begin 133 = .ok (.iload 4, 2) := dk_21 4 (dk_at dksX7_begin_5 16 rfl rfl)
theorem dX7_begin_135 : decode cX7_begin 135 = .ok (.bipush 35, 2) := dk_16 35 (dk_at dksX7_begin_5 18 rfl rfl)
theorem dX7_begin_137 : decode cX7_begin 137 = .ok (.if_icmp .ge 23, 3) := dk_162 0 23 (dk_at dksX7_begin_5 20 rfl rfl)
theorem dX7_begin_140 : decode cX7_begin 140 = .ok (.aload_n 0, 1) := dk_42 (dk_at dksX7_begin_5 23 rfl rfl)
theorem dX7_begin_141 : decode cX7_begin 141 = .ok (.getfield 43, 3) := dk_180 0 43 (dk_at dksX7_begin_6 0 rfl rfl)
theorem dX7_begin_144 : decode cX7_begin 144 = .ok (.aload_n 0, 1) := dk_42 (dk_at dksX7_begin_6 3 rfl rfl)
theorem dX7_begin_145 : decode cX7_begin 145 = .ok (.getfield 39, 3) := dk_180 0 39 (dk_at dksX7_begin_6 4 rfl rfl)
theorem dX7_begin_148 : decode cX7_begin 148 = .ok (.iload 4, 2) := dk_21 4 (dk_at dksX7_begin_6 7 rfl rfl)
theorem dX7_begin_150 : decode cX7_begin 150 = .ok (.saload, 1) := dk_53 (dk_at dksX7_begin_6 9 rfl rfl)
theorem dX7_begin_151 : decode cX7_begin 151 = .ok (.iload 4, 2) := dk_21 4 (dk_at dksX7_begin_6 10 rfl rfl)
theorem dX7_begin_153 : decode cX7_begin 153 = .ok (.iastore, 1) := dk_79 (dk_at dksX7_begin_6 12 rfl rfl)
theorem dX7_begin_154 : decode cX7_begin 154 = .ok (.iinc 4 1, 3) := dk_132 4 1 (dk_at dksX7_begin_6 13 rfl rfl)
theorem dX7_begin_157 : decode cX7_begin 157 = .ok (.goto (-24), 3) := dk_167 255 232 (dk_at dksX7_begin_6 16 rfl rfl)
theorem dX7_begin_160 : decode cX7_begin 160 = .ok (.return_, 1) := dk_177 (dk_at dksX7_begin_6 19 rfl rfl)
abbrev cX7_multiple : ByteArray := prog_14_method_10_code
def yX7_multiple : MethodName := ⟨RX7, "multiple", "([III)V"⟩
def dkwX7_multiple_3 : List UInt8 := [104, 21, 4, 96, 46, 79, 132, 4, 1, 167, 255, 202, 42, 28, 29, 182, 0, 162, 177]
abbrev dktX7_multiple_3 : List UInt8 := dkwX7_multiple_3 ++ []
def dkwX7_multiple_2 : List UInt8 := [42, 180, 0, 58, 42, 180, 0, 43, 42, 180, 0, 68, 21, 4, 29, 182, 0, 160, 46, 43, 17, 1, 199, 28]
abbrev dktX7_multiple_2 : List UInt8 := dkwX7_multiple_2 ++ dktX7_multiple_3
def dkwX7_multiple_1 : List UInt8 := [3, 54, 4, 21, 4, 17, 1, 199, 162, 0, 52, 43, 17, 1, 199, 28, 104, 21, 4, 96, 46, 153, 0, 33]
abbrev dktX7_multiple_1 : List UInt8 := dkwX7_multiple_1 ++ dktX7_multiple_2
def dkwX7_multiple_0 : List UInt8 := [3, 54, 4, 21, 4, 16, 35, 162, 0, 17, 42, 180, 0, 58, 21, 4, 3, 79, 132, 4, 1, 167, 255, 238]
abbrev dktX7_multiple_0 : List UInt8 := dkwX7_multiple_0 ++ dktX7_multiple_1
theorem dksX7_multiple_0 : cX7_multiple.data.toList.drop 0 = dktX7_multiple_0 := by decide +kernel
theorem dksX7_multiple_1 : cX7_multiple.data.toList.drop 24 = dktX7_multiple_1 := dk_seg dksX7_multiple_0 24 rfl rfl
theorem dksX7_multiple_2 : cX7_multiple.data.toList.drop 48 = dktX7_multiple_2 := dk_seg dksX7_multiple_1 24 rfl rfl
theorem dksX7_multiple_3 : cX7_multiple.data.toList.drop 72 = dktX7_multiple_3 := dk_seg dksX7_multiple_2 24 rfl rfl
theorem dX7_multiple_0 : decode cX7_multiple 0 = .ok (.iconst 0, 1) := dk_3 (dk_at dksX7_multiple_0 0 rfl rfl)
theorem dX7_multiple_1 : decode cX7_multiple 1 = .ok (.istore 4, 2) := dk_54 4 (dk_at dksX7_multiple_0 1 rfl rfl)
theorem dX7_multiple_3 : decode cX7_multiple 3 = .ok (.iload 4, 2) := dk_21 4 (dk_at dksX7_multiple_0 3 rfl rfl)
theorem dX7_multiple_5 : decode cX7_multiple 5 = .ok (.bipush 35, 2) := dk_16 35 (dk_at dksX7_multiple_0 5 rfl rfl)
theorem dX7_multiple_7 : decode cX7_multiple 7 = .ok (.if_icmp .ge 17, 3) := dk_162 0 17 (dk_at dksX7_multiple_0 7 rfl rfl)
theorem dX7_multiple_10 : decode cX7_multiple 10 = .ok (.aload_n 0, 1) := dk_42 (dk_at dksX7_multiple_0 10 rfl rfl)
theorem dX7_multiple_11 : decode cX7_multiple 11 = .ok (.getfield 58, 3) := dk_180 0 58 (dk_at dksX7_multiple_0 11 rfl rfl)
theorem dX7_multiple_14 : decode cX7_multiple 14 = .ok (.iload 4, 2) := dk_21 4 (dk_at dksX7_multiple_0 14 rfl rfl)
theorem dX7_multiple_16 : decode cX7_multiple 16 = .ok (.iconst 0, 1) := dk_3 (dk_at dksX7_multiple_0 16 rfl rfl)
theorem dX7_multiple_17 : decode cX7_multiple 17 = .ok (.iastore, 1) := dk_79 (dk_at dksX7_multiple_0 17 rfl rfl)
theorem dX7_multiple_18 : decode cX7_multiple 18 = .ok (.iinc 4 1, 3) := dk_132 4 1 (dk_at dksX7_multiple_0 18 rfl rfl)
theorem dX7_multiple_21 : decode cX7_multiple 21 = .ok (.goto (-18), 3) := dk_167 255 238 (dk_at dksX7_multiple_0 21 rfl rfl)
theorem dX7_multiple_24 : decode cX7_multiple 24 = .ok (.iconst 0, 1) := dk_3 (dk_at dksX7_multiple_1 0 rfl rfl)
theorem dX7_multiple_25 : decode cX7_multiple 25 = .ok (.istore 4, 2) := dk_54 4 (dk_at dksX7_multiple_1 1 rfl rfl)
theorem dX7_multiple_27 : decode cX7_multiple 27 = .ok (.iload 4, 2) := dk_21 4 (dk_at dksX7_multiple_1 3 rfl rfl)
theorem dX7_multiple_29 : decode cX7_multiple 29 = .ok (.sipush 455, 3) := dk_17 1 199 (dk_at dksX7_multiple_1 5 rfl rfl)
theorem dX7_multiple_32 : decode cX7_multiple 32 = .ok (.if_icmp .ge 52, 3) := dk_162 0 52 (dk_at dksX7_multiple_1 8 rfl rfl)
theorem dX7_multiple_35 : decode cX7_multiple 35 = .ok (.aload_n 1, 1) := dk_43 (dk_at dksX7_multiple_1 11 rfl rfl)
theorem dX7_multiple_36 : decode cX7_multiple 36 = .ok (.sipush 455, 3) := dk_17 1 199 (dk_at dksX7_multiple_1 12 rfl rfl)
theorem dX7_multiple_39 : decode cX7_multiple 39 = .ok (.iload_n 2, 1) := dk_28 (dk_at dksX7_multiple_1 15 rfl rfl)
theorem dX7_multiple_40 : decode cX7_multiple 40 = .ok (.imul, 1) := dk_104 (dk_at dksX7_multiple_1 16 rfl rfl)
theorem dX7_multiple_41 : decode cX7_multiple 41 = .ok (.iload 4, 2) := dk_21 4 (dk_at dksX7_multiple_1 17 rfl rfl)
theorem dX7_multiple_43 : decode cX7_multiple 43 = .ok (.iadd, 1) := dk_96 (dk_at dksX7_multiple_1 19 rfl rfl)
theorem dX7_multiple_44 : decode cX7_multiple 44 = .ok (.iaload, 1) := dk_46 (dk_at dksX7_multiple_1 20 rfl rfl)
theorem dX7_multiple_45 : decode cX7_multiple 45 = .ok (.ifCond .eq 33, 3) := dk_153 0 33 (dk_at dksX7_multiple_1 21 rfl rfl)
theorem dX7_multiple_48 : decode cX7_multiple 48 = .ok (.aload_n 0, 1) := dk_42 (dk_at dksX7_multiple_2 0 rfl rfl)
theorem dX7_multiple_49 : decode cX7_multiple 49 = .ok (.getfield 58, 3) := dk_180 0 58 (dk_at dksX7_multiple_2 1 rfl rfl)
theorem dX7_multiple_52 : decode cX7_multiple 52 = .ok (.aload_n 0, 1) := dk_42 (dk_at dksX7_multiple_2 4 rfl rfl)
theorem dX7_multiple_53 : decode cX7_multiple 53 = .ok (.getfield 43, 3) := dk_180 0 43 (dk_at dksX7_multiple_2 5 rfl rfl)
theorem dX7_multiple_56 : decode cX7_multiple 56 = .ok (.aload_n 0, 1) := dk_42 (dk_at dksX7_multiple_2 8 rfl rfl)
theorem dX7_multiple_57 : decode cX7_multiple 57 = .ok (.getfield 68, 3) := dk_180 0 68 (dk_at dksX7_multiple_2 9 rfl rfl)
theorem dX7_multiple_60 : decode cX7_multiple 60 = .ok (.iload 4, 2) := dk_21 4 (dk_at dksX7_multiple_2 12 rfl rfl)
theorem dX7_multiple_62 : decode cX7_multiple 62 = .ok (.iload_n 3, 1) := dk_29 (dk_at dksX7_multiple_2 14 rfl rfl)
theorem dX7_multiple_63 : decode cX7_multiple 63 = .ok (.invokevirtual 160, 3) := dk_182 0 160 (dk_at dksX7_multiple_2 15 rfl rfl)
theorem dX7_multiple_66 : decode cX7_multiple 66 = .ok (.iaload, 1) := dk_46 (dk_at dksX7_multiple_2 18 rfl rfl)
theorem dX7_multiple_67 : decode cX7_multiple 67 = .ok (.aload_n 1, 1) := dk_43 (dk_at dksX7_multiple_2 19 rfl rfl)
theorem dX7_multiple_68 : decode cX7_multiple 68 = .ok (.sipush 455, 3) := dk_17 1 199 (dk_at dksX7_multiple_2 20 rfl rfl)
theorem dX7_multiple_71 : decode cX7_multiple 71 = .ok (.iload_n 2, 1) := dk_28 (dk_at dksX7_multiple_2 23 rfl rfl)
theorem dX7_multiple_72 : decode cX7_multiple 72 = .ok (.imul, 1) := dk_104 (dk_at dksX7_multiple_3 0 rfl rfl)
theorem dX7_multiple_73 : decode cX7_multiple 73 = .ok (.iload 4, 2) := dk_21 4 (dk_at dksX7_multiple_3 1 rfl rfl)
theorem dX7_multiple_75 : decode cX7_multiple 75 = .ok (.iadd, 1) := dk_96 (dk_at dksX7_multiple_3 3 rfl rfl)
theorem dX7_multiple_76 : decode cX7_multiple 76 = .ok (.iaload, 1) := dk_46 (dk_at dksX7_multiple_3 4 rfl rfl)
theorem dX7_multiple_77 : decode cX7_multiple 77 = .ok (.iastore, 1) := dk_79 (dk_at dksX7_multiple_3 5 rfl rfl)
theorem dX7_multiple_78 : decode cX7_multiple 78 = .ok (.iinc 4 1, 3) := dk_132 4 1 (dk_at dksX7_multiple_3 6 rfl rfl)
theorem dX7_multiple_81 : decode cX7_multiple 81 = .ok (.goto (-54), 3) := dk_167 255 202 (dk_at dksX7_multiple_3 9 rfl rfl)
theorem dX7_multiple_84 : decode cX7_multiple 84 = .ok (.aload_n 0, 1) := dk_42 (dk_at dksX7_multiple_3 12 rfl rfl)
theorem dX7_multiple_85 : decode cX7_multiple 85 = .ok (.iload_n 2, 1) := dk_28 (dk_at dksX7_multiple_3 13 rfl rfl)
theorem dX7_multiple_86 : decode cX7_multiple 86 = .ok (.iload_n 3, 1) := dk_29 (dk_at dksX7_multiple_3 14 rfl rfl)
theorem dX7_multiple_87 : decode cX7_multiple 87 = .ok (.invokevirtual 162, 3) := dk_182 0 162 (dk_at dksX7_multiple_3 15 rfl rfl)
theorem dX7_multiple_90 : decode cX7_multiple 90 = .ok (.return_, 1) := dk_177 (dk_at dksX7_multiple_3 18 rfl rfl)
abbrev cX7_take : ByteArray := prog_14_method_7_code
def yX7_take : MethodName := ⟨RX7, "take", "(II)V"⟩
def dkwX7_take_7 : List UInt8 := [180, 0, 80, 4, 96, 181, 0, 80, 177]
abbrev dktX7_take_7 : List UInt8 := dkwX7_take_7 ++ []
def dkwX7_take_6 : List UInt8 := [42, 180, 0, 52, 42, 180, 0, 80, 27, 79, 42, 180, 0, 55, 42, 180, 0, 80, 28, 79, 42, 89]
abbrev dktX7_take_6 : List UInt8 := dkwX7_take_6 ++ dktX7_take_7
def dkwX7_take_5 : List UInt8 := [180, 0, 22, 42, 180, 0, 26, 21, 4, 50, 182, 0, 125, 42, 180, 0, 46, 42, 180, 0, 80, 21, 4, 79]
abbrev dktX7_take_5 : List UInt8 := dkwX7_take_5 ++ dktX7_take_6
def dkwX7_take_4 : List UInt8 := [42, 42, 180, 0, 80, 21, 5, 42, 180, 0, 26, 21, 5, 50, 182, 0, 140, 132, 5, 1, 167, 255, 230, 42]
abbrev dktX7_take_4 : List UInt8 := dkwX7_take_4 ++ dktX7_take_5
def dkwX7_take_3 : List UInt8 := [42, 21, 5, 21, 4, 29, 182, 0, 136, 132, 5, 1, 167, 255, 235, 3, 54, 5, 21, 5, 29, 162, 0, 26]
abbrev dktX7_take_3 : List UInt8 := dkwX7_take_3 ++ dktX7_take_4
def dkwX7_take_2 : List UInt8 := [180, 0, 80, 96, 50, 42, 180, 0, 22, 182, 0, 125, 3, 54, 5, 21, 5, 42, 180, 0, 80, 162, 0, 18]
abbrev dktX7_take_2 : List UInt8 := dkwX7_take_2 ++ dktX7_take_3
def dkwX7_take_1 : List UInt8 := [182, 0, 129, 42, 182, 0, 132, 54, 4, 21, 4, 16, 35, 160, 0, 4, 177, 42, 180, 0, 26, 16, 35, 42]
abbrev dktX7_take_1 : List UInt8 := dkwX7_take_1 ++ dktX7_take_2
def dkwX7_take_0 : List UInt8 := [16, 35, 42, 180, 0, 80, 96, 4, 96, 62, 42, 180, 0, 80, 16, 35, 160, 0, 6, 16, 35, 62, 42, 29]
abbrev dktX7_take_0 : List UInt8 := dkwX7_take_0 ++ dktX7_take_1
theorem dksX7_take_0 : cX7_take.data.toList.drop 0 = dktX7_take_0 := by decide +kernel
theorem dksX7_take_1 : cX7_take.data.toList.drop 24 = dktX7_take_1 := dk_seg dksX7_take_0 24 rfl rfl
theorem dksX7_take_2 : cX7_take.data.toList.drop 48 = dktX7_take_2 := dk_seg dksX7_take_1 24 rfl rfl
theorem dksX7_take_3 : cX7_take.data.toList.drop 72 = dktX7_take_3 := dk_seg dksX7_take_2 24 rfl rfl
theorem dksX7_take_4 : cX7_take.data.toList.drop 96 = dktX7_take_4 := dk_seg dksX7_take_3 24 rfl rfl
theorem dksX7_take_5 : cX7_take.data.toList.drop 120 = dktX7_take_5 := dk_seg dksX7_take_4 24 rfl rfl
theorem dksX7_take_6 : cX7_take.data.toList.drop 144 = dktX7_take_6 := dk_seg dksX7_take_5 24 rfl rfl
theorem dksX7_take_7 : cX7_take.data.toList.drop 166 = dktX7_take_7 := dk_seg dksX7_take_6 22 rfl rfl
theorem dX7_take_0 : decode cX7_take 0 = .ok (.bipush 35, 2) := dk_16 35 (dk_at dksX7_take_0 0 rfl rfl)
theorem dX7_take_2 : decode cX7_take 2 = .ok (.aload_n 0, 1) := dk_42 (dk_at dksX7_take_0 2 rfl rfl)
theorem dX7_take_3 : decode cX7_take 3 = .ok (.getfield 80, 3) := dk_180 0 80 (dk_at dksX7_take_0 3 rfl rfl)
theorem dX7_take_6 : decode cX7_take 6 = .ok (.iadd, 1) := dk_96 (dk_at dksX7_take_0 6 rfl rfl)
theorem dX7_take_7 : decode cX7_take 7 = .ok (.iconst 1, 1) := dk_4 (dk_at dksX7_take_0 7 rfl rfl)
theorem dX7_take_8 : decode cX7_take 8 = .ok (.iadd, 1) := dk_96 (dk_at dksX7_take_0 8 rfl rfl)
theorem dX7_take_9 : decode cX7_take 9 = .ok (.istore_n 3, 1) := dk_62 (dk_at dksX7_take_0 9 rfl rfl)
theorem dX7_take_10 : decode cX7_take 10 = .ok (.aload_n 0, 1) := dk_42 (dk_at dksX7_take_0 10 rfl rfl)
theorem dX7_take_11 : decode cX7_take 11 = .ok (.getfield 80, 3) := dk_180 0 80 (dk_at dksX7_take_0 11 rfl rfl)
theorem dX7_take_14 : decode cX7_take 14 = .ok (.bipush 35, 2) := dk_16 35 (dk_at dksX7_take_0 14 rfl rfl)
theorem dX7_take_16 : decode cX7_take 16 = .ok (.if_icmp .ne 6, 3) := dk_160 0 6 (dk_at dksX7_take_0 16 rfl rfl)
theorem dX7_take_19 : decode cX7_take 19 = .ok (.bipush 35, 2) := dk_16 35 (dk_at dksX7_take_0 19 rfl rfl)
theorem dX7_take_21 : decode cX7_take 21 = .ok (.istore_n 3, 1) := dk_62 (dk_at dksX7_take_0 21 rfl rfl)
theorem dX7_take_22 : decode cX7_take 22 = .ok (.aload_n 0, 1) := dk_42 (dk_at dksX7_take_0 22 rfl rfl)
theorem dX7_take_23 : decode cX7_take 23 = .ok (.iload_n 3, 1) := dk_29 (dk_at dksX7_take_0 23 rfl rfl)
theorem dX7_take_24 : decode cX7_take 24 = .ok (.invokevirtual 129, 3) := dk_182 0 129 (dk_at dksX7_take_1 0 rfl rfl)
theorem dX7_take_27 : decode cX7_take 27 = .ok (.aload_n 0, 1) := dk_42 (dk_at dksX7_take_1 3 rfl rfl)
theorem dX7_take_28 : decode cX7_take 28 = .ok (.invokevirtual 132, 3) := dk_182 0 132 (dk_at dksX7_take_1 4 rfl rfl)
theorem dX7_take_31 : decode cX7_take 31 = .ok (.istore 4, 2) := dk_54 4 (dk_at dksX7_take_1 7 rfl rfl)
theorem dX7_take_33 : decode cX7_take 33 = .ok (.iload 4, 2) := dk_21 4 (dk_at dksX7_take_1 9 rfl rfl)
theorem dX7_take_35 : decode cX7_take 35 = .ok (.bipush 35, 2) := dk_16 35 (dk_at dksX7_take_1 11 rfl rfl)
theorem dX7_take_37 : decode cX7_take 37 = .ok (.if_icmp .ne 4, 3) := dk_160 0 4 (dk_at dksX7_take_1 13 rfl rfl)
theorem dX7_take_40 : decode cX7_take 40 = .ok (.return_, 1) := dk_177 (dk_at dksX7_take_1 16 rfl rfl)
theorem dX7_take_41 : decode cX7_take 41 = .ok (.aload_n 0, 1) := dk_42 (dk_at dksX7_take_1 17 rfl rfl)
theorem dX7_take_42 : decode cX7_take 42 = .ok (.getfield 26, 3) := dk_180 0 26 (dk_at dksX7_take_1 18 rfl rfl)
theorem dX7_take_45 : decode cX7_take 45 = .ok (.bipush 35, 2) := dk_16 35 (dk_at dksX7_take_1 21 rfl rfl)
theorem dX7_take_47 : decode cX7_take 47 = .ok (.aload_n 0, 1) := dk_42 (dk_at dksX7_take_1 23 rfl rfl)
theorem dX7_take_48 : decode cX7_take 48 = .ok (.getfield 80, 3) := dk_180 0 80 (dk_at dksX7_take_2 0 rfl rfl)
theorem dX7_take_51 : decode cX7_take 51 = .ok (.iadd, 1) := dk_96 (dk_at dksX7_take_2 3 rfl rfl)
theorem dX7_take_52 : decode cX7_take 52 = .ok (.aaload, 1) := dk_50 (dk_at dksX7_take_2 4 rfl rfl)
theorem dX7_take_53 : decode cX7_take 53 = .ok (.aload_n 0, 1) := dk_42 (dk_at dksX7_take_2 5 rfl rfl)
theorem dX7_take_54 : decode cX7_take 54 = .ok (.getfield 22, 3) := dk_180 0 22 (dk_at dksX7_take_2 6 rfl rfl)
theorem dX7_take_57 : decode cX7_take 57 = .ok (.invokevirtual 125, 3) := dk_182 0 125 (dk_at dksX7_take_2 9 rfl rfl)
theorem dX7_take_60 : decode cX7_take 60 = .ok (.iconst 0, 1) := dk_3 (dk_at dksX7_take_2 12 rfl rfl)
theorem dX7_take_61 : decode cX7_take 61 = .ok (.istore 5, 2) := dk_54 5 (dk_at dksX7_take_2 13 rfl rfl)
theorem dX7_take_63 : decode cX7_take 63 = .ok (.iload 5, 2) := dk_21 5 (dk_at dksX7_take_2 15 rfl rfl)
theorem dX7_take_65 : decode cX7_take 65 = .ok (.aload_n 0, 1) := dk_42 (dk_at dksX7_take_2 17 rfl rfl)
theorem dX7_take_66 : decode cX7_take 66 = .ok (.getfield 80, 3) := dk_180 0 80 (dk_at dksX7_take_2 18 rfl rfl)
theorem dX7_take_69 : decode cX7_take 69 = .ok (.if_icmp .ge 18, 3) := dk_162 0 18 (dk_at dksX7_take_2 21 rfl rfl)
theorem dX7_take_72 : decode cX7_take 72 = .ok (.aload_n 0, 1) := dk_42 (dk_at dksX7_take_3 0 rfl rfl)
theorem dX7_take_73 : decode cX7_take 73 = .ok (.iload 5, 2) := dk_21 5 (dk_at dksX7_take_3 1 rfl rfl)
theorem dX7_take_75 : decode cX7_take 75 = .ok (.iload 4, 2) := dk_21 4 (dk_at dksX7_take_3 3 rfl rfl)
theorem dX7_take_77 : decode cX7_take 77 = .ok (.iload_n 3, 1) := dk_29 (dk_at dksX7_take_3 5 rfl rfl)
theorem dX7_take_78 : decode cX7_take 78 = .ok (.invokevirtual 136, 3) := dk_182 0 136 (dk_at dksX7_take_3 6 rfl rfl)
theorem dX7_take_81 : decode cX7_take 81 = .ok (.iinc 5 1, 3) := dk_132 5 1 (dk_at dksX7_take_3 9 rfl rfl)
theorem dX7_take_84 : decode cX7_take 84 = .ok (.goto (-21), 3) := dk_167 255 235 (dk_at dksX7_take_3 12 rfl rfl)
theorem dX7_take_87 : decode cX7_take 87 = .ok (.iconst 0, 1) := dk_3 (dk_at dksX7_take_3 15 rfl rfl)
theorem dX7_take_88 : decode cX7_take 88 = .ok (.istore 5, 2) := dk_54 5 (dk_at dksX7_take_3 16 rfl rfl)
theorem dX7_take_90 : decode cX7_take 90 = .ok (.iload 5, 2) := dk_21 5 (dk_at dksX7_take_3 18 rfl rfl)
theorem dX7_take_92 : decode cX7_take 92 = .ok (.iload_n 3, 1) := dk_29 (dk_at dksX7_take_3 20 rfl rfl)
theorem dX7_take_93 : decode cX7_take 93 = .ok (.if_icmp .ge 26, 3) := dk_162 0 26 (dk_at dksX7_take_3 21 rfl rfl)
theorem dX7_take_96 : decode cX7_take 96 = .ok (.aload_n 0, 1) := dk_42 (dk_at dksX7_take_4 0 rfl rfl)
theorem dX7_take_97 : decode cX7_take 97 = .ok (.aload_n 0, 1) := dk_42 (dk_at dksX7_take_4 1 rfl rfl)
theorem dX7_take_98 : decode cX7_take 98 = .ok (.getfield 80, 3) := dk_180 0 80 (dk_at dksX7_take_4 2 rfl rfl)
theorem dX7_take_101 : decode cX7_take 101 = .ok (.iload 5, 2) := dk_21 5 (dk_at dksX7_take_4 5 rfl rfl)
theorem dX7_take_103 : decode cX7_take 103 = .ok (.aload_n 0, 1) := dk_42 (dk_at dksX7_take_4 7 rfl rfl)
theorem dX7_take_104 : decode cX7_take 104 = .ok (.getfield 26, 3) := dk_180 0 26 (dk_at dksX7_take_4 8 rfl rfl)
theorem dX7_take_107 : decode cX7_take 107 = .ok (.iload 5, 2) := dk_21 5 (dk_at dksX7_take_4 11 rfl rfl)
theorem dX7_take_109 : decode cX7_take 109 = .ok (.aaload, 1) := dk_50 (dk_at dksX7_take_4 13 rfl rfl)
theorem dX7_take_110 : decode cX7_take 110 = .ok (.invokevirtual 140, 3) := dk_182 0 140 (dk_at dksX7_take_4 14 rfl rfl)
theorem dX7_take_113 : decode cX7_take 113 = .ok (.iinc 5 1, 3) := dk_132 5 1 (dk_at dksX7_take_4 17 rfl rfl)
theorem dX7_take_116 : decode cX7_take 116 = .ok (.goto (-26), 3) := dk_167 255 230 (dk_at dksX7_take_4 20 rfl rfl)
theorem dX7_take_119 : decode cX7_take 119 = .ok (.aload_n 0, 1) := dk_42 (dk_at dksX7_take_4 23 rfl rfl)
theorem dX7_take_120 : decode cX7_take 120 = .ok (.getfield 22, 3) := dk_180 0 22 (dk_at dksX7_take_5 0 rfl rfl)
theorem dX7_take_123 : decode cX7_take 123 = .ok (.aload_n 0, 1) := dk_42 (dk_at dksX7_take_5 3 rfl rfl)
theorem dX7_take_124 : decode cX7_take 124 = .ok (.getfield 26, 3) := dk_180 0 26 (dk_at dksX7_take_5 4 rfl rfl)
theorem dX7_take_127 : decode cX7_take 127 = .ok (.iload 4, 2) := dk_21 4 (dk_at dksX7_take_5 7 rfl rfl)
theorem dX7_take_129 : decode cX7_take 129 = .ok (.aaload, 1) := dk_50 (dk_at dksX7_take_5 9 rfl rfl)
theorem dX7_take_130 : decode cX7_take 130 = .ok (.invokevirtual 125, 3) := dk_182 0 125 (dk_at dksX7_take_5 10 rfl rfl)
theorem dX7_take_133 : decode cX7_take 133 = .ok (.aload_n 0, 1) := dk_42 (dk_at dksX7_take_5 13 rfl rfl)
theorem dX7_take_134 : decode cX7_take 134 = .ok (.getfield 46, 3) := dk_180 0 46 (dk_at dksX7_take_5 14 rfl rfl)
theorem dX7_take_137 : decode cX7_take 137 = .ok (.aload_n 0, 1) := dk_42 (dk_at dksX7_take_5 17 rfl rfl)
theorem dX7_take_138 : decode cX7_take 138 = .ok (.getfield 80, 3) := dk_180 0 80 (dk_at dksX7_take_5 18 rfl rfl)
theorem dX7_take_141 : decode cX7_take 141 = .ok (.iload 4, 2) := dk_21 4 (dk_at dksX7_take_5 21 rfl rfl)
theorem dX7_take_143 : decode cX7_take 143 = .ok (.iastore, 1) := dk_79 (dk_at dksX7_take_5 23 rfl rfl)
theorem dX7_take_144 : decode cX7_take 144 = .ok (.aload_n 0, 1) := dk_42 (dk_at dksX7_take_6 0 rfl rfl)
theorem dX7_take_145 : decode cX7_take 145 = .ok (.getfield 52, 3) := dk_180 0 52 (dk_at dksX7_take_6 1 rfl rfl)
theorem dX7_take_148 : decode cX7_take 148 = .ok (.aload_n 0, 1) := dk_42 (dk_at dksX7_take_6 4 rfl rfl)
theorem dX7_take_149 : decode cX7_take 149 = .ok (.getfield 80, 3) := dk_180 0 80 (dk_at dksX7_take_6 5 rfl rfl)
theorem dX7_take_152 : decode cX7_take 152 = .ok (.iload_n 1, 1) := dk_27 (dk_at dksX7_take_6 8 rfl rfl)
theorem dX7_take_153 : decode cX7_take 153 = .ok (.iastore, 1) := dk_79 (dk_at dksX7_take_6 9 rfl rfl)
theorem dX7_take_154 : decode cX7_take 154 = .ok (.aload_n 0, 1) := dk_42 (dk_at dksX7_take_6 10 rfl rfl)
theorem dX7_take_155 : decode cX7_take 155 = .ok (.getfield 55, 3) := dk_180 0 55 (dk_at dksX7_take_6 11 rfl rfl)
theorem dX7_take_158 : decode cX7_take 158 = .ok (.aload_n 0, 1) := dk_42 (dk_at dksX7_take_6 14 rfl rfl)
theorem dX7_take_159 : decode cX7_take 159 = .ok (.getfield 80, 3) := dk_180 0 80 (dk_at dksX7_take_6 15 rfl rfl)
theorem dX7_take_162 : decode cX7_take 162 = .ok (.iload_n 2, 1) := dk_28 (dk_at dksX7_take_6 18 rfl rfl)
theorem dX7_take_163 : decode cX7_take 163 = .ok (.iastore, 1) := dk_79 (dk_at dksX7_take_6 19 rfl rfl)
theorem dX7_take_164 : decode cX7_take 164 = .ok (.aload_n 0, 1) := dk_42 (dk_at dksX7_take_6 20 rfl rfl)
theorem dX7_take_165 : decode cX7_take 165 = .ok (.dup, 1) := dk_89 (dk_at dksX7_take_6 21 rfl rfl)
theorem dX7_take_166 : decode cX7_take 166 = .ok (.getfield 80, 3) := dk_180 0 80 (dk_at dksX7_take_7 0 rfl rfl)
theorem dX7_take_169 : decode cX7_take 169 = .ok (.iconst 1, 1) := dk_4 (dk_at dksX7_take_7 3 rfl rfl)
theorem dX7_take_170 : decode cX7_take 170 = .ok (.iadd, 1) := dk_96 (dk_at dksX7_take_7 4 rfl rfl)
theorem dX7_take_171 : decode cX7_take 171 = .ok (.putfield 80, 3) := dk_181 0 80 (dk_at dksX7_take_7 5 rfl rfl)
theorem dX7_take_174 : decode cX7_take 174 = .ok (.return_, 1) := dk_177 (dk_at dksX7_take_7 8 rfl rfl)
abbrev cX7_reduce : ByteArray := prog_14_method_5_code
def yX7_reduce : MethodName := ⟨RX7, "reduce", "(I)V"⟩
def dkwX7_reduce_7 : List UInt8 := [132, 2, 1, 167, 255, 89, 177]
abbrev dktX7_reduce_7 : List UInt8 := dkwX7_reduce_7 ++ []
def dkwX7_reduce_6 : List UInt8 := [2, 182, 0, 121, 132, 3, 1, 167, 255, 158, 42, 180, 0, 26, 28, 50, 42, 180, 0, 33, 182, 0, 125]
abbrev dktX7_reduce_6 : List UInt8 := dkwX7_reduce_6 ++ dktX7_reduce_7
def dkwX7_reduce_5 : List UInt8 := [180, 0, 30, 42, 180, 0, 36, 182, 0, 113, 42, 180, 0, 72, 42, 180, 0, 33, 42, 180, 0, 33, 25, 4]
abbrev dktX7_reduce_5 : List UInt8 := dkwX7_reduce_5 ++ dktX7_reduce_6
def dkwX7_reduce_4 : List UInt8 := [42, 180, 0, 46, 29, 46, 46, 133, 182, 0, 83, 42, 180, 0, 65, 58, 4, 42, 180, 0, 72, 25, 4, 42]
abbrev dktX7_reduce_4 : List UInt8 := dkwX7_reduce_4 ++ dktX7_reduce_5
def dkwX7_reduce_3 : List UInt8 := [154, 0, 6, 167, 0, 73, 42, 29, 28, 42, 180, 0, 30, 182, 0, 117, 42, 180, 0, 36, 42, 180, 0, 58]
abbrev dktX7_reduce_3 : List UInt8 := dkwX7_reduce_3 ++ dktX7_reduce_4
def dkwX7_reduce_2 : List UInt8 := [182, 0, 113, 3, 62, 29, 42, 180, 0, 80, 162, 0, 96, 42, 180, 0, 58, 42, 180, 0, 46, 29, 46, 46]
abbrev dktX7_reduce_2 : List UInt8 := dkwX7_reduce_2 ++ dktX7_reduce_3
def dkwX7_reduce_1 : List UInt8 := [167, 0, 4, 9, 182, 0, 83, 42, 180, 0, 72, 42, 180, 0, 33, 42, 180, 0, 22, 42, 180, 0, 30]
abbrev dktX7_reduce_1 : List UInt8 := dkwX7_reduce_1 ++ dktX7_reduce_2
def dkwX7_reduce_0 : List UInt8 := [3, 61, 28, 27, 162, 0, 168, 42, 180, 0, 30, 28, 16, 35, 162, 0, 13, 42, 180, 0, 58, 28, 46, 133]
abbrev dktX7_reduce_0 : List UInt8 := dkwX7_reduce_0 ++ dktX7_reduce_1
theorem dksX7_reduce_0 : cX7_reduce.data.toList.drop 0 = dktX7_reduce_0 := by decide +kernel
theorem dksX7_reduce_1 : cX7_reduce.data.toList.drop 24 = dktX7_reduce_1 := dk_seg dksX7_reduce_0 24 rfl rfl
theorem dksX7_reduce_2 : cX7_reduce.data.toList.drop 47 = dktX7_reduce_2 := dk_seg dksX7_reduce_1 23 rfl rfl
theorem dksX7_reduce_3 : cX7_reduce.data.toList.drop 71 = dktX7_reduce_3 := dk_seg dksX7_reduce_2 24 rfl rfl
theorem dksX7_reduce_4 : cX7_reduce.data.toList.drop 95 = dktX7_reduce_4 := dk_seg dksX7_reduce_3 24 rfl rfl
theorem dksX7_reduce_5 : cX7_reduce.data.toList.drop 119 = dktX7_reduce_5 := dk_seg dksX7_reduce_4 24 rfl rfl
theorem dksX7_reduce_6 : cX7_reduce.data.toList.drop 143 = dktX7_reduce_6 := dk_seg dksX7_reduce_5 24 rfl rfl
theorem dksX7_reduce_7 : cX7_reduce.data.toList.drop 166 = dktX7_reduce_7 := dk_seg dksX7_reduce_6 23 rfl rfl
theorem dX7_reduce_0 : decode cX7_reduce 0 = .ok (.iconst 0, 1) := dk_3 (dk_at dksX7_reduce_0 0 rfl rfl)
theorem dX7_reduce_1 : decode cX7_reduce 1 = .ok (.istore_n 2, 1) := dk_61 (dk_at dksX7_reduce_0 1 rfl rfl)
theorem dX7_reduce_2 : decode cX7_reduce 2 = .ok (.iload_n 2, 1) := dk_28 (dk_at dksX7_reduce_0 2 rfl rfl)
theorem dX7_reduce_3 : decode cX7_reduce 3 = .ok (.iload_n 1, 1) := dk_27 (dk_at dksX7_reduce_0 3 rfl rfl)
theorem dX7_reduce_4 : decode cX7_reduce 4 = .ok (.if_icmp .ge 168, 3) := dk_162 0 168 (dk_at dksX7_reduce_0 4 rfl rfl)
theorem dX7_reduce_7 : decode cX7_reduce 7 = .ok (.aload_n 0, 1) := dk_42 (dk_at dksX7_reduce_0 7 rfl rfl)
theorem dX7_reduce_8 : decode cX7_reduce 8 = .ok (.getfield 30, 3) := dk_180 0 30 (dk_at dksX7_reduce_0 8 rfl rfl)
theorem dX7_reduce_11 : decode cX7_reduce 11 = .ok (.iload_n 2, 1) := dk_28 (dk_at dksX7_reduce_0 11 rfl rfl)
theorem dX7_reduce_12 : decode cX7_reduce 12 = .ok (.bipush 35, 2) := dk_16 35 (dk_at dksX7_reduce_0 12 rfl rfl)
theorem dX7_reduce_14 : decode cX7_reduce 14 = .ok (.if_icmp .ge 13, 3) := dk_162 0 13 (dk_at dksX7_reduce_0 14 rfl rfl)
theorem dX7_reduce_17 : decode cX7_reduce 17 = .ok (.aload_n 0, 1) := dk_42 (dk_at dksX7_reduce_0 17 rfl rfl)
theorem dX7_reduce_18 : decode cX7_reduce 18 = .ok (.getfield 58, 3) := dk_180 0 58 (dk_at dksX7_reduce_0 18 rfl rfl)
theorem dX7_reduce_21 : decode cX7_reduce 21 = .ok (.iload_n 2, 1) := dk_28 (dk_at dksX7_reduce_0 21 rfl rfl)
theorem dX7_reduce_22 : decode cX7_reduce 22 = .ok (.iaload, 1) := dk_46 (dk_at dksX7_reduce_0 22 rfl rfl)
theorem dX7_reduce_23 : decode cX7_reduce 23 = .ok (.i2l, 1) := dk_133 (dk_at dksX7_reduce_0 23 rfl rfl)
theorem dX7_reduce_24 : decode cX7_reduce 24 = .ok (.goto 4, 3) := dk_167 0 4 (dk_at dksX7_reduce_1 0 rfl rfl)
theorem dX7_reduce_27 : decode cX7_reduce 27 = .ok (.lconst 0, 1) := dk_9 (dk_at dksX7_reduce_1 3 rfl rfl)
theorem dX7_reduce_28 : decode cX7_reduce 28 = .ok (.invokevirtual 83, 3) := dk_182 0 83 (dk_at dksX7_reduce_1 4 rfl rfl)
theorem dX7_reduce_31 : decode cX7_reduce 31 = .ok (.aload_n 0, 1) := dk_42 (dk_at dksX7_reduce_1 7 rfl rfl)
theorem dX7_reduce_32 : decode cX7_reduce 32 = .ok (.getfield 72, 3) := dk_180 0 72 (dk_at dksX7_reduce_1 8 rfl rfl)
theorem dX7_reduce_35 : decode cX7_reduce 35 = .ok (.aload_n 0, 1) := dk_42 (dk_at dksX7_reduce_1 11 rfl rfl)
theorem dX7_reduce_36 : decode cX7_reduce 36 = .ok (.getfield 33, 3) := dk_180 0 33 (dk_at dksX7_reduce_1 12 rfl rfl)
theorem dX7_reduce_39 : decode cX7_reduce 39 = .ok (.aload_n 0, 1) := dk_42 (dk_at dksX7_reduce_1 15 rfl rfl)
theorem dX7_reduce_40 : decode cX7_reduce 40 = .ok (.getfield 22, 3) := dk_180 0 22 (dk_at dksX7_reduce_1 16 rfl rfl)
theorem dX7_reduce_43 : decode cX7_reduce 43 = .ok (.aload_n 0, 1) := dk_42 (dk_at dksX7_reduce_1 19 rfl rfl)
theorem dX7_reduce_44 : decode cX7_reduce 44 = .ok (.getfield 30, 3) := dk_180 0 30 (dk_at dksX7_reduce_1 20 rfl rfl)
theorem dX7_reduce_47 : decode cX7_reduce 47 = .ok (.invokevirtual 113, 3) := dk_182 0 113 (dk_at dksX7_reduce_2 0 rfl rfl)
theorem dX7_reduce_50 : decode cX7_reduce 50 = .ok (.iconst 0, 1) := dk_3 (dk_at dksX7_reduce_2 3 rfl rfl)
theorem dX7_reduce_51 : decode cX7_reduce 51 = .ok (.istore_n 3, 1) := dk_62 (dk_at dksX7_reduce_2 4 rfl rfl)
theorem dX7_reduce_52 : decode cX7_reduce 52 = .ok (.iload_n 3, 1) := dk_29 (dk_at dksX7_reduce_2 5 rfl rfl)
theorem dX7_reduce_53 : decode cX7_reduce 53 = .ok (.aload_n 0, 1) := dk_42 (dk_at dksX7_reduce_2 6 rfl rfl)
theorem dX7_reduce_54 : decode cX7_reduce 54 = .ok (.getfield 80, 3) := dk_180 0 80 (dk_at dksX7_reduce_2 7 rfl rfl)
theorem dX7_reduce_57 : decode cX7_reduce 57 = .ok (.if_icmp .ge 96, 3) := dk_162 0 96 (dk_at dksX7_reduce_2 10 rfl rfl)
theorem dX7_reduce_60 : decode cX7_reduce 60 = .ok (.aload_n 0, 1) := dk_42 (dk_at dksX7_reduce_2 13 rfl rfl)
theorem dX7_reduce_61 : decode cX7_reduce 61 = .ok (.getfield 58, 3) := dk_180 0 58 (dk_at dksX7_reduce_2 14 rfl rfl)
theorem dX7_reduce_64 : decode cX7_reduce 64 = .ok (.aload_n 0, 1) := dk_42 (dk_at dksX7_reduce_2 17 rfl rfl)
theorem dX7_reduce_65 : decode cX7_reduce 65 = .ok (.getfield 46, 3) := dk_180 0 46 (dk_at dksX7_reduce_2 18 rfl rfl)
theorem dX7_reduce_68 : decode cX7_reduce 68 = .ok (.iload_n 3, 1) := dk_29 (dk_at dksX7_reduce_2 21 rfl rfl)
theorem dX7_reduce_69 : decode cX7_reduce 69 = .ok (.iaload, 1) := dk_46 (dk_at dksX7_reduce_2 22 rfl rfl)
theorem dX7_reduce_70 : decode cX7_reduce 70 = .ok (.iaload, 1) := dk_46 (dk_at dksX7_reduce_2 23 rfl rfl)
theorem dX7_reduce_71 : decode cX7_reduce 71 = .ok (.ifCond .ne 6, 3) := dk_154 0 6 (dk_at dksX7_reduce_3 0 rfl rfl)
theorem dX7_reduce_74 : decode cX7_reduce 74 = .ok (.goto 73, 3) := dk_167 0 73 (dk_at dksX7_reduce_3 3 rfl rfl)
theorem dX7_reduce_77 : decode cX7_reduce 77 = .ok (.aload_n 0, 1) := dk_42 (dk_at dksX7_reduce_3 6 rfl rfl)
theorem dX7_reduce_78 : decode cX7_reduce 78 = .ok (.iload_n 3, 1) := dk_29 (dk_at dksX7_reduce_3 7 rfl rfl)
theorem dX7_reduce_79 : decode cX7_reduce 79 = .ok (.iload_n 2, 1) := dk_28 (dk_at dksX7_reduce_3 8 rfl rfl)
theorem dX7_reduce_80 : decode cX7_reduce 80 = .ok (.aload_n 0, 1) := dk_42 (dk_at dksX7_reduce_3 9 rfl rfl)
theorem dX7_reduce_81 : decode cX7_reduce 81 = .ok (.getfield 30, 3) := dk_180 0 30 (dk_at dksX7_reduce_3 10 rfl rfl)
theorem dX7_reduce_84 : decode cX7_reduce 84 = .ok (.invokevirtual 117, 3) := dk_182 0 117 (dk_at dksX7_reduce_3 13 rfl rfl)
theorem dX7_reduce_87 : decode cX7_reduce 87 = .ok (.aload_n 0, 1) := dk_42 (dk_at dksX7_reduce_3 16 rfl rfl)
theorem dX7_reduce_88 : decode cX7_reduce 88 = .ok (.getfield 36, 3) := dk_180 0 36 (dk_at dksX7_reduce_3 17 rfl rfl)
theorem dX7_reduce_91 : decode cX7_reduce 91 = .ok (.aload_n 0, 1) := dk_42 (dk_at dksX7_reduce_3 20 rfl rfl)
theorem dX7_reduce_92 : decode cX7_reduce 92 = .ok (.getfield 58, 3) := dk_180 0 58 (dk_at dksX7_reduce_3 21 rfl rfl)
theorem dX7_reduce_95 : decode cX7_reduce 95 = .ok (.aload_n 0, 1) := dk_42 (dk_at dksX7_reduce_4 0 rfl rfl)
theorem dX7_reduce_96 : decode cX7_reduce 96 = .ok (.getfield 46, 3) := dk_180 0 46 (dk_at dksX7_reduce_4 1 rfl rfl)
theorem dX7_reduce_99 : decode cX7_reduce 99 = .ok (.iload_n 3, 1) := dk_29 (dk_at dksX7_reduce_4 4 rfl rfl)
theorem dX7_reduce_100 : decode cX7_reduce 100 = .ok (.iaload, 1) := dk_46 (dk_at dksX7_reduce_4 5 rfl rfl)
theorem dX7_reduce_101 : decode cX7_reduce 101 = .ok (.iaload, 1) := dk_46 (dk_at dksX7_reduce_4 6 rfl rfl)
theorem dX7_reduce_102 : decode cX7_reduce 102 = .ok (.i2l, 1) := dk_133 (dk_at dksX7_reduce_4 7 rfl rfl)
theorem dX7_reduce_103 : decode cX7_reduce 103 = .ok (.invokevirtual 83, 3) := dk_182 0 83 (dk_at dksX7_reduce_4 8 rfl rfl)
theorem dX7_reduce_106 : decode cX7_reduce 106 = .ok (.aload_n 0, 1) := dk_42 (dk_at dksX7_reduce_4 11 rfl rfl)
theorem dX7_reduce_107 : decode cX7_reduce 107 = .ok (.getfield 65, 3) := dk_180 0 65 (dk_at dksX7_reduce_4 12 rfl rfl)
theorem dX7_reduce_110 : decode cX7_reduce 110 = .ok (.astore 4, 2) := dk_58 4 (dk_at dksX7_reduce_4 15 rfl rfl)
theorem dX7_reduce_112 : decode cX7_reduce 112 = .ok (.aload_n 0, 1) := dk_42 (dk_at dksX7_reduce_4 17 rfl rfl)
theorem dX7_reduce_113 : decode cX7_reduce 113 = .ok (.getfield 72, 3) := dk_180 0 72 (dk_at dksX7_reduce_4 18 rfl rfl)
theorem dX7_reduce_116 : decode cX7_reduce 116 = .ok (.aload 4, 2) := dk_25 4 (dk_at dksX7_reduce_4 21 rfl rfl)
theorem dX7_reduce_118 : decode cX7_reduce 118 = .ok (.aload_n 0, 1) := dk_42 (dk_at dksX7_reduce_4 23 rfl rfl)
theorem dX7_reduce_119 : decode cX7_reduce 119 = .ok (.getfield 30, 3) := dk_180 0 30 (dk_at dksX7_reduce_5 0 rfl rfl)
theorem dX7_reduce_122 : decode cX7_reduce 122 = .ok (.aload_n 0, 1) := dk_42 (dk_at dksX7_reduce_5 3 rfl rfl)
theorem dX7_reduce_123 : decode cX7_reduce 123 = .ok (.getfield 36, 3) := dk_180 0 36 (dk_at dksX7_reduce_5 4 rfl rfl)
theorem dX7_reduce_126 : decode cX7_reduce 126 = .ok (.invokevirtual 113, 3) := dk_182 0 113 (dk_at dksX7_reduce_5 7 rfl rfl)
theorem dX7_reduce_129 : decode cX7_reduce 129 = .ok (.aload_n 0, 1) := dk_42 (dk_at dksX7_reduce_5 10 rfl rfl)
theorem dX7_reduce_130 : decode cX7_reduce 130 = .ok (.getfield 72, 3) := dk_180 0 72 (dk_at dksX7_reduce_5 11 rfl rfl)
theorem dX7_reduce_133 : decode cX7_reduce 133 = .ok (.aload_n 0, 1) := dk_42 (dk_at dksX7_reduce_5 14 rfl rfl)
theorem dX7_reduce_134 : decode cX7_reduce 134 = .ok (.getfield 33, 3) := dk_180 0 33 (dk_at dksX7_reduce_5 15 rfl rfl)
theorem dX7_reduce_137 : decode cX7_reduce 137 = .ok (.aload_n 0, 1) := dk_42 (dk_at dksX7_reduce_5 18 rfl rfl)
theorem dX7_reduce_138 : decode cX7_reduce 138 = .ok (.getfield 33, 3) := dk_180 0 33 (dk_at dksX7_reduce_5 19 rfl rfl)
theorem dX7_reduce_141 : decode cX7_reduce 141 = .ok (.aload 4, 2) := dk_25 4 (dk_at dksX7_reduce_5 22 rfl rfl)
theorem dX7_reduce_143 : decode cX7_reduce 143 = .ok (.iconst (-1), 1) := dk_2 (dk_at dksX7_reduce_6 0 rfl rfl)
theorem dX7_reduce_144 : decode cX7_reduce 144 = .ok (.invokevirtual 121, 3) := dk_182 0 121 (dk_at dksX7_reduce_6 1 rfl rfl)
theorem dX7_reduce_147 : decode cX7_reduce 147 = .ok (.iinc 3 1, 3) := dk_132 3 1 (dk_at dksX7_reduce_6 4 rfl rfl)
theorem dX7_reduce_150 : decode cX7_reduce 150 = .ok (.goto (-98), 3) := dk_167 255 158 (dk_at dksX7_reduce_6 7 rfl rfl)
theorem dX7_reduce_153 : decode cX7_reduce 153 = .ok (.aload_n 0, 1) := dk_42 (dk_at dksX7_reduce_6 10 rfl rfl)
theorem dX7_reduce_154 : decode cX7_reduce 154 = .ok (.getfield 26, 3) := dk_180 0 26 (dk_at dksX7_reduce_6 11 rfl rfl)
theorem dX7_reduce_157 : decode cX7_reduce 157 = .ok (.iload_n 2, 1) := dk_28 (dk_at dksX7_reduce_6 14 rfl rfl)
theorem dX7_reduce_158 : decode cX7_reduce 158 = .ok (.aaload, 1) := dk_50 (dk_at dksX7_reduce_6 15 rfl rfl)
theorem dX7_reduce_159 : decode cX7_reduce 159 = .ok (.aload_n 0, 1) := dk_42 (dk_at dksX7_reduce_6 16 rfl rfl)
theorem dX7_reduce_160 : decode cX7_reduce 160 = .ok (.getfield 33, 3) := dk_180 0 33 (dk_at dksX7_reduce_6 17 rfl rfl)
theorem dX7_reduce_163 : decode cX7_reduce 163 = .ok (.invokevirtual 125, 3) := dk_182 0 125 (dk_at dksX7_reduce_6 20 rfl rfl)
theorem dX7_reduce_166 : decode cX7_reduce 166 = .ok (.iinc 2 1, 3) := dk_132 2 1 (dk_at dksX7_reduce_7 0 rfl rfl)
theorem dX7_reduce_169 : decode cX7_reduce 169 = .ok (.goto (-167), 3) := dk_167 255 89 (dk_at dksX7_reduce_7 3 rfl rfl)
theorem dX7_reduce_172 : decode cX7_reduce 172 = .ok (.return_, 1) := dk_177 (dk_at dksX7_reduce_7 6 rfl rfl)
abbrev cX7_load : ByteArray := prog_14_method_3_code
def yX7_load : MethodName := ⟨RX7, "load", "(IILIdealCourt$Whole;)V"⟩
def dkwX7_load_4 : List UInt8 := [167, 255, 225, 177]
abbrev dktX7_load_4 : List UInt8 := dkwX7_load_4 ++ []
def dkwX7_load_3 : List UInt8 := [45, 180, 0, 110, 21, 5, 42, 180, 0, 11, 21, 4, 4, 96, 21, 5, 96, 46, 79, 132, 5, 1]
abbrev dktX7_load_3 : List UInt8 := dkwX7_load_3 ++ dktX7_load_4
def dkwX7_load_2 : List UInt8 := [46, 158, 0, 7, 4, 167, 0, 4, 3, 181, 0, 107, 3, 54, 5, 21, 5, 45, 180, 0, 104, 162, 0, 28]
abbrev dktX7_load_2 : List UInt8 := dkwX7_load_2 ++ dktX7_load_3
def dkwX7_load_1 : List UInt8 := [181, 0, 104, 45, 42, 180, 0, 11, 21, 4, 46, 156, 0, 7, 2, 167, 0, 18, 42, 180, 0, 11, 21, 4]
abbrev dktX7_load_1 : List UInt8 := dkwX7_load_1 ++ dktX7_load_2
def dkwX7_load_0 : List UInt8 := [16, 12, 16, 70, 27, 104, 28, 96, 104, 54, 4, 45, 42, 180, 0, 11, 21, 4, 46, 184, 0, 99]
abbrev dktX7_load_0 : List UInt8 := dkwX7_load_0 ++ dktX7_load_1
theorem dksX7_load_0 : cX7_load.data.toList.drop 0 = dktX7_load_0 := by decide +kernel
theorem dksX7_load_1 : cX7_load.data.toList.drop 22 = dktX7_load_1 := dk_seg dksX7_load_0 22 rfl rfl
theorem dksX7_load_2 : cX7_load.data.toList.drop 46 = dktX7_load_2 := dk_seg dksX7_load_1 24 rfl rfl
theorem dksX7_load_3 : cX7_load.data.toList.drop 70 = dktX7_load_3 := dk_seg dksX7_load_2 24 rfl rfl
theorem dksX7_load_4 : cX7_load.data.toList.drop 92 = dktX7_load_4 := dk_seg dksX7_load_3 22 rfl rfl
theorem dX7_load_0 : decode cX7_load 0 = .ok (.bipush 12, 2) := dk_16 12 (dk_at dksX7_load_0 0 rfl rfl)
theorem dX7_load_2 : decode cX7_load 2 = .ok (.bipush 70, 2) := dk_16 70 (dk_at dksX7_load_0 2 rfl rfl)
theorem dX7_load_4 : decode cX7_load 4 = .ok (.iload_n 1, 1) := dk_27 (dk_at dksX7_load_0 4 rfl rfl)
theorem dX7_load_5 : decode cX7_load 5 = .ok (.imul, 1) := dk_104 (dk_at dksX7_load_0 5 rfl rfl)
theorem dX7_load_6 : decode cX7_load 6 = .ok (.iload_n 2, 1) := dk_28 (dk_at dksX7_load_0 6 rfl rfl)
theorem dX7_load_7 : decode cX7_load 7 = .ok (.iadd, 1) := dk_96 (dk_at dksX7_load_0 7 rfl rfl)
theorem dX7_load_8 : decode cX7_load 8 = .ok (.imul, 1) := dk_104 (dk_at dksX7_load_0 8 rfl rfl)
theorem dX7_load_9 : decode cX7_load 9 = .ok (.istore 4, 2) := dk_54 4 (dk_at dksX7_load_0 9 rfl rfl)
theorem dX7_load_11 : decode cX7_load 11 = .ok (.aload_n 3, 1) := dk_45 (dk_at dksX7_load_0 11 rfl rfl)
theorem dX7_load_12 : decode cX7_load 12 = .ok (.aload_n 0, 1) := dk_42 (dk_at dksX7_load_0 12 rfl rfl)
theorem dX7_load_13 : decode cX7_load 13 = .ok (.getfield 11, 3) := dk_180 0 11 (dk_at dksX7_load_0 13 rfl rfl)
theorem dX7_load_16 : decode cX7_load 16 = .ok (.iload 4, 2) := dk_21 4 (dk_at dksX7_load_0 16 rfl rfl)
theorem dX7_load_18 : decode cX7_load 18 = .ok (.iaload, 1) := dk_46 (dk_at dksX7_load_0 18 rfl rfl)
theorem dX7_load_19 : decode cX7_load 19 = .ok (.invokestatic 99, 3) := dk_184 0 99 (dk_at dksX7_load_0 19 rfl rfl)
theorem dX7_load_22 : decode cX7_load 22 = .ok (.putfield 104, 3) := dk_181 0 104 (dk_at dksX7_load_1 0 rfl rfl)
theorem dX7_load_25 : decode cX7_load 25 = .ok (.aload_n 3, 1) := dk_45 (dk_at dksX7_load_1 3 rfl rfl)
theorem dX7_load_26 : decode cX7_load 26 = .ok (.aload_n 0, 1) := dk_42 (dk_at dksX7_load_1 4 rfl rfl)
theorem dX7_load_27 : decode cX7_load 27 = .ok (.getfield 11, 3) := dk_180 0 11 (dk_at dksX7_load_1 5 rfl rfl)
theorem dX7_load_30 : decode cX7_load 30 = .ok (.iload 4, 2) := dk_21 4 (dk_at dksX7_load_1 8 rfl rfl)
theorem dX7_load_32 : decode cX7_load 32 = .ok (.iaload, 1) := dk_46 (dk_at dksX7_load_1 10 rfl rfl)
theorem dX7_load_33 : decode cX7_load 33 = .ok (.ifCond .ge 7, 3) := dk_156 0 7 (dk_at dksX7_load_1 11 rfl rfl)
theorem dX7_load_36 : decode cX7_load 36 = .ok (.iconst (-1), 1) := dk_2 (dk_at dksX7_load_1 14 rfl rfl)
theorem dX7_load_37 : decode cX7_load 37 = .ok (.goto 18, 3) := dk_167 0 18 (dk_at dksX7_load_1 15 rfl rfl)
theorem dX7_load_40 : decode cX7_load 40 = .ok (.aload_n 0, 1) := dk_42 (dk_at dksX7_load_1 18 rfl rfl)
theorem dX7_load_41 : decode cX7_load 41 = .ok (.getfield 11, 3) := dk_180 0 11 (dk_at dksX7_load_1 19 rfl rfl)
theorem dX7_load_44 : decode cX7_load 44 = .ok (.iload 4, 2) := dk_21 4 (dk_at dksX7_load_1 22 rfl rfl)
theorem dX7_load_46 : decode cX7_load 46 = .ok (.iaload, 1) := dk_46 (dk_at dksX7_load_2 0 rfl rfl)
theorem dX7_load_47 : decode cX7_load 47 = .ok (.ifCond .le 7, 3) := dk_158 0 7 (dk_at dksX7_load_2 1 rfl rfl)
theorem dX7_load_50 : decode cX7_load 50 = .ok (.iconst 1, 1) := dk_4 (dk_at dksX7_load_2 4 rfl rfl)
theorem dX7_load_51 : decode cX7_load 51 = .ok (.goto 4, 3) := dk_167 0 4 (dk_at dksX7_load_2 5 rfl rfl)
theorem dX7_load_54 : decode cX7_load 54 = .ok (.iconst 0, 1) := dk_3 (dk_at dksX7_load_2 8 rfl rfl)
theorem dX7_load_55 : decode cX7_load 55 = .ok (.putfield 107, 3) := dk_181 0 107 (dk_at dksX7_load_2 9 rfl rfl)
theorem dX7_load_58 : decode cX7_load 58 = .ok (.iconst 0, 1) := dk_3 (dk_at dksX7_load_2 12 rfl rfl)
theorem dX7_load_59 : decode cX7_load 59 = .ok (.istore 5, 2) := dk_54 5 (dk_at dksX7_load_2 13 rfl rfl)
theorem dX7_load_61 : decode cX7_load 61 = .ok (.iload 5, 2) := dk_21 5 (dk_at dksX7_load_2 15 rfl rfl)
theorem dX7_load_63 : decode cX7_load 63 = .ok (.aload_n 3, 1) := dk_45 (dk_at dksX7_load_2 17 rfl rfl)
theorem dX7_load_64 : decode cX7_load 64 = .ok (.getfield 104, 3) := dk_180 0 104 (dk_at dksX7_load_2 18 rfl rfl)
theorem dX7_load_67 : decode cX7_load 67 = .ok (.if_icmp .ge 28, 3) := dk_162 0 28 (dk_at dksX7_load_2 21 rfl rfl)
theorem dX7_load_70 : decode cX7_load 70 = .ok (.aload_n 3, 1) := dk_45 (dk_at dksX7_load_3 0 rfl rfl)
theorem dX7_load_71 : decode cX7_load 71 = .ok (.getfield 110, 3) := dk_180 0 110 (dk_at dksX7_load_3 1 rfl rfl)
theorem dX7_load_74 : decode cX7_load 74 = .ok (.iload 5, 2) := dk_21 5 (dk_at dksX7_load_3 4 rfl rfl)
theorem dX7_load_76 : decode cX7_load 76 = .ok (.aload_n 0, 1) := dk_42 (dk_at dksX7_load_3 6 rfl rfl)
theorem dX7_load_77 : decode cX7_load 77 = .ok (.getfield 11, 3) := dk_180 0 11 (dk_at dksX7_load_3 7 rfl rfl)
theorem dX7_load_80 : decode cX7_load 80 = .ok (.iload 4, 2) := dk_21 4 (dk_at dksX7_load_3 10 rfl rfl)
theorem dX7_load_82 : decode cX7_load 82 = .ok (.iconst 1, 1) := dk_4 (dk_at dksX7_load_3 12 rfl rfl)
theorem dX7_load_83 : decode cX7_load 83 = .ok (.iadd, 1) := dk_96 (dk_at dksX7_load_3 13 rfl rfl)
theorem dX7_load_84 : decode cX7_load 84 = .ok (.iload 5, 2) := dk_21 5 (dk_at dksX7_load_3 14 rfl rfl)
theorem dX7_load_86 : decode cX7_load 86 = .ok (.iadd, 1) := dk_96 (dk_at dksX7_load_3 16 rfl rfl)
theorem dX7_load_87 : decode cX7_load 87 = .ok (.iaload, 1) := dk_46 (dk_at dksX7_load_3 17 rfl rfl)
theorem dX7_load_88 : decode cX7_load 88 = .ok (.iastore, 1) := dk_79 (dk_at dksX7_load_3 18 rfl rfl)
theorem dX7_load_89 : decode cX7_load 89 = .ok (.iinc 5 1, 3) := dk_132 5 1 (dk_at dksX7_load_3 19 rfl rfl)
theorem dX7_load_92 : decode cX7_load 92 = .ok (.goto (-31), 3) := dk_167 255 225 (dk_at dksX7_load_4 0 rfl rfl)
theorem dX7_load_95 : decode cX7_load 95 = .ok (.return_, 1) := dk_177 (dk_at dksX7_load_4 3 rfl rfl)
abbrev cX7_firstColumn : ByteArray := prog_14_method_6_code
def yX7_firstColumn : MethodName := ⟨RX7, "firstColumn", "()I"⟩
def dkwX7_firstColumn_1 : List UInt8 := [167, 255, 235, 27, 172]
abbrev dktX7_firstColumn_1 : List UInt8 := dkwX7_firstColumn_1 ++ []
def dkwX7_firstColumn_0 : List UInt8 := [3, 60, 27, 16, 35, 162, 0, 21, 42, 180, 0, 26, 27, 50, 180, 0, 107, 154, 0, 9, 132, 1, 1]
abbrev dktX7_firstColumn_0 : List UInt8 := dkwX7_firstColumn_0 ++ dktX7_firstColumn_1
theorem dksX7_firstColumn_0 : cX7_firstColumn.data.toList.drop 0 = dktX7_firstColumn_0 := by decide +kernel
theorem dksX7_firstColumn_1 : cX7_firstColumn.data.toList.drop 23 = dktX7_firstColumn_1 := dk_seg dksX7_firstColumn_0 23 rfl rfl
theorem dX7_firstColumn_0 : decode cX7_firstColumn 0 = .ok (.iconst 0, 1) := dk_3 (dk_at dksX7_firstColumn_0 0 rfl rfl)
theorem dX7_firstColumn_1 : decode cX7_firstColumn 1 = .ok (.istore_n 1, 1) := dk_60 (dk_at dksX7_firstColumn_0 1 rfl rfl)
theorem dX7_firstColumn_2 : decode cX7_firstColumn 2 = .ok (.iload_n 1, 1) := dk_27 (dk_at dksX7_firstColumn_0 2 rfl rfl)
theorem dX7_firstColumn_3 : decode cX7_firstColumn 3 = .ok (.bipush 35, 2) := dk_16 35 (dk_at dksX7_firstColumn_0 3 rfl rfl)
theorem dX7_firstColumn_5 : decode cX7_firstColumn 5 = .ok (.if_icmp .ge 21, 3) := dk_162 0 21 (dk_at dksX7_firstColumn_0 5 rfl rfl)
theorem dX7_firstColumn_8 : decode cX7_firstColumn 8 = .ok (.aload_n 0, 1) := dk_42 (dk_at dksX7_firstColumn_0 8 rfl rfl)
theorem dX7_firstColumn_9 : decode cX7_firstColumn 9 = .ok (.getfield 26, 3) := dk_180 0 26 (dk_at dksX7_firstColumn_0 9 rfl rfl)
theorem dX7_firstColumn_12 : decode cX7_firstColumn 12 = .ok (.iload_n 1, 1) := dk_27 (dk_at dksX7_firstColumn_0 12 rfl rfl)
theorem dX7_firstColumn_13 : decode cX7_firstColumn 13 = .ok (.aaload, 1) := dk_50 (dk_at dksX7_firstColumn_0 13 rfl rfl)
theorem dX7_firstColumn_14 : decode cX7_firstColumn 14 = .ok (.getfield 107, 3) := dk_180 0 107 (dk_at dksX7_firstColumn_0 14 rfl rfl)
theorem dX7_firstColumn_17 : decode cX7_firstColumn 17 = .ok (.ifCond .ne 9, 3) := dk_154 0 9 (dk_at dksX7_firstColumn_0 17 rfl rfl)
theorem dX7_firstColumn_20 : decode cX7_firstColumn 20 = .ok (.iinc 1 1, 3) := dk_132 1 1 (dk_at dksX7_firstColumn_0 20 rfl rfl)
theorem dX7_firstColumn_23 : decode cX7_firstColumn 23 = .ok (.goto (-21), 3) := dk_167 255 235 (dk_at dksX7_firstColumn_1 0 rfl rfl)
theorem dX7_firstColumn_26 : decode cX7_firstColumn 26 = .ok (.iload_n 1, 1) := dk_27 (dk_at dksX7_firstColumn_1 3 rfl rfl)
theorem dX7_firstColumn_27 : decode cX7_firstColumn 27 = .ok (.ireturn, 1) := dk_172 (dk_at dksX7_firstColumn_1 4 rfl rfl)
abbrev cX7_turn : ByteArray := prog_14_method_8_code
def yX7_turn : MethodName := ⟨RX7, "turn", "(III)V"⟩
def dkwX7_turn_6 : List UInt8 := [180, 0, 36, 182, 0, 140, 132, 4, 1, 167, 255, 120, 177]
abbrev dktX7_turn_6 : List UInt8 := dkwX7_turn_6 ++ []
def dkwX7_turn_5 : List UInt8 := [180, 0, 72, 42, 180, 0, 36, 42, 180, 0, 36, 42, 180, 0, 22, 182, 0, 143, 42, 27, 21, 4, 42]
abbrev dktX7_turn_5 : List UInt8 := dkwX7_turn_5 ++ dktX7_turn_6
def dkwX7_turn_4 : List UInt8 := [182, 0, 113, 42, 180, 0, 72, 42, 180, 0, 36, 42, 180, 0, 36, 42, 180, 0, 65, 2, 182, 0, 121, 42]
abbrev dktX7_turn_4 : List UInt8 := dkwX7_turn_4 ++ dktX7_turn_5
def dkwX7_turn_3 : List UInt8 := [182, 0, 113, 42, 180, 0, 72, 42, 180, 0, 65, 42, 180, 0, 30, 42, 180, 0, 26, 21, 4, 50]
abbrev dktX7_turn_3 : List UInt8 := dkwX7_turn_3 ++ dktX7_turn_4
def dkwX7_turn_2 : List UInt8 := [180, 0, 33, 182, 0, 117, 42, 180, 0, 72, 42, 180, 0, 36, 42, 180, 0, 33, 42, 180, 0, 26, 28, 50]
abbrev dktX7_turn_2 : List UInt8 := dkwX7_turn_2 ++ dktX7_turn_3
def dkwX7_turn_1 : List UInt8 := [180, 0, 80, 96, 160, 0, 14, 42, 180, 0, 33, 9, 182, 0, 83, 167, 0, 14, 42, 27, 21, 4, 42]
abbrev dktX7_turn_1 : List UInt8 := dkwX7_turn_1 ++ dktX7_turn_2
def dkwX7_turn_0 : List UInt8 := [42, 27, 28, 42, 180, 0, 30, 182, 0, 117, 3, 54, 4, 21, 4, 29, 162, 0, 136, 21, 4, 16, 35, 42]
abbrev dktX7_turn_0 : List UInt8 := dkwX7_turn_0 ++ dktX7_turn_1
theorem dksX7_turn_0 : cX7_turn.data.toList.drop 0 = dktX7_turn_0 := by decide +kernel
theorem dksX7_turn_1 : cX7_turn.data.toList.drop 24 = dktX7_turn_1 := dk_seg dksX7_turn_0 24 rfl rfl
theorem dksX7_turn_2 : cX7_turn.data.toList.drop 47 = dktX7_turn_2 := dk_seg dksX7_turn_1 23 rfl rfl
theorem dksX7_turn_3 : cX7_turn.data.toList.drop 71 = dktX7_turn_3 := dk_seg dksX7_turn_2 24 rfl rfl
theorem dksX7_turn_4 : cX7_turn.data.toList.drop 93 = dktX7_turn_4 := dk_seg dksX7_turn_3 22 rfl rfl
theorem dksX7_turn_5 : cX7_turn.data.toList.drop 117 = dktX7_turn_5 := dk_seg dksX7_turn_4 24 rfl rfl
theorem dksX7_turn_6 : cX7_turn.data.toList.drop 140 = dktX7_turn_6 := dk_seg dksX7_turn_5 23 rfl rfl
theorem dX7_turn_0 : decode cX7_turn 0 = .ok (.aload_n 0, 1) := dk_42 (dk_at dksX7_turn_0 0 rfl rfl)
theorem dX7_turn_1 : decode cX7_turn 1 = .ok (.iload_n 1, 1) := dk_27 (dk_at dksX7_turn_0 1 rfl rfl)
theorem dX7_turn_2 : decode cX7_turn 2 = .ok (.iload_n 2, 1) := dk_28 (dk_at dksX7_turn_0 2 rfl rfl)
theorem dX7_turn_3 : decode cX7_turn 3 = .ok (.aload_n 0, 1) := dk_42 (dk_at dksX7_turn_0 3 rfl rfl)
theorem dX7_turn_4 : decode cX7_turn 4 = .ok (.getfield 30, 3) := dk_180 0 30 (dk_at dksX7_turn_0 4 rfl rfl)
theorem dX7_turn_7 : decode cX7_turn 7 = .ok (.invokevirtual 117, 3) := dk_182 0 117 (dk_at dksX7_turn_0 7 rfl rfl)
theorem dX7_turn_10 : decode cX7_turn 10 = .ok (.iconst 0, 1) := dk_3 (dk_at dksX7_turn_0 10 rfl rfl)
theorem dX7_turn_11 : decode cX7_turn 11 = .ok (.istore 4, 2) := dk_54 4 (dk_at dksX7_turn_0 11 rfl rfl)
theorem dX7_turn_13 : decode cX7_turn 13 = .ok (.iload 4, 2) := dk_21 4 (dk_at dksX7_turn_0 13 rfl rfl)
theorem dX7_turn_15 : decode cX7_turn 15 = .ok (.iload_n 3, 1) := dk_29 (dk_at dksX7_turn_0 15 rfl rfl)
theorem dX7_turn_16 : decode cX7_turn 16 = .ok (.if_icmp .ge 136, 3) := dk_162 0 136 (dk_at dksX7_turn_0 16 rfl rfl)
theorem dX7_turn_19 : decode cX7_turn 19 = .ok (.iload 4, 2) := dk_21 4 (dk_at dksX7_turn_0 19 rfl rfl)
theorem dX7_turn_21 : decode cX7_turn 21 = .ok (.bipush 35, 2) := dk_16 35 (dk_at dksX7_turn_0 21 rfl rfl)
theorem dX7_turn_23 : decode cX7_turn 23 = .ok (.aload_n 0, 1) := dk_42 (dk_at dksX7_turn_0 23 rfl rfl)
theorem dX7_turn_24 : decode cX7_turn 24 = .ok (.getfield 80, 3) := dk_180 0 80 (dk_at dksX7_turn_1 0 rfl rfl)
theorem dX7_turn_27 : decode cX7_turn 27 = .ok (.iadd, 1) := dk_96 (dk_at dksX7_turn_1 3 rfl rfl)
theorem dX7_turn_28 : decode cX7_turn 28 = .ok (.if_icmp .ne 14, 3) := dk_160 0 14 (dk_at dksX7_turn_1 4 rfl rfl)
theorem dX7_turn_31 : decode cX7_turn 31 = .ok (.aload_n 0, 1) := dk_42 (dk_at dksX7_turn_1 7 rfl rfl)
theorem dX7_turn_32 : decode cX7_turn 32 = .ok (.getfield 33, 3) := dk_180 0 33 (dk_at dksX7_turn_1 8 rfl rfl)
theorem dX7_turn_35 : decode cX7_turn 35 = .ok (.lconst 0, 1) := dk_9 (dk_at dksX7_turn_1 11 rfl rfl)
theorem dX7_turn_36 : decode cX7_turn 36 = .ok (.invokevirtual 83, 3) := dk_182 0 83 (dk_at dksX7_turn_1 12 rfl rfl)
theorem dX7_turn_39 : decode cX7_turn 39 = .ok (.goto 14, 3) := dk_167 0 14 (dk_at dksX7_turn_1 15 rfl rfl)
theorem dX7_turn_42 : decode cX7_turn 42 = .ok (.aload_n 0, 1) := dk_42 (dk_at dksX7_turn_1 18 rfl rfl)
theorem dX7_turn_43 : decode cX7_turn 43 = .ok (.iload_n 1, 1) := dk_27 (dk_at dksX7_turn_1 19 rfl rfl)
theorem dX7_turn_44 : decode cX7_turn 44 = .ok (.iload 4, 2) := dk_21 4 (dk_at dksX7_turn_1 20 rfl rfl)
theorem dX7_turn_46 : decode cX7_turn 46 = .ok (.aload_n 0, 1) := dk_42 (dk_at dksX7_turn_1 22 rfl rfl)
theorem dX7_turn_47 : decode cX7_turn 47 = .ok (.getfield 33, 3) := dk_180 0 33 (dk_at dksX7_turn_2 0 rfl rfl)
theorem dX7_turn_50 : decode cX7_turn 50 = .ok (.invokevirtual 117, 3) := dk_182 0 117 (dk_at dksX7_turn_2 3 rfl rfl)
theorem dX7_turn_53 : decode cX7_turn 53 = .ok (.aload_n 0, 1) := dk_42 (dk_at dksX7_turn_2 6 rfl rfl)
theorem dX7_turn_54 : decode cX7_turn 54 = .ok (.getfield 72, 3) := dk_180 0 72 (dk_at dksX7_turn_2 7 rfl rfl)
theorem dX7_turn_57 : decode cX7_turn 57 = .ok (.aload_n 0, 1) := dk_42 (dk_at dksX7_turn_2 10 rfl rfl)
theorem dX7_turn_58 : decode cX7_turn 58 = .ok (.getfield 36, 3) := dk_180 0 36 (dk_at dksX7_turn_2 11 rfl rfl)
theorem dX7_turn_61 : decode cX7_turn 61 = .ok (.aload_n 0, 1) := dk_42 (dk_at dksX7_turn_2 14 rfl rfl)
theorem dX7_turn_62 : decode cX7_turn 62 = .ok (.getfield 33, 3) := dk_180 0 33 (dk_at dksX7_turn_2 15 rfl rfl)
theorem dX7_turn_65 : decode cX7_turn 65 = .ok (.aload_n 0, 1) := dk_42 (dk_at dksX7_turn_2 18 rfl rfl)
theorem dX7_turn_66 : decode cX7_turn 66 = .ok (.getfield 26, 3) := dk_180 0 26 (dk_at dksX7_turn_2 19 rfl rfl)
theorem dX7_turn_69 : decode cX7_turn 69 = .ok (.iload_n 2, 1) := dk_28 (dk_at dksX7_turn_2 22 rfl rfl)
theorem dX7_turn_70 : decode cX7_turn 70 = .ok (.aaload, 1) := dk_50 (dk_at dksX7_turn_2 23 rfl rfl)
theorem dX7_turn_71 : decode cX7_turn 71 = .ok (.invokevirtual 113, 3) := dk_182 0 113 (dk_at dksX7_turn_3 0 rfl rfl)
theorem dX7_turn_74 : decode cX7_turn 74 = .ok (.aload_n 0, 1) := dk_42 (dk_at dksX7_turn_3 3 rfl rfl)
theorem dX7_turn_75 : decode cX7_turn 75 = .ok (.getfield 72, 3) := dk_180 0 72 (dk_at dksX7_turn_3 4 rfl rfl)
theorem dX7_turn_78 : decode cX7_turn 78 = .ok (.aload_n 0, 1) := dk_42 (dk_at dksX7_turn_3 7 rfl rfl)
theorem dX7_turn_79 : decode cX7_turn 79 = .ok (.getfield 65, 3) := dk_180 0 65 (dk_at dksX7_turn_3 8 rfl rfl)
theorem dX7_turn_82 : decode cX7_turn 82 = .ok (.aload_n 0, 1) := dk_42 (dk_at dksX7_turn_3 11 rfl rfl)
theorem dX7_turn_83 : decode cX7_turn 83 = .ok (.getfield 30, 3) := dk_180 0 30 (dk_at dksX7_turn_3 12 rfl rfl)
theorem dX7_turn_86 : decode cX7_turn 86 = .ok (.aload_n 0, 1) := dk_42 (dk_at dksX7_turn_3 15 rfl rfl)
theorem dX7_turn_87 : decode cX7_turn 87 = .ok (.getfield 26, 3) := dk_180 0 26 (dk_at dksX7_turn_3 16 rfl rfl)
theorem dX7_turn_90 : decode cX7_turn 90 = .ok (.iload 4, 2) := dk_21 4 (dk_at dksX7_turn_3 19 rfl rfl)
theorem dX7_turn_92 : decode cX7_turn 92 = .ok (.aaload, 1) := dk_50 (dk_at dksX7_turn_3 21 rfl rfl)
theorem dX7_turn_93 : decode cX7_turn 93 = .ok (.invokevirtual 113, 3) := dk_182 0 113 (dk_at dksX7_turn_4 0 rfl rfl)
theorem dX7_turn_96 : decode cX7_turn 96 = .ok (.aload_n 0, 1) := dk_42 (dk_at dksX7_turn_4 3 rfl rfl)
theorem dX7_turn_97 : decode cX7_turn 97 = .ok (.getfield 72, 3) := dk_180 0 72 (dk_at dksX7_turn_4 4 rfl rfl)
theorem dX7_turn_100 : decode cX7_turn 100 = .ok (.aload_n 0, 1) := dk_42 (dk_at dksX7_turn_4 7 rfl rfl)
theorem dX7_turn_101 : decode cX7_turn 101 = .ok (.getfield 36, 3) := dk_180 0 36 (dk_at dksX7_turn_4 8 rfl rfl)
theorem dX7_turn_104 : decode cX7_turn 104 = .ok (.aload_n 0, 1) := dk_42 (dk_at dksX7_turn_4 11 rfl rfl)
theorem dX7_turn_105 : decode cX7_turn 105 = .ok (.getfield 36, 3) := dk_180 0 36 (dk_at dksX7_turn_4 12 rfl rfl)
theorem dX7_turn_108 : decode cX7_turn 108 = .ok (.aload_n 0, 1) := dk_42 (dk_at dksX7_turn_4 15 rfl rfl)
theorem dX7_turn_109 : decode cX7_turn 109 = .ok (.getfield 65, 3) := dk_180 0 65 (dk_at dksX7_turn_4 16 rfl rfl)
theorem dX7_turn_112 : decode cX7_turn 112 = .ok (.iconst (-1), 1) := dk_2 (dk_at dksX7_turn_4 19 rfl rfl)
theorem dX7_turn_113 : decode cX7_turn 113 = .ok (.invokevirtual 121, 3) := dk_182 0 121 (dk_at dksX7_turn_4 20 rfl rfl)
theorem dX7_turn_116 : decode cX7_turn 116 = .ok (.aload_n 0, 1) := dk_42 (dk_at dksX7_turn_4 23 rfl rfl)
theorem dX7_turn_117 : decode cX7_turn 117 = .ok (.getfield 72, 3) := dk_180 0 72 (dk_at dksX7_turn_5 0 rfl rfl)
theorem dX7_turn_120 : decode cX7_turn 120 = .ok (.aload_n 0, 1) := dk_42 (dk_at dksX7_turn_5 3 rfl rfl)
theorem dX7_turn_121 : decode cX7_turn 121 = .ok (.getfield 36, 3) := dk_180 0 36 (dk_at dksX7_turn_5 4 rfl rfl)
theorem dX7_turn_124 : decode cX7_turn 124 = .ok (.aload_n 0, 1) := dk_42 (dk_at dksX7_turn_5 7 rfl rfl)
theorem dX7_turn_125 : decode cX7_turn 125 = .ok (.getfield 36, 3) := dk_180 0 36 (dk_at dksX7_turn_5 8 rfl rfl)
theorem dX7_turn_128 : decode cX7_turn 128 = .ok (.aload_n 0, 1) := dk_42 (dk_at dksX7_turn_5 11 rfl rfl)
theorem dX7_turn_129 : decode cX7_turn 129 = .ok (.getfield 22, 3) := dk_180 0 22 (dk_at dksX7_turn_5 12 rfl rfl)
theorem dX7_turn_132 : decode cX7_turn 132 = .ok (.invokevirtual 143, 3) := dk_182 0 143 (dk_at dksX7_turn_5 15 rfl rfl)
theorem dX7_turn_135 : decode cX7_turn 135 = .ok (.aload_n 0, 1) := dk_42 (dk_at dksX7_turn_5 18 rfl rfl)
theorem dX7_turn_136 : decode cX7_turn 136 = .ok (.iload_n 1, 1) := dk_27 (dk_at dksX7_turn_5 19 rfl rfl)
theorem dX7_turn_137 : decode cX7_turn 137 = .ok (.iload 4, 2) := dk_21 4 (dk_at dksX7_turn_5 20 rfl rfl)
theorem dX7_turn_139 : decode cX7_turn 139 = .ok (.aload_n 0, 1) := dk_42 (dk_at dksX7_turn_5 22 rfl rfl)
theorem dX7_turn_140 : decode cX7_turn 140 = .ok (.getfield 36, 3) := dk_180 0 36 (dk_at dksX7_turn_6 0 rfl rfl)
theorem dX7_turn_143 : decode cX7_turn 143 = .ok (.invokevirtual 140, 3) := dk_182 0 140 (dk_at dksX7_turn_6 3 rfl rfl)
theorem dX7_turn_146 : decode cX7_turn 146 = .ok (.iinc 4 1, 3) := dk_132 4 1 (dk_at dksX7_turn_6 6 rfl rfl)
theorem dX7_turn_149 : decode cX7_turn 149 = .ok (.goto (-136), 3) := dk_167 255 120 (dk_at dksX7_turn_6 9 rfl rfl)
theorem dX7_turn_152 : decode cX7_turn 152 = .ok (.return_, 1) := dk_177 (dk_at dksX7_turn_6 12 rfl rfl)
abbrev cX7_save : ByteArray := prog_14_method_4_code
def yX7_save : MethodName := ⟨RX7, "save", "(IILIdealCourt$Whole;)V"⟩
def dkwX7_save_2 : List UInt8 := [96, 21, 5, 96, 45, 180, 0, 110, 21, 5, 46, 79, 132, 5, 1, 167, 255, 225, 177]
abbrev dktX7_save_2 : List UInt8 := dkwX7_save_2 ++ []
def dkwX7_save_1 : List UInt8 := [180, 0, 104, 104, 79, 3, 54, 5, 21, 5, 45, 180, 0, 104, 162, 0, 28, 42, 180, 0, 11, 21, 4, 4]
abbrev dktX7_save_1 : List UInt8 := dkwX7_save_1 ++ dktX7_save_2
def dkwX7_save_0 : List UInt8 := [16, 12, 16, 70, 27, 104, 28, 96, 104, 54, 4, 42, 180, 0, 11, 21, 4, 45, 180, 0, 107, 45]
abbrev dktX7_save_0 : List UInt8 := dkwX7_save_0 ++ dktX7_save_1
theorem dksX7_save_0 : cX7_save.data.toList.drop 0 = dktX7_save_0 := by decide +kernel
theorem dksX7_save_1 : cX7_save.data.toList.drop 22 = dktX7_save_1 := dk_seg dksX7_save_0 22 rfl rfl
theorem dksX7_save_2 : cX7_save.data.toList.drop 46 = dktX7_save_2 := dk_seg dksX7_save_1 24 rfl rfl
theorem dX7_save_0 : decode cX7_save 0 = .ok (.bipush 12, 2) := dk_16 12 (dk_at dksX7_save_0 0 rfl rfl)
theorem dX7_save_2 : decode cX7_save 2 = .ok (.bipush 70, 2) := dk_16 70 (dk_at dksX7_save_0 2 rfl rfl)
theorem dX7_save_4 : decode cX7_save 4 = .ok (.iload_n 1, 1) := dk_27 (dk_at dksX7_save_0 4 rfl rfl)
theorem dX7_save_5 : decode cX7_save 5 = .ok (.imul, 1) := dk_104 (dk_at dksX7_save_0 5 rfl rfl)
theorem dX7_save_6 : decode cX7_save 6 = .ok (.iload_n 2, 1) := dk_28 (dk_at dksX7_save_0 6 rfl rfl)
theorem dX7_save_7 : decode cX7_save 7 = .ok (.iadd, 1) := dk_96 (dk_at dksX7_save_0 7 rfl rfl)
theorem dX7_save_8 : decode cX7_save 8 = .ok (.imul, 1) := dk_104 (dk_at dksX7_save_0 8 rfl rfl)
theorem dX7_save_9 : decode cX7_save 9 = .ok (.istore 4, 2) := dk_54 4 (dk_at dksX7_save_0 9 rfl rfl)
theorem dX7_save_11 : decode cX7_save 11 = .ok (.aload_n 0, 1) := dk_42 (dk_at dksX7_save_0 11 rfl rfl)
theorem dX7_save_12 : decode cX7_save 12 = .ok (.getfield 11, 3) := dk_180 0 11 (dk_at dksX7_save_0 12 rfl rfl)
theorem dX7_save_15 : decode cX7_save 15 = .ok (.iload 4, 2) := dk_21 4 (dk_at dksX7_save_0 15 rfl rfl)
theorem dX7_save_17 : decode cX7_save 17 = .ok (.aload_n 3, 1) := dk_45 (dk_at dksX7_save_0 17 rfl rfl)
theorem dX7_save_18 : decode cX7_save 18 = .ok (.getfield 107, 3) := dk_180 0 107 (dk_at dksX7_save_0 18 rfl rfl)
theorem dX7_save_21 : decode cX7_save 21 = .ok (.aload_n 3, 1) := dk_45 (dk_at dksX7_save_0 21 rfl rfl)
theorem dX7_save_22 : decode cX7_save 22 = .ok (.getfield 104, 3) := dk_180 0 104 (dk_at dksX7_save_1 0 rfl rfl)
theorem dX7_save_25 : decode cX7_save 25 = .ok (.imul, 1) := dk_104 (dk_at dksX7_save_1 3 rfl rfl)
theorem dX7_save_26 : decode cX7_save 26 = .ok (.iastore, 1) := dk_79 (dk_at dksX7_save_1 4 rfl rfl)
theorem dX7_save_27 : decode cX7_save 27 = .ok (.iconst 0, 1) := dk_3 (dk_at dksX7_save_1 5 rfl rfl)
theorem dX7_save_28 : decode cX7_save 28 = .ok (.istore 5, 2) := dk_54 5 (dk_at dksX7_save_1 6 rfl rfl)
theorem dX7_save_30 : decode cX7_save 30 = .ok (.iload 5, 2) := dk_21 5 (dk_at dksX7_save_1 8 rfl rfl)
theorem dX7_save_32 : decode cX7_save 32 = .ok (.aload_n 3, 1) := dk_45 (dk_at dksX7_save_1 10 rfl rfl)
theorem dX7_save_33 : decode cX7_save 33 = .ok (.getfield 104, 3) := dk_180 0 104 (dk_at dksX7_save_1 11 rfl rfl)
theorem dX7_save_36 : decode cX7_save 36 = .ok (.if_icmp .ge 28, 3) := dk_162 0 28 (dk_at dksX7_save_1 14 rfl rfl)
theorem dX7_save_39 : decode cX7_save 39 = .ok (.aload_n 0, 1) := dk_42 (dk_at dksX7_save_1 17 rfl rfl)
theorem dX7_save_40 : decode cX7_save 40 = .ok (.getfield 11, 3) := dk_180 0 11 (dk_at dksX7_save_1 18 rfl rfl)
theorem dX7_save_43 : decode cX7_save 43 = .ok (.iload 4, 2) := dk_21 4 (dk_at dksX7_save_1 21 rfl rfl)
theorem dX7_save_45 : decode cX7_save 45 = .ok (.iconst 1, 1) := dk_4 (dk_at dksX7_save_1 23 rfl rfl)
theorem dX7_save_46 : decode cX7_save 46 = .ok (.iadd, 1) := dk_96 (dk_at dksX7_save_2 0 rfl rfl)
theorem dX7_save_47 : decode cX7_save 47 = .ok (.iload 5, 2) := dk_21 5 (dk_at dksX7_save_2 1 rfl rfl)
theorem dX7_save_49 : decode cX7_save 49 = .ok (.iadd, 1) := dk_96 (dk_at dksX7_save_2 3 rfl rfl)
theorem dX7_save_50 : decode cX7_save 50 = .ok (.aload_n 3, 1) := dk_45 (dk_at dksX7_save_2 4 rfl rfl)
theorem dX7_save_51 : decode cX7_save 51 = .ok (.getfield 110, 3) := dk_180 0 110 (dk_at dksX7_save_2 5 rfl rfl)
theorem dX7_save_54 : decode cX7_save 54 = .ok (.iload 5, 2) := dk_21 5 (dk_at dksX7_save_2 8 rfl rfl)
theorem dX7_save_56 : decode cX7_save 56 = .ok (.iaload, 1) := dk_46 (dk_at dksX7_save_2 10 rfl rfl)
theorem dX7_save_57 : decode cX7_save 57 = .ok (.iastore, 1) := dk_79 (dk_at dksX7_save_2 11 rfl rfl)
theorem dX7_save_58 : decode cX7_save 58 = .ok (.iinc 5 1, 3) := dk_132 5 1 (dk_at dksX7_save_2 12 rfl rfl)
theorem dX7_save_61 : decode cX7_save 61 = .ok (.goto (-31), 3) := dk_167 255 225 (dk_at dksX7_save_2 15 rfl rfl)
theorem dX7_save_64 : decode cX7_save 64 = .ok (.return_, 1) := dk_177 (dk_at dksX7_save_2 18 rfl rfl)
abbrev cX7_element : ByteArray := prog_14_method_12_code
def yX7_element : MethodName := ⟨RX7, "element", "(ILIdealCourt$Poly;LIdealCourt$Ratio;)V"⟩
def dkwX7_element_2 : List UInt8 := [180, 0, 39, 21, 4, 53, 45, 182, 0, 182, 87, 132, 4, 1, 167, 255, 202, 177]
abbrev dktX7_element_2 : List UInt8 := dkwX7_element_2 ++ []
def dkwX7_element_1 : List UInt8 := [180, 0, 171, 182, 0, 117, 45, 180, 0, 176, 42, 180, 0, 22, 182, 0, 125, 45, 182, 0, 179, 44, 42]
abbrev dktX7_element_1 : List UInt8 := dkwX7_element_1 ++ dktX7_element_2
def dkwX7_element_0 : List UInt8 := [44, 182, 0, 166, 3, 54, 4, 21, 4, 16, 35, 162, 0, 53, 42, 42, 180, 0, 49, 27, 46, 21, 4, 45]
abbrev dktX7_element_0 : List UInt8 := dkwX7_element_0 ++ dktX7_element_1
theorem dksX7_element_0 : cX7_element.data.toList.drop 0 = dktX7_element_0 := by decide +kernel
theorem dksX7_element_1 : cX7_element.data.toList.drop 24 = dktX7_element_1 := dk_seg dksX7_element_0 24 rfl rfl
theorem dksX7_element_2 : cX7_element.data.toList.drop 47 = dktX7_element_2 := dk_seg dksX7_element_1 23 rfl rfl
theorem dX7_element_0 : decode cX7_element 0 = .ok (.aload_n 2, 1) := dk_44 (dk_at dksX7_element_0 0 rfl rfl)
theorem dX7_element_1 : decode cX7_element 1 = .ok (.invokevirtual 166, 3) := dk_182 0 166 (dk_at dksX7_element_0 1 rfl rfl)
theorem dX7_element_4 : decode cX7_element 4 = .ok (.iconst 0, 1) := dk_3 (dk_at dksX7_element_0 4 rfl rfl)
theorem dX7_element_5 : decode cX7_element 5 = .ok (.istore 4, 2) := dk_54 4 (dk_at dksX7_element_0 5 rfl rfl)
theorem dX7_element_7 : decode cX7_element 7 = .ok (.iload 4, 2) := dk_21 4 (dk_at dksX7_element_0 7 rfl rfl)
theorem dX7_element_9 : decode cX7_element 9 = .ok (.bipush 35, 2) := dk_16 35 (dk_at dksX7_element_0 9 rfl rfl)
theorem dX7_element_11 : decode cX7_element 11 = .ok (.if_icmp .ge 53, 3) := dk_162 0 53 (dk_at dksX7_element_0 11 rfl rfl)
theorem dX7_element_14 : decode cX7_element 14 = .ok (.aload_n 0, 1) := dk_42 (dk_at dksX7_element_0 14 rfl rfl)
theorem dX7_element_15 : decode cX7_element 15 = .ok (.aload_n 0, 1) := dk_42 (dk_at dksX7_element_0 15 rfl rfl)
theorem dX7_element_16 : decode cX7_element 16 = .ok (.getfield 49, 3) := dk_180 0 49 (dk_at dksX7_element_0 16 rfl rfl)
theorem dX7_element_19 : decode cX7_element 19 = .ok (.iload_n 1, 1) := dk_27 (dk_at dksX7_element_0 19 rfl rfl)
theorem dX7_element_20 : decode cX7_element 20 = .ok (.iaload, 1) := dk_46 (dk_at dksX7_element_0 20 rfl rfl)
theorem dX7_element_21 : decode cX7_element 21 = .ok (.iload 4, 2) := dk_21 4 (dk_at dksX7_element_0 21 rfl rfl)
theorem dX7_element_23 : decode cX7_element 23 = .ok (.aload_n 3, 1) := dk_45 (dk_at dksX7_element_0 23 rfl rfl)
theorem dX7_element_24 : decode cX7_element 24 = .ok (.getfield 171, 3) := dk_180 0 171 (dk_at dksX7_element_1 0 rfl rfl)
theorem dX7_element_27 : decode cX7_element 27 = .ok (.invokevirtual 117, 3) := dk_182 0 117 (dk_at dksX7_element_1 3 rfl rfl)
theorem dX7_element_30 : decode cX7_element 30 = .ok (.aload_n 3, 1) := dk_45 (dk_at dksX7_element_1 6 rfl rfl)
theorem dX7_element_31 : decode cX7_element 31 = .ok (.getfield 176, 3) := dk_180 0 176 (dk_at dksX7_element_1 7 rfl rfl)
theorem dX7_element_34 : decode cX7_element 34 = .ok (.aload_n 0, 1) := dk_42 (dk_at dksX7_element_1 10 rfl rfl)
theorem dX7_element_35 : decode cX7_element 35 = .ok (.getfield 22, 3) := dk_180 0 22 (dk_at dksX7_element_1 11 rfl rfl)
theorem dX7_element_38 : decode cX7_element 38 = .ok (.invokevirtual 125, 3) := dk_182 0 125 (dk_at dksX7_element_1 14 rfl rfl)
theorem dX7_element_41 : decode cX7_element 41 = .ok (.aload_n 3, 1) := dk_45 (dk_at dksX7_element_1 17 rfl rfl)
theorem dX7_element_42 : decode cX7_element 42 = .ok (.invokevirtual 179, 3) := dk_182 0 179 (dk_at dksX7_element_1 18 rfl rfl)
theorem dX7_element_45 : decode cX7_element 45 = .ok (.aload_n 2, 1) := dk_44 (dk_at dksX7_element_1 21 rfl rfl)
theorem dX7_element_46 : decode cX7_element 46 = .ok (.aload_n 0, 1) := dk_42 (dk_at dksX7_element_1 22 rfl rfl)
theorem dX7_element_47 : decode cX7_element 47 = .ok (.getfield 39, 3) := dk_180 0 39 (dk_at dksX7_element_2 0 rfl rfl)
theorem dX7_element_50 : decode cX7_element 50 = .ok (.iload 4, 2) := dk_21 4 (dk_at dksX7_element_2 3 rfl rfl)
theorem dX7_element_52 : decode cX7_element 52 = .ok (.saload, 1) := dk_53 (dk_at dksX7_element_2 5 rfl rfl)
theorem dX7_element_53 : decode cX7_element 53 = .ok (.aload_n 3, 1) := dk_45 (dk_at dksX7_element_2 6 rfl rfl)
theorem dX7_element_54 : decode cX7_element 54 = .ok (.invokevirtual 182, 3) := dk_182 0 182 (dk_at dksX7_element_2 7 rfl rfl)
theorem dX7_element_57 : decode cX7_element 57 = .ok (.pop, 1) := dk_87 (dk_at dksX7_element_2 10 rfl rfl)
theorem dX7_element_58 : decode cX7_element 58 = .ok (.iinc 4 1, 3) := dk_132 4 1 (dk_at dksX7_element_2 11 rfl rfl)
theorem dX7_element_61 : decode cX7_element 61 = .ok (.goto (-54), 3) := dk_167 255 202 (dk_at dksX7_element_2 14 rfl rfl)
theorem dX7_element_64 : decode cX7_element 64 = .ok (.return_, 1) := dk_177 (dk_at dksX7_element_2 17 rfl rfl)
abbrev cX7_leadOf : ByteArray := prog_14_method_11_code
def yX7_leadOf : MethodName := ⟨RX7, "leadOf", "(I)I"⟩
def dkwX7_leadOf_0 : List UInt8 := [42, 180, 0, 39, 42, 180, 0, 46, 42, 180, 0, 49, 27, 46, 46, 53, 172]
abbrev dktX7_leadOf_0 : List UInt8 := dkwX7_leadOf_0 ++ []
theorem dksX7_leadOf_0 : cX7_leadOf.data.toList.drop 0 = dktX7_leadOf_0 := by decide +kernel
theorem dX7_leadOf_0 : decode cX7_leadOf 0 = .ok (.aload_n 0, 1) := dk_42 (dk_at dksX7_leadOf_0 0 rfl rfl)
theorem dX7_leadOf_1 : decode cX7_leadOf 1 = .ok (.getfield 39, 3) := dk_180 0 39 (dk_at dksX7_leadOf_0 1 rfl rfl)
theorem dX7_leadOf_4 : decode cX7_leadOf 4 = .ok (.aload_n 0, 1) := dk_42 (dk_at dksX7_leadOf_0 4 rfl rfl)
theorem dX7_leadOf_5 : decode cX7_leadOf 5 = .ok (.getfield 46, 3) := dk_180 0 46 (dk_at dksX7_leadOf_0 5 rfl rfl)
theorem dX7_leadOf_8 : decode cX7_leadOf 8 = .ok (.aload_n 0, 1) := dk_42 (dk_at dksX7_leadOf_0 8 rfl rfl)
theorem dX7_leadOf_9 : decode cX7_leadOf 9 = .ok (.getfield 49, 3) := dk_180 0 49 (dk_at dksX7_leadOf_0 9 rfl rfl)
theorem dX7_leadOf_12 : decode cX7_leadOf 12 = .ok (.iload_n 1, 1) := dk_27 (dk_at dksX7_leadOf_0 12 rfl rfl)
theorem dX7_leadOf_13 : decode cX7_leadOf 13 = .ok (.iaload, 1) := dk_46 (dk_at dksX7_leadOf_0 13 rfl rfl)
theorem dX7_leadOf_14 : decode cX7_leadOf 14 = .ok (.iaload, 1) := dk_46 (dk_at dksX7_leadOf_0 14 rfl rfl)
theorem dX7_leadOf_15 : decode cX7_leadOf 15 = .ok (.saload, 1) := dk_53 (dk_at dksX7_leadOf_0 15 rfl rfl)
theorem dX7_leadOf_16 : decode cX7_leadOf 16 = .ok (.ireturn, 1) := dk_172 (dk_at dksX7_leadOf_0 16 rfl rfl)
abbrev cX7_isMinimal : ByteArray := prog_14_method_14_code
def yX7_isMinimal : MethodName := ⟨RX7, "isMinimal", "(I)Z"⟩
def dkwX7_isMinimal_2 : List UInt8 := [61, 132, 3, 1, 167, 255, 210, 28, 172]
abbrev dktX7_isMinimal_2 : List UInt8 := dkwX7_isMinimal_2 ++ []
def dkwX7_isMinimal_1 : List UInt8 := [180, 0, 68, 42, 29, 182, 0, 196, 42, 27, 182, 0, 196, 182, 0, 199, 154, 0, 7, 4, 167, 0, 4, 3]
abbrev dktX7_isMinimal_1 : List UInt8 := dkwX7_isMinimal_1 ++ dktX7_isMinimal_2
def dkwX7_isMinimal_0 : List UInt8 := [4, 61, 3, 62, 29, 42, 180, 0, 80, 162, 0, 44, 28, 153, 0, 32, 29, 27, 159, 0, 23, 42]
abbrev dktX7_isMinimal_0 : List UInt8 := dkwX7_isMinimal_0 ++ dktX7_isMinimal_1
theorem dksX7_isMinimal_0 : cX7_isMinimal.data.toList.drop 0 = dktX7_isMinimal_0 := by decide +kernel
theorem dksX7_isMinimal_1 : cX7_isMinimal.data.toList.drop 22 = dktX7_isMinimal_1 := dk_seg dksX7_isMinimal_0 22 rfl rfl
theorem dksX7_isMinimal_2 : cX7_isMinimal.data.toList.drop 46 = dktX7_isMinimal_2 := dk_seg dksX7_isMinimal_1 24 rfl rfl
theorem dX7_isMinimal_0 : decode cX7_isMinimal 0 = .ok (.iconst 1, 1) := dk_4 (dk_at dksX7_isMinimal_0 0 rfl rfl)
theorem dX7_isMinimal_1 : decode cX7_isMinimal 1 = .ok (.istore_n 2, 1) := dk_61 (dk_at dksX7_isMinimal_0 1 rfl rfl)
theorem dX7_isMinimal_2 : decode cX7_isMinimal 2 = .ok (.iconst 0, 1) := dk_3 (dk_at dksX7_isMinimal_0 2 rfl rfl)
theorem dX7_isMinimal_3 : decode cX7_isMinimal 3 = .ok (.istore_n 3, 1) := dk_62 (dk_at dksX7_isMinimal_0 3 rfl rfl)
theorem dX7_isMinimal_4 : decode cX7_isMinimal 4 = .ok (.iload_n 3, 1) := dk_29 (dk_at dksX7_isMinimal_0 4 rfl rfl)
theorem dX7_isMinimal_5 : decode cX7_isMinimal 5 = .ok (.aload_n 0, 1) := dk_42 (dk_at dksX7_isMinimal_0 5 rfl rfl)
theorem dX7_isMinimal_6 : decode cX7_isMinimal 6 = .ok (.getfield 80, 3) := dk_180 0 80 (dk_at dksX7_isMinimal_0 6 rfl rfl)
theorem dX7_isMinimal_9 : decode cX7_isMinimal 9 = .ok (.if_icmp .ge 44, 3) := dk_162 0 44 (dk_at dksX7_isMinimal_0 9 rfl rfl)
theorem dX7_isMinimal_12 : decode cX7_isMinimal 12 = .ok (.iload_n 2, 1) := dk_28 (dk_at dksX7_isMinimal_0 12 rfl rfl)
theorem dX7_isMinimal_13 : decode cX7_isMinimal 13 = .ok (.ifCond .eq 32, 3) := dk_153 0 32 (dk_at dksX7_isMinimal_0 13 rfl rfl)
theorem dX7_isMinimal_16 : decode cX7_isMinimal 16 = .ok (.iload_n 3, 1) := dk_29 (dk_at dksX7_isMinimal_0 16 rfl rfl)
theorem dX7_isMinimal_17 : decode cX7_isMinimal 17 = .ok (.iload_n 1, 1) := dk_27 (dk_at dksX7_isMinimal_0 17 rfl rfl)
theorem dX7_isMinimal_18 : decode cX7_isMinimal 18 = .ok (.if_icmp .eq 23, 3) := dk_159 0 23 (dk_at dksX7_isMinimal_0 18 rfl rfl)
theorem dX7_isMinimal_21 : decode cX7_isMinimal 21 = .ok (.aload_n 0, 1) := dk_42 (dk_at dksX7_isMinimal_0 21 rfl rfl)
theorem dX7_isMinimal_22 : decode cX7_isMinimal 22 = .ok (.getfield 68, 3) := dk_180 0 68 (dk_at dksX7_isMinimal_1 0 rfl rfl)
theorem dX7_isMinimal_25 : decode cX7_isMinimal 25 = .ok (.aload_n 0, 1) := dk_42 (dk_at dksX7_isMinimal_1 3 rfl rfl)
theorem dX7_isMinimal_26 : decode cX7_isMinimal 26 = .ok (.iload_n 3, 1) := dk_29 (dk_at dksX7_isMinimal_1 4 rfl rfl)
theorem dX7_isMinimal_27 : decode cX7_isMinimal 27 = .ok (.invokevirtual 196, 3) := dk_182 0 196 (dk_at dksX7_isMinimal_1 5 rfl rfl)
theorem dX7_isMinimal_30 : decode cX7_isMinimal 30 = .ok (.aload_n 0, 1) := dk_42 (dk_at dksX7_isMinimal_1 8 rfl rfl)
theorem dX7_isMinimal_31 : decode cX7_isMinimal 31 = .ok (.iload_n 1, 1) := dk_27 (dk_at dksX7_isMinimal_1 9 rfl rfl)
theorem dX7_isMinimal_32 : decode cX7_isMinimal 32 = .ok (.invokevirtual 196, 3) := dk_182 0 196 (dk_at dksX7_isMinimal_1 10 rfl rfl)
theorem dX7_isMinimal_35 : decode cX7_isMinimal 35 = .ok (.invokevirtual 199, 3) := dk_182 0 199 (dk_at dksX7_isMinimal_1 13 rfl rfl)
theorem dX7_isMinimal_38 : decode cX7_isMinimal 38 = .ok (.ifCond .ne 7, 3) := dk_154 0 7 (dk_at dksX7_isMinimal_1 16 rfl rfl)
theorem dX7_isMinimal_41 : decode cX7_isMinimal 41 = .ok (.iconst 1, 1) := dk_4 (dk_at dksX7_isMinimal_1 19 rfl rfl)
theorem dX7_isMinimal_42 : decode cX7_isMinimal 42 = .ok (.goto 4, 3) := dk_167 0 4 (dk_at dksX7_isMinimal_1 20 rfl rfl)
theorem dX7_isMinimal_45 : decode cX7_isMinimal 45 = .ok (.iconst 0, 1) := dk_3 (dk_at dksX7_isMinimal_1 23 rfl rfl)
theorem dX7_isMinimal_46 : decode cX7_isMinimal 46 = .ok (.istore_n 2, 1) := dk_61 (dk_at dksX7_isMinimal_2 0 rfl rfl)
theorem dX7_isMinimal_47 : decode cX7_isMinimal 47 = .ok (.iinc 3 1, 3) := dk_132 3 1 (dk_at dksX7_isMinimal_2 1 rfl rfl)
theorem dX7_isMinimal_50 : decode cX7_isMinimal 50 = .ok (.goto (-46), 3) := dk_167 255 210 (dk_at dksX7_isMinimal_2 4 rfl rfl)
theorem dX7_isMinimal_53 : decode cX7_isMinimal 53 = .ok (.iload_n 2, 1) := dk_28 (dk_at dksX7_isMinimal_2 7 rfl rfl)
theorem dX7_isMinimal_54 : decode cX7_isMinimal 54 = .ok (.ireturn, 1) := dk_172 (dk_at dksX7_isMinimal_2 8 rfl rfl)
abbrev cX7_free : ByteArray := prog_14_method_16_code
def yX7_free : MethodName := ⟨RX7, "free", "()I"⟩
def dkwX7_free_3 : List UInt8 := [42, 28, 182, 0, 207, 153, 0, 7, 4, 167, 0, 4, 3, 96, 60, 132, 2, 1, 167, 255, 230, 27, 172]
abbrev dktX7_free_3 : List UInt8 := dkwX7_free_3 ++ []
def dkwX7_free_2 : List UInt8 := [153, 0, 6, 16, 249, 172, 132, 1, 1, 167, 255, 202, 3, 60, 3, 61, 28, 17, 1, 199, 162, 0, 25, 27]
abbrev dktX7_free_2 : List UInt8 := dkwX7_free_2 ++ dktX7_free_3
def dkwX7_free_1 : List UInt8 := [160, 0, 7, 7, 167, 0, 4, 3, 27, 5, 160, 0, 7, 7, 167, 0, 4, 3, 182, 0, 203, 182, 0, 207]
abbrev dktX7_free_1 : List UInt8 := dkwX7_free_1 ++ dktX7_free_2
def dkwX7_free_0 : List UInt8 := [3, 60, 27, 6, 162, 0, 55, 42, 42, 180, 0, 68, 27, 154, 0, 7, 7, 167, 0, 4, 3, 27, 4]
abbrev dktX7_free_0 : List UInt8 := dkwX7_free_0 ++ dktX7_free_1
theorem dksX7_free_0 : cX7_free.data.toList.drop 0 = dktX7_free_0 := by decide +kernel
theorem dksX7_free_1 : cX7_free.data.toList.drop 23 = dktX7_free_1 := dk_seg dksX7_free_0 23 rfl rfl
theorem dksX7_free_2 : cX7_free.data.toList.drop 47 = dktX7_free_2 := dk_seg dksX7_free_1 24 rfl rfl
theorem dksX7_free_3 : cX7_free.data.toList.drop 71 = dktX7_free_3 := dk_seg dksX7_free_2 24 rfl rfl
theorem dX7_free_0 : decode cX7_free 0 = .ok (.iconst 0, 1) := dk_3 (dk_at dksX7_free_0 0 rfl rfl)
theorem dX7_free_1 : decode cX7_free 1 = .ok (.istore_n 1, 1) := dk_60 (dk_at dksX7_free_0 1 rfl rfl)
theorem dX7_free_2 : decode cX7_free 2 = .ok (.iload_n 1, 1) := dk_27 (dk_at dksX7_free_0 2 rfl rfl)
theorem dX7_free_3 : decode cX7_free 3 = .ok (.iconst 3, 1) := dk_6 (dk_at dksX7_free_0 3 rfl rfl)
theorem dX7_free_4 : decode cX7_free 4 = .ok (.if_icmp .ge 55, 3) := dk_162 0 55 (dk_at dksX7_free_0 4 rfl rfl)
theorem dX7_free_7 : decode cX7_free 7 = .ok (.aload_n 0, 1) := dk_42 (dk_at dksX7_free_0 7 rfl rfl)
theorem dX7_free_8 : decode cX7_free 8 = .ok (.aload_n 0, 1) := dk_42 (dk_at dksX7_free_0 8 rfl rfl)
theorem dX7_free_9 : decode cX7_free 9 = .ok (.getfield 68, 3) := dk_180 0 68 (dk_at dksX7_free_0 9 rfl rfl)
theorem dX7_free_12 : decode cX7_free 12 = .ok (.iload_n 1, 1) := dk_27 (dk_at dksX7_free_0 12 rfl rfl)
theorem dX7_free_13 : decode cX7_free 13 = .ok (.ifCond .ne 7, 3) := dk_154 0 7 (dk_at dksX7_free_0 13 rfl rfl)
theorem dX7_free_16 : decode cX7_free 16 = .ok (.iconst 4, 1) := dk_7 (dk_at dksX7_free_0 16 rfl rfl)
theorem dX7_free_17 : decode cX7_free 17 = .ok (.goto 4, 3) := dk_167 0 4 (dk_at dksX7_free_0 17 rfl rfl)
theorem dX7_free_20 : decode cX7_free 20 = .ok (.iconst 0, 1) := dk_3 (dk_at dksX7_free_0 20 rfl rfl)
theorem dX7_free_21 : decode cX7_free 21 = .ok (.iload_n 1, 1) := dk_27 (dk_at dksX7_free_0 21 rfl rfl)
theorem dX7_free_22 : decode cX7_free 22 = .ok (.iconst 1, 1) := dk_4 (dk_at dksX7_free_0 22 rfl rfl)
theorem dX7_free_23 : decode cX7_free 23 = .ok (.if_icmp .ne 7, 3) := dk_160 0 7 (dk_at dksX7_free_1 0 rfl rfl)
theorem dX7_free_26 : decode cX7_free 26 = .ok (.iconst 4, 1) := dk_7 (dk_at dksX7_free_1 3 rfl rfl)
theorem dX7_free_27 : decode cX7_free 27 = .ok (.goto 4, 3) := dk_167 0 4 (dk_at dksX7_free_1 4 rfl rfl)
theorem dX7_free_30 : decode cX7_free 30 = .ok (.iconst 0, 1) := dk_3 (dk_at dksX7_free_1 7 rfl rfl)
theorem dX7_free_31 : decode cX7_free 31 = .ok (.iload_n 1, 1) := dk_27 (dk_at dksX7_free_1 8 rfl rfl)
theorem dX7_free_32 : decode cX7_free 32 = .ok (.iconst 2, 1) := dk_5 (dk_at dksX7_free_1 9 rfl rfl)
theorem dX7_free_33 : decode cX7_free 33 = .ok (.if_icmp .ne 7, 3) := dk_160 0 7 (dk_at dksX7_free_1 10 rfl rfl)
theorem dX7_free_36 : decode cX7_free 36 = .ok (.iconst 4, 1) := dk_7 (dk_at dksX7_free_1 13 rfl rfl)
theorem dX7_free_37 : decode cX7_free 37 = .ok (.goto 4, 3) := dk_167 0 4 (dk_at dksX7_free_1 14 rfl rfl)
theorem dX7_free_40 : decode cX7_free 40 = .ok (.iconst 0, 1) := dk_3 (dk_at dksX7_free_1 17 rfl rfl)
theorem dX7_free_41 : decode cX7_free 41 = .ok (.invokevirtual 203, 3) := dk_182 0 203 (dk_at dksX7_free_1 18 rfl rfl)
theorem dX7_free_44 : decode cX7_free 44 = .ok (.invokevirtual 207, 3) := dk_182 0 207 (dk_at dksX7_free_1 21 rfl rfl)
theorem dX7_free_47 : decode cX7_free 47 = .ok (.ifCond .eq 6, 3) := dk_153 0 6 (dk_at dksX7_free_2 0 rfl rfl)
theorem dX7_free_50 : decode cX7_free 50 = .ok (.bipush (-7), 2) := dk_16 249 (dk_at dksX7_free_2 3 rfl rfl)
theorem dX7_free_52 : decode cX7_free 52 = .ok (.ireturn, 1) := dk_172 (dk_at dksX7_free_2 5 rfl rfl)
theorem dX7_free_53 : decode cX7_free 53 = .ok (.iinc 1 1, 3) := dk_132 1 1 (dk_at dksX7_free_2 6 rfl rfl)
theorem dX7_free_56 : decode cX7_free 56 = .ok (.goto (-54), 3) := dk_167 255 202 (dk_at dksX7_free_2 9 rfl rfl)
theorem dX7_free_59 : decode cX7_free 59 = .ok (.iconst 0, 1) := dk_3 (dk_at dksX7_free_2 12 rfl rfl)
theorem dX7_free_60 : decode cX7_free 60 = .ok (.istore_n 1, 1) := dk_60 (dk_at dksX7_free_2 13 rfl rfl)
theorem dX7_free_61 : decode cX7_free 61 = .ok (.iconst 0, 1) := dk_3 (dk_at dksX7_free_2 14 rfl rfl)
theorem dX7_free_62 : decode cX7_free 62 = .ok (.istore_n 2, 1) := dk_61 (dk_at dksX7_free_2 15 rfl rfl)
theorem dX7_free_63 : decode cX7_free 63 = .ok (.iload_n 2, 1) := dk_28 (dk_at dksX7_free_2 16 rfl rfl)
theorem dX7_free_64 : decode cX7_free 64 = .ok (.sipush 455, 3) := dk_17 1 199 (dk_at dksX7_free_2 17 rfl rfl)
theorem dX7_free_67 : decode cX7_free 67 = .ok (.if_icmp .ge 25, 3) := dk_162 0 25 (dk_at dksX7_free_2 20 rfl rfl)
theorem dX7_free_70 : decode cX7_free 70 = .ok (.iload_n 1, 1) := dk_27 (dk_at dksX7_free_2 23 rfl rfl)
theorem dX7_free_71 : decode cX7_free 71 = .ok (.aload_n 0, 1) := dk_42 (dk_at dksX7_free_3 0 rfl rfl)
theorem dX7_free_72 : decode cX7_free 72 = .ok (.iload_n 2, 1) := dk_28 (dk_at dksX7_free_3 1 rfl rfl)
theorem dX7_free_73 : decode cX7_free 73 = .ok (.invokevirtual 207, 3) := dk_182 0 207 (dk_at dksX7_free_3 2 rfl rfl)
theorem dX7_free_76 : decode cX7_free 76 = .ok (.ifCond .eq 7, 3) := dk_153 0 7 (dk_at dksX7_free_3 5 rfl rfl)
theorem dX7_free_79 : decode cX7_free 79 = .ok (.iconst 1, 1) := dk_4 (dk_at dksX7_free_3 8 rfl rfl)
theorem dX7_free_80 : decode cX7_free 80 = .ok (.goto 4, 3) := dk_167 0 4 (dk_at dksX7_free_3 9 rfl rfl)
theorem dX7_free_83 : decode cX7_free 83 = .ok (.iconst 0, 1) := dk_3 (dk_at dksX7_free_3 12 rfl rfl)
theorem dX7_free_84 : decode cX7_free 84 = .ok (.iadd, 1) := dk_96 (dk_at dksX7_free_3 13 rfl rfl)
theorem dX7_free_85 : decode cX7_free 85 = .ok (.istore_n 1, 1) := dk_60 (dk_at dksX7_free_3 14 rfl rfl)
theorem dX7_free_86 : decode cX7_free 86 = .ok (.iinc 2 1, 3) := dk_132 2 1 (dk_at dksX7_free_3 15 rfl rfl)
theorem dX7_free_89 : decode cX7_free 89 = .ok (.goto (-26), 3) := dk_167 255 230 (dk_at dksX7_free_3 18 rfl rfl)
theorem dX7_free_92 : decode cX7_free 92 = .ok (.iload_n 1, 1) := dk_27 (dk_at dksX7_free_3 21 rfl rfl)
theorem dX7_free_93 : decode cX7_free 93 = .ok (.ireturn, 1) := dk_172 (dk_at dksX7_free_3 22 rfl rfl)
abbrev cX7_isFree : ByteArray := prog_14_method_15_code
def yX7_isFree : MethodName := ⟨RX7, "isFree", "(I)Z"⟩
def dkwX7_isFree_1 : List UInt8 := [182, 0, 196, 27, 182, 0, 199, 154, 0, 7, 4, 167, 0, 4, 3, 61, 132, 3, 1, 167, 255, 219, 28, 172]
abbrev dktX7_isFree_1 : List UInt8 := dkwX7_isFree_1 ++ []
def dkwX7_isFree_0 : List UInt8 := [4, 61, 3, 62, 29, 42, 180, 0, 80, 162, 0, 35, 28, 153, 0, 23, 42, 180, 0, 68, 42, 29]
abbrev dktX7_isFree_0 : List UInt8 := dkwX7_isFree_0 ++ dktX7_isFree_1
theorem dksX7_isFree_0 : cX7_isFree.data.toList.drop 0 = dktX7_isFree_0 := by decide +kernel
theorem dksX7_isFree_1 : cX7_isFree.data.toList.drop 22 = dktX7_isFree_1 := dk_seg dksX7_isFree_0 22 rfl rfl
theorem dX7_isFree_0 : decode cX7_isFree 0 = .ok (.iconst 1, 1) := dk_4 (dk_at dksX7_isFree_0 0 rfl rfl)
theorem dX7_isFree_1 : decode cX7_isFree 1 = .ok (.istore_n 2, 1) := dk_61 (dk_at dksX7_isFree_0 1 rfl rfl)
theorem dX7_isFree_2 : decode cX7_isFree 2 = .ok (.iconst 0, 1) := dk_3 (dk_at dksX7_isFree_0 2 rfl rfl)
theorem dX7_isFree_3 : decode cX7_isFree 3 = .ok (.istore_n 3, 1) := dk_62 (dk_at dksX7_isFree_0 3 rfl rfl)
theorem dX7_isFree_4 : decode cX7_isFree 4 = .ok (.iload_n 3, 1) := dk_29 (dk_at dksX7_isFree_0 4 rfl rfl)
theorem dX7_isFree_5 : decode cX7_isFree 5 = .ok (.aload_n 0, 1) := dk_42 (dk_at dksX7_isFree_0 5 rfl rfl)
theorem dX7_isFree_6 : decode cX7_isFree 6 = .ok (.getfield 80, 3) := dk_180 0 80 (dk_at dksX7_isFree_0 6 rfl rfl)
theorem dX7_isFree_9 : decode cX7_isFree 9 = .ok (.if_icmp .ge 35, 3) := dk_162 0 35 (dk_at dksX7_isFree_0 9 rfl rfl)
theorem dX7_isFree_12 : decode cX7_isFree 12 = .ok (.iload_n 2, 1) := dk_28 (dk_at dksX7_isFree_0 12 rfl rfl)
theorem dX7_isFree_13 : decode cX7_isFree 13 = .ok (.ifCond .eq 23, 3) := dk_153 0 23 (dk_at dksX7_isFree_0 13 rfl rfl)
theorem dX7_isFree_16 : decode cX7_isFree 16 = .ok (.aload_n 0, 1) := dk_42 (dk_at dksX7_isFree_0 16 rfl rfl)
theorem dX7_isFree_17 : decode cX7_isFree 17 = .ok (.getfield 68, 3) := dk_180 0 68 (dk_at dksX7_isFree_0 17 rfl rfl)
theorem dX7_isFree_20 : decode cX7_isFree 20 = .ok (.aload_n 0, 1) := dk_42 (dk_at dksX7_isFree_0 20 rfl rfl)
theorem dX7_isFree_21 : decode cX7_isFree 21 = .ok (.iload_n 3, 1) := dk_29 (dk_at dksX7_isFree_0 21 rfl rfl)
theorem dX7_isFree_22 : decode cX7_isFree 22 = .ok (.invokevirtual 196, 3) := dk_182 0 196 (dk_at dksX7_isFree_1 0 rfl rfl)
theorem dX7_isFree_25 : decode cX7_isFree 25 = .ok (.iload_n 1, 1) := dk_27 (dk_at dksX7_isFree_1 3 rfl rfl)
theorem dX7_isFree_26 : decode cX7_isFree 26 = .ok (.invokevirtual 199, 3) := dk_182 0 199 (dk_at dksX7_isFree_1 4 rfl rfl)
theorem dX7_isFree_29 : decode cX7_isFree 29 = .ok (.ifCond .ne 7, 3) := dk_154 0 7 (dk_at dksX7_isFree_1 7 rfl rfl)
theorem dX7_isFree_32 : decode cX7_isFree 32 = .ok (.iconst 1, 1) := dk_4 (dk_at dksX7_isFree_1 10 rfl rfl)
theorem dX7_isFree_33 : decode cX7_isFree 33 = .ok (.goto 4, 3) := dk_167 0 4 (dk_at dksX7_isFree_1 11 rfl rfl)
theorem dX7_isFree_36 : decode cX7_isFree 36 = .ok (.iconst 0, 1) := dk_3 (dk_at dksX7_isFree_1 14 rfl rfl)
theorem dX7_isFree_37 : decode cX7_isFree 37 = .ok (.istore_n 2, 1) := dk_61 (dk_at dksX7_isFree_1 15 rfl rfl)
theorem dX7_isFree_38 : decode cX7_isFree 38 = .ok (.iinc 3 1, 3) := dk_132 3 1 (dk_at dksX7_isFree_1 16 rfl rfl)
theorem dX7_isFree_41 : decode cX7_isFree 41 = .ok (.goto (-37), 3) := dk_167 255 219 (dk_at dksX7_isFree_1 19 rfl rfl)
theorem dX7_isFree_44 : decode cX7_isFree 44 = .ok (.iload_n 2, 1) := dk_28 (dk_at dksX7_isFree_1 22 rfl rfl)
theorem dX7_isFree_45 : decode cX7_isFree 45 = .ok (.ireturn, 1) := dk_172 (dk_at dksX7_isFree_1 23 rfl rfl)
abbrev cX7_member : ByteArray := prog_14_method_13_code
def yX7_member : MethodName := ⟨RX7, "member", "(LIdealCourt$Poly;LIdealCourt$Poly;[LIdealCourt$Poly;LIdealCourt$Ratio;)Z"⟩
def dkwX7_member_14 : List UInt8 := [87, 132, 5, 1, 167, 255, 75, 4, 172]
abbrev dktX7_member_14 : List UInt8 := dkwX7_member_14 ++ []
def dkwX7_member_13 : List UInt8 := [182, 0, 179, 45, 42, 180, 0, 52, 21, 5, 46, 50, 42, 180, 0, 55, 21, 5, 46, 25, 4, 182, 0, 182]
abbrev dktX7_member_13 : List UInt8 := dkwX7_member_13 ++ dktX7_member_14
def dkwX7_member_12 : List UInt8 := [180, 0, 171, 42, 180, 0, 33, 182, 0, 125, 25, 4, 180, 0, 176, 42, 180, 0, 22, 182, 0, 125, 25, 4]
abbrev dktX7_member_12 : List UInt8 := dkwX7_member_12 ++ dktX7_member_13
def dkwX7_member_11 : List UInt8 := [180, 0, 33, 42, 180, 0, 33, 42, 180, 0, 65, 4, 182, 0, 121, 132, 6, 1, 167, 255, 152, 25, 4]
abbrev dktX7_member_11 : List UInt8 := dkwX7_member_11 ++ dktX7_member_12
def dkwX7_member_10 : List UInt8 := [180, 0, 72, 42, 180, 0, 65, 42, 180, 0, 30, 42, 180, 0, 36, 182, 0, 113, 42, 180, 0, 72, 42]
abbrev dktX7_member_10 : List UInt8 := dkwX7_member_10 ++ dktX7_member_11
def dkwX7_member_9 : List UInt8 := [182, 0, 117, 42, 180, 0, 36, 42, 180, 0, 58, 42, 180, 0, 46, 21, 6, 46, 46, 133, 182, 0, 83, 42]
abbrev dktX7_member_9 : List UInt8 := dkwX7_member_9 ++ dktX7_member_10
def dkwX7_member_8 : List UInt8 := [21, 6, 46, 46, 154, 0, 6, 167, 0, 77, 42, 21, 6, 16, 35, 21, 5, 96, 42, 180, 0, 30]
abbrev dktX7_member_8 : List UInt8 := dkwX7_member_8 ++ dktX7_member_9
def dkwX7_member_7 : List UInt8 := [182, 0, 83, 3, 54, 6, 21, 6, 42, 180, 0, 80, 162, 0, 101, 42, 180, 0, 58, 42, 180, 0, 46]
abbrev dktX7_member_7 : List UInt8 := dkwX7_member_7 ++ dktX7_member_8
def dkwX7_member_6 : List UInt8 := [158, 0, 5, 3, 172, 3, 54, 5, 21, 5, 42, 180, 0, 80, 162, 0, 178, 42, 180, 0, 33, 9]
abbrev dktX7_member_6 : List UInt8 := dkwX7_member_6 ++ dktX7_member_7
def dkwX7_member_5 : List UInt8 := [180, 0, 150, 162, 0, 16, 45, 21, 5, 50, 182, 0, 166, 132, 5, 1, 167, 255, 237, 44, 180, 0, 193]
abbrev dktX7_member_5 : List UInt8 := dkwX7_member_5 ++ dktX7_member_6
def dkwX7_member_4 : List UInt8 := [180, 0, 39, 21, 5, 53, 25, 4, 182, 0, 182, 87, 132, 5, 1, 167, 255, 200, 3, 54, 5, 21, 5, 42]
abbrev dktX7_member_4 : List UInt8 := dkwX7_member_4 ++ dktX7_member_5
def dkwX7_member_3 : List UInt8 := [50, 182, 0, 125, 25, 4, 180, 0, 176, 42, 180, 0, 22, 182, 0, 125, 25, 4, 182, 0, 179, 44, 42]
abbrev dktX7_member_3 : List UInt8 := dkwX7_member_3 ++ dktX7_member_4
def dkwX7_member_2 : List UInt8 := [182, 0, 166, 3, 54, 5, 21, 5, 16, 35, 162, 0, 55, 25, 4, 180, 0, 171, 42, 180, 0, 26, 21, 5]
abbrev dktX7_member_2 : List UInt8 := dkwX7_member_2 ++ dktX7_member_3
def dkwX7_member_1 : List UInt8 := [180, 0, 58, 21, 5, 25, 4, 182, 0, 190, 79, 132, 5, 1, 167, 255, 221, 42, 16, 35, 182, 0, 129, 44]
abbrev dktX7_member_1 : List UInt8 := dkwX7_member_1 ++ dktX7_member_2
def dkwX7_member_0 : List UInt8 := [3, 54, 5, 21, 5, 16, 35, 162, 0, 34, 43, 42, 180, 0, 39, 21, 5, 53, 25, 4, 182, 0, 186, 42]
abbrev dktX7_member_0 : List UInt8 := dkwX7_member_0 ++ dktX7_member_1
theorem dksX7_member_0 : cX7_member.data.toList.drop 0 = dktX7_member_0 := by decide +kernel
theorem dksX7_member_1 : cX7_member.data.toList.drop 24 = dktX7_member_1 := dk_seg dksX7_member_0 24 rfl rfl
theorem dksX7_member_2 : cX7_member.data.toList.drop 48 = dktX7_member_2 := dk_seg dksX7_member_1 24 rfl rfl
theorem dksX7_member_3 : cX7_member.data.toList.drop 72 = dktX7_member_3 := dk_seg dksX7_member_2 24 rfl rfl
theorem dksX7_member_4 : cX7_member.data.toList.drop 95 = dktX7_member_4 := dk_seg dksX7_member_3 23 rfl rfl
theorem dksX7_member_5 : cX7_member.data.toList.drop 119 = dktX7_member_5 := dk_seg dksX7_member_4 24 rfl rfl
theorem dksX7_member_6 : cX7_member.data.toList.drop 142 = dktX7_member_6 := dk_seg dksX7_member_5 23 rfl rfl
theorem dksX7_member_7 : cX7_member.data.toList.drop 164 = dktX7_member_7 := dk_seg dksX7_member_6 22 rfl rfl
theorem dksX7_member_8 : cX7_member.data.toList.drop 187 = dktX7_member_8 := dk_seg dksX7_member_7 23 rfl rfl
theorem dksX7_member_9 : cX7_member.data.toList.drop 209 = dktX7_member_9 := dk_seg dksX7_member_8 22 rfl rfl
theorem dksX7_member_10 : cX7_member.data.toList.drop 233 = dktX7_member_10 := dk_seg dksX7_member_9 24 rfl rfl
theorem dksX7_member_11 : cX7_member.data.toList.drop 256 = dktX7_member_11 := dk_seg dksX7_member_10 23 rfl rfl
theorem dksX7_member_12 : cX7_member.data.toList.drop 279 = dktX7_member_12 := dk_seg dksX7_member_11 23 rfl rfl
theorem dksX7_member_13 : cX7_member.data.toList.drop 303 = dktX7_member_13 := dk_seg dksX7_member_12 24 rfl rfl
theorem dksX7_member_14 : cX7_member.data.toList.drop 327 = dktX7_member_14 := dk_seg dksX7_member_13 24 rfl rfl
theorem dX7_member_0 : decode cX7_member 0 = .ok (.iconst 0, 1) := dk_3 (dk_at dksX7_member_0 0 rfl rfl)
theorem dX7_member_1 : decode cX7_member 1 = .ok (.istore 5, 2) := dk_54 5 (dk_at dksX7_member_0 1 rfl rfl)
theorem dX7_member_3 : decode cX7_member 3 = .ok (.iload 5, 2) := dk_21 5 (dk_at dksX7_member_0 3 rfl rfl)
theorem dX7_member_5 : decode cX7_member 5 = .ok (.bipush 35, 2) := dk_16 35 (dk_at dksX7_member_0 5 rfl rfl)
theorem dX7_member_7 : decode cX7_member 7 = .ok (.if_icmp .ge 34, 3) := dk_162 0 34 (dk_at dksX7_member_0 7 rfl rfl)
theorem dX7_member_10 : decode cX7_member 10 = .ok (.aload_n 1, 1) := dk_43 (dk_at dksX7_member_0 10 rfl rfl)
theorem dX7_member_11 : decode cX7_member 11 = .ok (.aload_n 0, 1) := dk_42 (dk_at dksX7_member_0 11 rfl rfl)
theorem dX7_member_12 : decode cX7_member 12 = .ok (.getfield 39, 3) := dk_180 0 39 (dk_at dksX7_member_0 12 rfl rfl)
theorem dX7_member_15 : decode cX7_member 15 = .ok (.iload 5, 2) := dk_21 5 (dk_at dksX7_member_0 15 rfl rfl)
theorem dX7_member_17 : decode cX7_member 17 = .ok (.saload, 1) := dk_53 (dk_at dksX7_member_0 17 rfl rfl)
theorem dX7_member_18 : decode cX7_member 18 = .ok (.aload 4, 2) := dk_25 4 (dk_at dksX7_member_0 18 rfl rfl)
theorem dX7_member_20 : decode cX7_member 20 = .ok (.invokevirtual 186, 3) := dk_182 0 186 (dk_at dksX7_member_0 20 rfl rfl)
theorem dX7_member_23 : decode cX7_member 23 = .ok (.aload_n 0, 1) := dk_42 (dk_at dksX7_member_0 23 rfl rfl)
theorem dX7_member_24 : decode cX7_member 24 = .ok (.getfield 58, 3) := dk_180 0 58 (dk_at dksX7_member_1 0 rfl rfl)
theorem dX7_member_27 : decode cX7_member 27 = .ok (.iload 5, 2) := dk_21 5 (dk_at dksX7_member_1 3 rfl rfl)
theorem dX7_member_29 : decode cX7_member 29 = .ok (.aload 4, 2) := dk_25 4 (dk_at dksX7_member_1 5 rfl rfl)
theorem dX7_member_31 : decode cX7_member 31 = .ok (.invokevirtual 190, 3) := dk_182 0 190 (dk_at dksX7_member_1 7 rfl rfl)
theorem dX7_member_34 : decode cX7_member 34 = .ok (.iastore, 1) := dk_79 (dk_at dksX7_member_1 10 rfl rfl)
theorem dX7_member_35 : decode cX7_member 35 = .ok (.iinc 5 1, 3) := dk_132 5 1 (dk_at dksX7_member_1 11 rfl rfl)
theorem dX7_member_38 : decode cX7_member 38 = .ok (.goto (-35), 3) := dk_167 255 221 (dk_at dksX7_member_1 14 rfl rfl)
theorem dX7_member_41 : decode cX7_member 41 = .ok (.aload_n 0, 1) := dk_42 (dk_at dksX7_member_1 17 rfl rfl)
theorem dX7_member_42 : decode cX7_member 42 = .ok (.bipush 35, 2) := dk_16 35 (dk_at dksX7_member_1 18 rfl rfl)
theorem dX7_member_44 : decode cX7_member 44 = .ok (.invokevirtual 129, 3) := dk_182 0 129 (dk_at dksX7_member_1 20 rfl rfl)
theorem dX7_member_47 : decode cX7_member 47 = .ok (.aload_n 2, 1) := dk_44 (dk_at dksX7_member_1 23 rfl rfl)
theorem dX7_member_48 : decode cX7_member 48 = .ok (.invokevirtual 166, 3) := dk_182 0 166 (dk_at dksX7_member_2 0 rfl rfl)
theorem dX7_member_51 : decode cX7_member 51 = .ok (.iconst 0, 1) := dk_3 (dk_at dksX7_member_2 3 rfl rfl)
theorem dX7_member_52 : decode cX7_member 52 = .ok (.istore 5, 2) := dk_54 5 (dk_at dksX7_member_2 4 rfl rfl)
theorem dX7_member_54 : decode cX7_member 54 = .ok (.iload 5, 2) := dk_21 5 (dk_at dksX7_member_2 6 rfl rfl)
theorem dX7_member_56 : decode cX7_member 56 = .ok (.bipush 35, 2) := dk_16 35 (dk_at dksX7_member_2 8 rfl rfl)
theorem dX7_member_58 : decode cX7_member 58 = .ok (.if_icmp .ge 55, 3) := dk_162 0 55 (dk_at dksX7_member_2 10 rfl rfl)
theorem dX7_member_61 : decode cX7_member 61 = .ok (.aload 4, 2) := dk_25 4 (dk_at dksX7_member_2 13 rfl rfl)
theorem dX7_member_63 : decode cX7_member 63 = .ok (.getfield 171, 3) := dk_180 0 171 (dk_at dksX7_member_2 15 rfl rfl)
theorem dX7_member_66 : decode cX7_member 66 = .ok (.aload_n 0, 1) := dk_42 (dk_at dksX7_member_2 18 rfl rfl)
theorem dX7_member_67 : decode cX7_member 67 = .ok (.getfield 26, 3) := dk_180 0 26 (dk_at dksX7_member_2 19 rfl rfl)
theorem dX7_member_70 : decode cX7_member 70 = .ok (.iload 5, 2) := dk_21 5 (dk_at dksX7_member_2 22 rfl rfl)
theorem dX7_member_72 : decode cX7_member 72 = .ok (.aaload, 1) := dk_50 (dk_at dksX7_member_3 0 rfl rfl)
theorem dX7_member_73 : decode cX7_member 73 = .ok (.invokevirtual 125, 3) := dk_182 0 125 (dk_at dksX7_member_3 1 rfl rfl)
theorem dX7_member_76 : decode cX7_member 76 = .ok (.aload 4, 2) := dk_25 4 (dk_at dksX7_member_3 4 rfl rfl)
theorem dX7_member_78 : decode cX7_member 78 = .ok (.getfield 176, 3) := dk_180 0 176 (dk_at dksX7_member_3 6 rfl rfl)
theorem dX7_member_81 : decode cX7_member 81 = .ok (.aload_n 0, 1) := dk_42 (dk_at dksX7_member_3 9 rfl rfl)
theorem dX7_member_82 : decode cX7_member 82 = .ok (.getfield 22, 3) := dk_180 0 22 (dk_at dksX7_member_3 10 rfl rfl)
theorem dX7_member_85 : decode cX7_member 85 = .ok (.invokevirtual 125, 3) := dk_182 0 125 (dk_at dksX7_member_3 13 rfl rfl)
theorem dX7_member_88 : decode cX7_member 88 = .ok (.aload 4, 2) := dk_25 4 (dk_at dksX7_member_3 16 rfl rfl)
theorem dX7_member_90 : decode cX7_member 90 = .ok (.invokevirtual 179, 3) := dk_182 0 179 (dk_at dksX7_member_3 18 rfl rfl)
theorem dX7_member_93 : decode cX7_member 93 = .ok (.aload_n 2, 1) := dk_44 (dk_at dksX7_member_3 21 rfl rfl)
theorem dX7_member_94 : decode cX7_member 94 = .ok (.aload_n 0, 1) := dk_42 (dk_at dksX7_member_3 22 rfl rfl)
theorem dX7_member_95 : decode cX7_member 95 = .ok (.getfield 39, 3) := dk_180 0 39 (dk_at dksX7_member_4 0 rfl rfl)
theorem dX7_member_98 : decode cX7_member 98 = .ok (.iload 5, 2) := dk_21 5 (dk_at dksX7_member_4 3 rfl rfl)
theorem dX7_member_100 : decode cX7_member 100 = .ok (.saload, 1) := dk_53 (dk_at dksX7_member_4 5 rfl rfl)
theorem dX7_member_101 : decode cX7_member 101 = .ok (.aload 4, 2) := dk_25 4 (dk_at dksX7_member_4 6 rfl rfl)
theorem dX7_member_103 : decode cX7_member 103 = .ok (.invokevirtual 182, 3) := dk_182 0 182 (dk_at dksX7_member_4 8 rfl rfl)
theorem dX7_member_106 : decode cX7_member 106 = .ok (.pop, 1) := dk_87 (dk_at dksX7_member_4 11 rfl rfl)
theorem dX7_member_107 : decode cX7_member 107 = .ok (.iinc 5 1, 3) := dk_132 5 1 (dk_at dksX7_member_4 12 rfl rfl)
theorem dX7_member_110 : decode cX7_member 110 = .ok (.goto (-56), 3) := dk_167 255 200 (dk_at dksX7_member_4 15 rfl rfl)
theorem dX7_member_113 : decode cX7_member 113 = .ok (.iconst 0, 1) := dk_3 (dk_at dksX7_member_4 18 rfl rfl)
theorem dX7_member_114 : decode cX7_member 114 = .ok (.istore 5, 2) := dk_54 5 (dk_at dksX7_member_4 19 rfl rfl)
theorem dX7_member_116 : decode cX7_member 116 = .ok (.iload 5, 2) := dk_21 5 (dk_at dksX7_member_4 21 rfl rfl)
theorem dX7_member_118 : decode cX7_member 118 = .ok (.aload_n 0, 1) := dk_42 (dk_at dksX7_member_4 23 rfl rfl)
theorem dX7_member_119 : decode cX7_member 119 = .ok (.getfield 150, 3) := dk_180 0 150 (dk_at dksX7_member_5 0 rfl rfl)
theorem dX7_member_122 : decode cX7_member 122 = .ok (.if_icmp .ge 16, 3) := dk_162 0 16 (dk_at dksX7_member_5 3 rfl rfl)
theorem dX7_member_125 : decode cX7_member 125 = .ok (.aload_n 3, 1) := dk_45 (dk_at dksX7_member_5 6 rfl rfl)
theorem dX7_member_126 : decode cX7_member 126 = .ok (.iload 5, 2) := dk_21 5 (dk_at dksX7_member_5 7 rfl rfl)
theorem dX7_member_128 : decode cX7_member 128 = .ok (.aaload, 1) := dk_50 (dk_at dksX7_member_5 9 rfl rfl)
theorem dX7_member_129 : decode cX7_member 129 = .ok (.invokevirtual 166, 3) := dk_182 0 166 (dk_at dksX7_member_5 10 rfl rfl)
theorem dX7_member_132 : decode cX7_member 132 = .ok (.iinc 5 1, 3) := dk_132 5 1 (dk_at dksX7_member_5 13 rfl rfl)
theorem dX7_member_135 : decode cX7_member 135 = .ok (.goto (-19), 3) := dk_167 255 237 (dk_at dksX7_member_5 16 rfl rfl)
theorem dX7_member_138 : decode cX7_member 138 = .ok (.aload_n 2, 1) := dk_44 (dk_at dksX7_member_5 19 rfl rfl)
theorem dX7_member_139 : decode cX7_member 139 = .ok (.getfield 193, 3) := dk_180 0 193 (dk_at dksX7_member_5 20 rfl rfl)
theorem dX7_member_142 : decode cX7_member 142 = .ok (.ifCond .le 5, 3) := dk_158 0 5 (dk_at dksX7_member_6 0 rfl rfl)
theorem dX7_member_145 : decode cX7_member 145 = .ok (.iconst 0, 1) := dk_3 (dk_at dksX7_member_6 3 rfl rfl)
theorem dX7_member_146 : decode cX7_member 146 = .ok (.ireturn, 1) := dk_172 (dk_at dksX7_member_6 4 rfl rfl)
theorem dX7_member_147 : decode cX7_member 147 = .ok (.iconst 0, 1) := dk_3 (dk_at dksX7_member_6 5 rfl rfl)
theorem dX7_member_148 : decode cX7_member 148 = .ok (.istore 5, 2) := dk_54 5 (dk_at dksX7_member_6 6 rfl rfl)
theorem dX7_member_150 : decode cX7_member 150 = .ok (.iload 5, 2) := dk_21 5 (dk_at dksX7_member_6 8 rfl rfl)
theorem dX7_member_152 : decode cX7_member 152 = .ok (.aload_n 0, 1) := dk_42 (dk_at dksX7_member_6 10 rfl rfl)
theorem dX7_member_153 : decode cX7_member 153 = .ok (.getfield 80, 3) := dk_180 0 80 (dk_at dksX7_member_6 11 rfl rfl)
theorem dX7_member_156 : decode cX7_member 156 = .ok (.if_icmp .ge 178, 3) := dk_162 0 178 (dk_at dksX7_member_6 14 rfl rfl)
theorem dX7_member_159 : decode cX7_member 159 = .ok (.aload_n 0, 1) := dk_42 (dk_at dksX7_member_6 17 rfl rfl)
theorem dX7_member_160 : decode cX7_member 160 = .ok (.getfield 33, 3) := dk_180 0 33 (dk_at dksX7_member_6 18 rfl rfl)
theorem dX7_member_163 : decode cX7_member 163 = .ok (.lconst 0, 1) := dk_9 (dk_at dksX7_member_6 21 rfl rfl)
theorem dX7_member_164 : decode cX7_member 164 = .ok (.invokevirtual 83, 3) := dk_182 0 83 (dk_at dksX7_member_7 0 rfl rfl)
theorem dX7_member_167 : decode cX7_member 167 = .ok (.iconst 0, 1) := dk_3 (dk_at dksX7_member_7 3 rfl rfl)
theorem dX7_member_168 : decode cX7_member 168 = .ok (.istore 6, 2) := dk_54 6 (dk_at dksX7_member_7 4 rfl rfl)
theorem dX7_member_170 : decode cX7_member 170 = .ok (.iload 6, 2) := dk_21 6 (dk_at dksX7_member_7 6 rfl rfl)
theorem dX7_member_172 : decode cX7_member 172 = .ok (.aload_n 0, 1) := dk_42 (dk_at dksX7_member_7 8 rfl rfl)
theorem dX7_member_173 : decode cX7_member 173 = .ok (.getfield 80, 3) := dk_180 0 80 (dk_at dksX7_member_7 9 rfl rfl)
theorem dX7_member_176 : decode cX7_member 176 = .ok (.if_icmp .ge 101, 3) := dk_162 0 101 (dk_at dksX7_member_7 12 rfl rfl)
theorem dX7_member_179 : decode cX7_member 179 = .ok (.aload_n 0, 1) := dk_42 (dk_at dksX7_member_7 15 rfl rfl)
theorem dX7_member_180 : decode cX7_member 180 = .ok (.getfield 58, 3) := dk_180 0 58 (dk_at dksX7_member_7 16 rfl rfl)
theorem dX7_member_183 : decode cX7_member 183 = .ok (.aload_n 0, 1) := dk_42 (dk_at dksX7_member_7 19 rfl rfl)
theorem dX7_member_184 : decode cX7_member 184 = .ok (.getfield 46, 3) := dk_180 0 46 (dk_at dksX7_member_7 20 rfl rfl)
theorem dX7_member_187 : decode cX7_member 187 = .ok (.iload 6, 2) := dk_21 6 (dk_at dksX7_member_8 0 rfl rfl)
theorem dX7_member_189 : decode cX7_member 189 = .ok (.iaload, 1) := dk_46 (dk_at dksX7_member_8 2 rfl rfl)
theorem dX7_member_190 : decode cX7_member 190 = .ok (.iaload, 1) := dk_46 (dk_at dksX7_member_8 3 rfl rfl)
theorem dX7_member_191 : decode cX7_member 191 = .ok (.ifCond .ne 6, 3) := dk_154 0 6 (dk_at dksX7_member_8 4 rfl rfl)
theorem dX7_member_194 : decode cX7_member 194 = .ok (.goto 77, 3) := dk_167 0 77 (dk_at dksX7_member_8 7 rfl rfl)
theorem dX7_member_197 : decode cX7_member 197 = .ok (.aload_n 0, 1) := dk_42 (dk_at dksX7_member_8 10 rfl rfl)
theorem dX7_member_198 : decode cX7_member 198 = .ok (.iload 6, 2) := dk_21 6 (dk_at dksX7_member_8 11 rfl rfl)
theorem dX7_member_200 : decode cX7_member 200 = .ok (.bipush 35, 2) := dk_16 35 (dk_at dksX7_member_8 13 rfl rfl)
theorem dX7_member_202 : decode cX7_member 202 = .ok (.iload 5, 2) := dk_21 5 (dk_at dksX7_member_8 15 rfl rfl)
theorem dX7_member_204 : decode cX7_member 204 = .ok (.iadd, 1) := dk_96 (dk_at dksX7_member_8 17 rfl rfl)
theorem dX7_member_205 : decode cX7_member 205 = .ok (.aload_n 0, 1) := dk_42 (dk_at dksX7_member_8 18 rfl rfl)
theorem dX7_member_206 : decode cX7_member 206 = .ok (.getfield 30, 3) := dk_180 0 30 (dk_at dksX7_member_8 19 rfl rfl)
theorem dX7_member_209 : decode cX7_member 209 = .ok (.invokevirtual 117, 3) := dk_182 0 117 (dk_at dksX7_member_9 0 rfl rfl)
theorem dX7_member_212 : decode cX7_member 212 = .ok (.aload_n 0, 1) := dk_42 (dk_at dksX7_member_9 3 rfl rfl)
theorem dX7_member_213 : decode cX7_member 213 = .ok (.getfield 36, 3) := dk_180 0 36 (dk_at dksX7_member_9 4 rfl rfl)
theorem dX7_member_216 : decode cX7_member 216 = .ok (.aload_n 0, 1) := dk_42 (dk_at dksX7_member_9 7 rfl rfl)
theorem dX7_member_217 : decode cX7_member 217 = .ok (.getfield 58, 3) := dk_180 0 58 (dk_at dksX7_member_9 8 rfl rfl)
theorem dX7_member_220 : decode cX7_member 220 = .ok (.aload_n 0, 1) := dk_42 (dk_at dksX7_member_9 11 rfl rfl)
theorem dX7_member_221 : decode cX7_member 221 = .ok (.getfield 46, 3) := dk_180 0 46 (dk_at dksX7_member_9 12 rfl rfl)
theorem dX7_member_224 : decode cX7_member 224 = .ok (.iload 6, 2) := dk_21 6 (dk_at dksX7_member_9 15 rfl rfl)
theorem dX7_member_226 : decode cX7_member 226 = .ok (.iaload, 1) := dk_46 (dk_at dksX7_member_9 17 rfl rfl)
theorem dX7_member_227 : decode cX7_member 227 = .ok (.iaload, 1) := dk_46 (dk_at dksX7_member_9 18 rfl rfl)
theorem dX7_member_228 : decode cX7_member 228 = .ok (.i2l, 1) := dk_133 (dk_at dksX7_member_9 19 rfl rfl)
theorem dX7_member_229 : decode cX7_member 229 = .ok (.invokevirtual 83, 3) := dk_182 0 83 (dk_at dksX7_member_9 20 rfl rfl)
theorem dX7_member_232 : decode cX7_member 232 = .ok (.aload_n 0, 1) := dk_42 (dk_at dksX7_member_9 23 rfl rfl)
theorem dX7_member_233 : decode cX7_member 233 = .ok (.getfield 72, 3) := dk_180 0 72 (dk_at dksX7_member_10 0 rfl rfl)
theorem dX7_member_236 : decode cX7_member 236 = .ok (.aload_n 0, 1) := dk_42 (dk_at dksX7_member_10 3 rfl rfl)
theorem dX7_member_237 : decode cX7_member 237 = .ok (.getfield 65, 3) := dk_180 0 65 (dk_at dksX7_member_10 4 rfl rfl)
theorem dX7_member_240 : decode cX7_member 240 = .ok (.aload_n 0, 1) := dk_42 (dk_at dksX7_member_10 7 rfl rfl)
theorem dX7_member_241 : decode cX7_member 241 = .ok (.getfield 30, 3) := dk_180 0 30 (dk_at dksX7_member_10 8 rfl rfl)
theorem dX7_member_244 : decode cX7_member 244 = .ok (.aload_n 0, 1) := dk_42 (dk_at dksX7_member_10 11 rfl rfl)
theorem dX7_member_245 : decode cX7_member 245 = .ok (.getfield 36, 3) := dk_180 0 36 (dk_at dksX7_member_10 12 rfl rfl)
theorem dX7_member_248 : decode cX7_member 248 = .ok (.invokevirtual 113, 3) := dk_182 0 113 (dk_at dksX7_member_10 15 rfl rfl)
theorem dX7_member_251 : decode cX7_member 251 = .ok (.aload_n 0, 1) := dk_42 (dk_at dksX7_member_10 18 rfl rfl)
theorem dX7_member_252 : decode cX7_member 252 = .ok (.getfield 72, 3) := dk_180 0 72 (dk_at dksX7_member_10 19 rfl rfl)
theorem dX7_member_255 : decode cX7_member 255 = .ok (.aload_n 0, 1) := dk_42 (dk_at dksX7_member_10 22 rfl rfl)
theorem dX7_member_256 : decode cX7_member 256 = .ok (.getfield 33, 3) := dk_180 0 33 (dk_at dksX7_member_11 0 rfl rfl)
theorem dX7_member_259 : decode cX7_member 259 = .ok (.aload_n 0, 1) := dk_42 (dk_at dksX7_member_11 3 rfl rfl)
theorem dX7_member_260 : decode cX7_member 260 = .ok (.getfield 33, 3) := dk_180 0 33 (dk_at dksX7_member_11 4 rfl rfl)
theorem dX7_member_263 : decode cX7_member 263 = .ok (.aload_n 0, 1) := dk_42 (dk_at dksX7_member_11 7 rfl rfl)
theorem dX7_member_264 : decode cX7_member 264 = .ok (.getfield 65, 3) := dk_180 0 65 (dk_at dksX7_member_11 8 rfl rfl)
theorem dX7_member_267 : decode cX7_member 267 = .ok (.iconst 1, 1) := dk_4 (dk_at dksX7_member_11 11 rfl rfl)
theorem dX7_member_268 : decode cX7_member 268 = .ok (.invokevirtual 121, 3) := dk_182 0 121 (dk_at dksX7_member_11 12 rfl rfl)
theorem dX7_member_271 : decode cX7_member 271 = .ok (.iinc 6 1, 3) := dk_132 6 1 (dk_at dksX7_member_11 15 rfl rfl)
theorem dX7_member_274 : decode cX7_member 274 = .ok (.goto (-104), 3) := dk_167 255 152 (dk_at dksX7_member_11 18 rfl rfl)
theorem dX7_member_277 : decode cX7_member 277 = .ok (.aload 4, 2) := dk_25 4 (dk_at dksX7_member_11 21 rfl rfl)
theorem dX7_member_279 : decode cX7_member 279 = .ok (.getfield 171, 3) := dk_180 0 171 (dk_at dksX7_member_12 0 rfl rfl)
theorem dX7_member_282 : decode cX7_member 282 = .ok (.aload_n 0, 1) := dk_42 (dk_at dksX7_member_12 3 rfl rfl)
theorem dX7_member_283 : decode cX7_member 283 = .ok (.getfield 33, 3) := dk_180 0 33 (dk_at dksX7_member_12 4 rfl rfl)
theorem dX7_member_286 : decode cX7_member 286 = .ok (.invokevirtual 125, 3) := dk_182 0 125 (dk_at dksX7_member_12 7 rfl rfl)
theorem dX7_member_289 : decode cX7_member 289 = .ok (.aload 4, 2) := dk_25 4 (dk_at dksX7_member_12 10 rfl rfl)
theorem dX7_member_291 : decode cX7_member 291 = .ok (.getfield 176, 3) := dk_180 0 176 (dk_at dksX7_member_12 12 rfl rfl)
theorem dX7_member_294 : decode cX7_member 294 = .ok (.aload_n 0, 1) := dk_42 (dk_at dksX7_member_12 15 rfl rfl)
theorem dX7_member_295 : decode cX7_member 295 = .ok (.getfield 22, 3) := dk_180 0 22 (dk_at dksX7_member_12 16 rfl rfl)
theorem dX7_member_298 : decode cX7_member 298 = .ok (.invokevirtual 125, 3) := dk_182 0 125 (dk_at dksX7_member_12 19 rfl rfl)
theorem dX7_member_301 : decode cX7_member 301 = .ok (.aload 4, 2) := dk_25 4 (dk_at dksX7_member_12 22 rfl rfl)
theorem dX7_member_303 : decode cX7_member 303 = .ok (.invokevirtual 179, 3) := dk_182 0 179 (dk_at dksX7_member_13 0 rfl rfl)
theorem dX7_member_306 : decode cX7_member 306 = .ok (.aload_n 3, 1) := dk_45 (dk_at dksX7_member_13 3 rfl rfl)
theorem dX7_member_307 : decode cX7_member 307 = .ok (.aload_n 0, 1) := dk_42 (dk_at dksX7_member_13 4 rfl rfl)
theorem dX7_member_308 : decode cX7_member 308 = .ok (.getfield 52, 3) := dk_180 0 52 (dk_at dksX7_member_13 5 rfl rfl)
theorem dX7_member_311 : decode cX7_member 311 = .ok (.iload 5, 2) := dk_21 5 (dk_at dksX7_member_13 8 rfl rfl)
theorem dX7_member_313 : decode cX7_member 313 = .ok (.iaload, 1) := dk_46 (dk_at dksX7_member_13 10 rfl rfl)
theorem dX7_member_314 : decode cX7_member 314 = .ok (.aaload, 1) := dk_50 (dk_at dksX7_member_13 11 rfl rfl)
theorem dX7_member_315 : decode cX7_member 315 = .ok (.aload_n 0, 1) := dk_42 (dk_at dksX7_member_13 12 rfl rfl)
theorem dX7_member_316 : decode cX7_member 316 = .ok (.getfield 55, 3) := dk_180 0 55 (dk_at dksX7_member_13 13 rfl rfl)
theorem dX7_member_319 : decode cX7_member 319 = .ok (.iload 5, 2) := dk_21 5 (dk_at dksX7_member_13 16 rfl rfl)
theorem dX7_member_321 : decode cX7_member 321 = .ok (.iaload, 1) := dk_46 (dk_at dksX7_member_13 18 rfl rfl)
theorem dX7_member_322 : decode cX7_member 322 = .ok (.aload 4, 2) := dk_25 4 (dk_at dksX7_member_13 19 rfl rfl)
theorem dX7_member_324 : decode cX7_member 324 = .ok (.invokevirtual 182, 3) := dk_182 0 182 (dk_at dksX7_member_13 21 rfl rfl)
theorem dX7_member_327 : decode cX7_member 327 = .ok (.pop, 1) := dk_87 (dk_at dksX7_member_14 0 rfl rfl)
theorem dX7_member_328 : decode cX7_member 328 = .ok (.iinc 5 1, 3) := dk_132 5 1 (dk_at dksX7_member_14 1 rfl rfl)
theorem dX7_member_331 : decode cX7_member 331 = .ok (.goto (-181), 3) := dk_167 255 75 (dk_at dksX7_member_14 4 rfl rfl)
theorem dX7_member_334 : decode cX7_member 334 = .ok (.iconst 1, 1) := dk_4 (dk_at dksX7_member_14 7 rfl rfl)
theorem dX7_member_335 : decode cX7_member 335 = .ok (.ireturn, 1) := dk_172 (dk_at dksX7_member_14 8 rfl rfl)
theorem q106 : (Jvm.Cond.initialized "IdealCourt$Square") ∈ lw_all := lw_g (lw_at lw_m1 8 rfl) rfl
theorem q180 : (Jvm.Cond.fieldLinkNest "IdealCourt$Square" (110 : Nat) "IdealCourt$Whole" "digits" "[I" "IdealCourt") ∈ lw_tbl := lw_at lw_m1 82 rfl
theorem q186 : (Jvm.Cond.fieldLinkNest "IdealCourt$Square" (104 : Nat) "IdealCourt$Whole" "size" "I" "IdealCourt") ∈ lw_tbl := lw_at lw_m1 88 rfl
theorem q192 : (Jvm.Cond.fieldLinkNest "IdealCourt$Square" (107 : Nat) "IdealCourt$Whole" "sign" "I" "IdealCourt") ∈ lw_tbl := lw_at lw_m1 94 rfl
theorem q239 : (Jvm.Cond.fieldLinkNest "IdealCourt$Square" (193 : Nat) "IdealCourt$Poly" "many" "I" "IdealCourt") ∈ lw_tbl := lw_at lw_m1 141 rfl
theorem q261 : (Jvm.Cond.fieldLinkNest "IdealCourt$Square" (171 : Nat) "IdealCourt$Ratio" "top" "LIdealCourt$Whole;" "IdealCourt") ∈ lw_tbl := lw_at lw_m1 163 rfl
theorem q265 : (Jvm.Cond.fieldLinkNest "IdealCourt$Square" (176 : Nat) "IdealCourt$Ratio" "under" "LIdealCourt$Whole;" "IdealCourt") ∈ lw_tbl := lw_at lw_m1 167 rfl
theorem q316 : (Jvm.Cond.instantiable "IdealCourt$Square" (20 : Nat)) ∈ lw_all := lw_g (lw_at lw_m1 218 rfl) rfl
theorem q318 : (Jvm.Cond.instanceMethod ({ cls := "IdealCourt$Square", name := "<init>", desc := "(LIdealCourt$Terms;LIdealCourt$Reckoner;)V" } : Jvm.MethodName)) ∈ lw_all := lw_g (lw_at lw_m1 220 rfl) rfl
theorem q319 : (Jvm.Cond.code ({ cls := "IdealCourt$Square", name := "<init>", desc := "(LIdealCourt$Terms;LIdealCourt$Reckoner;)V" } : Jvm.MethodName) prog_14_method_1_code (4 : Nat) (Option.none : Option Jvm.ClassFile.FieldType)) ∈ lw_all := lw_g (lw_at lw_m1 221 rfl) rfl
theorem q320 : (Jvm.Cond.methodLink "IdealCourt$Square" (3 : Nat) ({ cls := "java/lang/Object", name := "<init>", desc := "()V" } : Jvm.MethodName)) ∈ lw_all := lw_g (lw_at lw_m1 222 rfl) rfl
theorem q321 : (Jvm.Cond.classLink "IdealCourt$Square" (15 : Nat) "IdealCourt$Whole") ∈ lw_all := lw_g (lw_at lw_m1 223 rfl) rfl
theorem q322 : (Jvm.Cond.methodLink "IdealCourt$Square" (19 : Nat) ({ cls := "IdealCourt$Whole", name := "<init>", desc := "(I)V" } : Jvm.MethodName)) ∈ lw_all := lw_g (lw_at lw_m1 224 rfl) rfl
theorem q324 : (Jvm.Cond.fieldLink "IdealCourt$Square" (68 : Nat) "IdealCourt$Square" "terms" "LIdealCourt$Terms;") ∈ lw_all := lw_g (lw_at lw_m1 226 rfl) rfl
theorem q325 : (Jvm.Cond.fieldLink "IdealCourt$Square" (72 : Nat) "IdealCourt$Square" "by" "LIdealCourt$Reckoner;") ∈ lw_all := lw_g (lw_at lw_m1 227 rfl) rfl
theorem q326 : (Jvm.Cond.fieldLink "IdealCourt$Square" (11 : Nat) "IdealCourt$Square" "cells" "[I") ∈ lw_all := lw_g (lw_at lw_m1 228 rfl) rfl
theorem q327 : (Jvm.Cond.fieldLink "IdealCourt$Square" (22 : Nat) "IdealCourt$Square" "divisor" "LIdealCourt$Whole;") ∈ lw_all := lw_g (lw_at lw_m1 229 rfl) rfl
theorem q328 : (Jvm.Cond.fieldLink "IdealCourt$Square" (26 : Nat) "IdealCourt$Square" "work" "[LIdealCourt$Whole;") ∈ lw_all := lw_g (lw_at lw_m1 230 rfl) rfl
theorem q329 : (Jvm.Cond.fieldLink "IdealCourt$Square" (30 : Nat) "IdealCourt$Square" "x" "LIdealCourt$Whole;") ∈ lw_all := lw_g (lw_at lw_m1 231 rfl) rfl
theorem q330 : (Jvm.Cond.fieldLink "IdealCourt$Square" (33 : Nat) "IdealCourt$Square" "y" "LIdealCourt$Whole;") ∈ lw_all := lw_g (lw_at lw_m1 232 rfl) rfl
theorem q331 : (Jvm.Cond.fieldLink "IdealCourt$Square" (36 : Nat) "IdealCourt$Square" "z" "LIdealCourt$Whole;") ∈ lw_all := lw_g (lw_at lw_m1 233 rfl) rfl
theorem q332 : (Jvm.Cond.fieldLink "IdealCourt$Square" (39 : Nat) "IdealCourt$Square" "termOf" "[S") ∈ lw_all := lw_g (lw_at lw_m1 234 rfl) rfl
theorem q333 : (Jvm.Cond.fieldLink "IdealCourt$Square" (43 : Nat) "IdealCourt$Square" "columnOf" "[I") ∈ lw_all := lw_g (lw_at lw_m1 235 rfl) rfl
theorem q334 : (Jvm.Cond.fieldLink "IdealCourt$Square" (46 : Nat) "IdealCourt$Square" "leads" "[I") ∈ lw_all := lw_g (lw_at lw_m1 236 rfl) rfl
theorem q335 : (Jvm.Cond.fieldLink "IdealCourt$Square" (49 : Nat) "IdealCourt$Square" "sorted" "[I") ∈ lw_all := lw_g (lw_at lw_m1 237 rfl) rfl
theorem q336 : (Jvm.Cond.fieldLink "IdealCourt$Square" (52 : Nat) "IdealCourt$Square" "usedBy" "[I") ∈ lw_all := lw_g (lw_at lw_m1 238 rfl) rfl
theorem q337 : (Jvm.Cond.fieldLink "IdealCourt$Square" (55 : Nat) "IdealCourt$Square" "usedTerm" "[I") ∈ lw_all := lw_g (lw_at lw_m1 239 rfl) rfl
theorem q338 : (Jvm.Cond.fieldLink "IdealCourt$Square" (58 : Nat) "IdealCourt$Square" "numbers" "[I") ∈ lw_all := lw_g (lw_at lw_m2 0 rfl) rfl
theorem q339 : (Jvm.Cond.fieldLink "IdealCourt$Square" (80 : Nat) "IdealCourt$Square" "rows" "I") ∈ lw_all := lw_g (lw_at lw_m2 1 rfl) rfl
theorem q341 : (Jvm.Cond.fieldLink "IdealCourt$Square" (61 : Nat) "IdealCourt$Square" "most" "I") ∈ lw_all := lw_g (lw_at lw_m2 3 rfl) rfl
theorem q343 : (Jvm.Cond.fieldLink "IdealCourt$Square" (150 : Nat) "IdealCourt$Square" "told" "I") ∈ lw_all := lw_g (lw_at lw_m2 5 rfl) rfl
theorem q345 : (Jvm.Cond.fieldLink "IdealCourt$Square" (76 : Nat) "IdealCourt$Square" "order" "LIdealCourt$Ranks;") ∈ lw_all := lw_g (lw_at lw_m2 7 rfl) rfl
theorem q347 : (Jvm.Cond.fieldLink "IdealCourt$Square" (65 : Nat) "IdealCourt$Square" "divided" "LIdealCourt$Whole;") ∈ lw_all := lw_g (lw_at lw_m2 9 rfl) rfl
theorem q348 : (Jvm.Cond.laysFinal "IdealCourt$Square" "IdealCourt$Square" "terms" "LIdealCourt$Terms;") ∈ lw_all := lw_g (lw_at lw_m2 10 rfl) rfl
theorem q349 : (Jvm.Cond.soleField "IdealCourt$Square" "terms") ∈ lw_all := lw_g (lw_at lw_m2 11 rfl) rfl
theorem q350 : (Jvm.Cond.laysFinal "IdealCourt$Square" "IdealCourt$Square" "by" "LIdealCourt$Reckoner;") ∈ lw_all := lw_g (lw_at lw_m2 12 rfl) rfl
theorem q351 : (Jvm.Cond.soleField "IdealCourt$Square" "by") ∈ lw_all := lw_g (lw_at lw_m2 13 rfl) rfl
theorem q352 : (Jvm.Cond.laysFinal "IdealCourt$Square" "IdealCourt$Square" "cells" "[I") ∈ lw_all := lw_g (lw_at lw_m2 14 rfl) rfl
theorem q353 : (Jvm.Cond.soleField "IdealCourt$Square" "cells") ∈ lw_all := lw_g (lw_at lw_m2 15 rfl) rfl
theorem q354 : (Jvm.Cond.laysFinal "IdealCourt$Square" "IdealCourt$Square" "divisor" "LIdealCourt$Whole;") ∈ lw_all := lw_g (lw_at lw_m2 16 rfl) rfl
theorem q355 : (Jvm.Cond.soleField "IdealCourt$Square" "divisor") ∈ lw_all := lw_g (lw_at lw_m2 17 rfl) rfl
theorem q356 : (Jvm.Cond.laysFinal "IdealCourt$Square" "IdealCourt$Square" "work" "[LIdealCourt$Whole;") ∈ lw_all := lw_g (lw_at lw_m2 18 rfl) rfl
theorem q357 : (Jvm.Cond.soleField "IdealCourt$Square" "work") ∈ lw_all := lw_g (lw_at lw_m2 19 rfl) rfl
theorem q358 : (Jvm.Cond.laysFinal "IdealCourt$Square" "IdealCourt$Square" "x" "LIdealCourt$Whole;") ∈ lw_all := lw_g (lw_at lw_m2 20 rfl) rfl
theorem q359 : (Jvm.Cond.soleField "IdealCourt$Square" "x") ∈ lw_all := lw_g (lw_at lw_m2 21 rfl) rfl
theorem q360 : (Jvm.Cond.laysFinal "IdealCourt$Square" "IdealCourt$Square" "y" "LIdealCourt$Whole;") ∈ lw_all := lw_g (lw_at lw_m2 22 rfl) rfl
theorem q361 : (Jvm.Cond.soleField "IdealCourt$Square" "y") ∈ lw_all := lw_g (lw_at lw_m2 23 rfl) rfl
theorem q362 : (Jvm.Cond.laysFinal "IdealCourt$Square" "IdealCourt$Square" "z" "LIdealCourt$Whole;") ∈ lw_all := lw_g (lw_at lw_m2 24 rfl) rfl
theorem q363 : (Jvm.Cond.soleField "IdealCourt$Square" "z") ∈ lw_all := lw_g (lw_at lw_m2 25 rfl) rfl
theorem q364 : (Jvm.Cond.laysFinal "IdealCourt$Square" "IdealCourt$Square" "termOf" "[S") ∈ lw_all := lw_g (lw_at lw_m2 26 rfl) rfl
theorem q365 : (Jvm.Cond.soleField "IdealCourt$Square" "termOf") ∈ lw_all := lw_g (lw_at lw_m2 27 rfl) rfl
theorem q366 : (Jvm.Cond.laysFinal "IdealCourt$Square" "IdealCourt$Square" "columnOf" "[I") ∈ lw_all := lw_g (lw_at lw_m2 28 rfl) rfl
theorem q367 : (Jvm.Cond.soleField "IdealCourt$Square" "columnOf") ∈ lw_all := lw_g (lw_at lw_m2 29 rfl) rfl
theorem q368 : (Jvm.Cond.laysFinal "IdealCourt$Square" "IdealCourt$Square" "leads" "[I") ∈ lw_all := lw_g (lw_at lw_m2 30 rfl) rfl
theorem q369 : (Jvm.Cond.soleField "IdealCourt$Square" "leads") ∈ lw_all := lw_g (lw_at lw_m2 31 rfl) rfl
theorem q370 : (Jvm.Cond.laysFinal "IdealCourt$Square" "IdealCourt$Square" "sorted" "[I") ∈ lw_all := lw_g (lw_at lw_m2 32 rfl) rfl
theorem q371 : (Jvm.Cond.soleField "IdealCourt$Square" "sorted") ∈ lw_all := lw_g (lw_at lw_m2 33 rfl) rfl
theorem q372 : (Jvm.Cond.laysFinal "IdealCourt$Square" "IdealCourt$Square" "usedBy" "[I") ∈ lw_all := lw_g (lw_at lw_m2 34 rfl) rfl
theorem q373 : (Jvm.Cond.soleField "IdealCourt$Square" "usedBy") ∈ lw_all := lw_g (lw_at lw_m2 35 rfl) rfl
theorem q374 : (Jvm.Cond.laysFinal "IdealCourt$Square" "IdealCourt$Square" "usedTerm" "[I") ∈ lw_all := lw_g (lw_at lw_m2 36 rfl) rfl
theorem q375 : (Jvm.Cond.soleField "IdealCourt$Square" "usedTerm") ∈ lw_all := lw_g (lw_at lw_m2 37 rfl) rfl
theorem q376 : (Jvm.Cond.laysFinal "IdealCourt$Square" "IdealCourt$Square" "numbers" "[I") ∈ lw_all := lw_g (lw_at lw_m2 38 rfl) rfl
theorem q377 : (Jvm.Cond.soleField "IdealCourt$Square" "numbers") ∈ lw_all := lw_g (lw_at lw_m2 39 rfl) rfl
theorem q378 : (Jvm.Cond.lays "IdealCourt$Square" "IdealCourt$Square" "rows" "I") ∈ lw_all := lw_g (lw_at lw_m2 40 rfl) rfl
theorem q379 : (Jvm.Cond.soleField "IdealCourt$Square" "rows") ∈ lw_all := lw_g (lw_at lw_m2 41 rfl) rfl
theorem q380 : (Jvm.Cond.lays "IdealCourt$Square" "IdealCourt$Square" "most" "I") ∈ lw_all := lw_g (lw_at lw_m2 42 rfl) rfl
theorem q381 : (Jvm.Cond.soleField "IdealCourt$Square" "most") ∈ lw_all := lw_g (lw_at lw_m2 43 rfl) rfl
theorem q382 : (Jvm.Cond.lays "IdealCourt$Square" "IdealCourt$Square" "told" "I") ∈ lw_all := lw_g (lw_at lw_m2 44 rfl) rfl
theorem q383 : (Jvm.Cond.soleField "IdealCourt$Square" "told") ∈ lw_all := lw_g (lw_at lw_m2 45 rfl) rfl
theorem q384 : (Jvm.Cond.lays "IdealCourt$Square" "IdealCourt$Square" "order" "LIdealCourt$Ranks;") ∈ lw_all := lw_g (lw_at lw_m2 46 rfl) rfl
theorem q385 : (Jvm.Cond.soleField "IdealCourt$Square" "order") ∈ lw_all := lw_g (lw_at lw_m2 47 rfl) rfl
theorem q386 : (Jvm.Cond.laysFinal "IdealCourt$Square" "IdealCourt$Square" "divided" "LIdealCourt$Whole;") ∈ lw_all := lw_g (lw_at lw_m2 48 rfl) rfl
theorem q387 : (Jvm.Cond.soleField "IdealCourt$Square" "divided") ∈ lw_all := lw_g (lw_at lw_m2 49 rfl) rfl
theorem q388 : (Jvm.Cond.superclass "IdealCourt$Square" "java/lang/Object") ∈ lw_all := lw_g (lw_at lw_m2 50 rfl) rfl
theorem q1376 : (Jvm.Cond.instanceMethod ({ cls := "IdealCourt$Square", name := "tell", desc := "([IILIdealCourt$Ranks;I)V" } : Jvm.MethodName)) ∈ lw_all := lw_g (lw_at lw_m6 78 rfl) rfl
theorem q1377 : (Jvm.Cond.selects "IdealCourt$Square" ({ cls := "IdealCourt$Square", name := "tell", desc := "([IILIdealCourt$Ranks;I)V" } : Jvm.MethodName) ({ cls := "IdealCourt$Square", name := "tell", desc := "([IILIdealCourt$Ranks;I)V" } : Jvm.MethodName)) ∈ lw_all := lw_g (lw_at lw_m6 79 rfl) rfl
theorem q1378 : (Jvm.Cond.code ({ cls := "IdealCourt$Square", name := "tell", desc := "([IILIdealCourt$Ranks;I)V" } : Jvm.MethodName) prog_14_method_9_code (8 : Nat) (Option.none : Option Jvm.ClassFile.FieldType)) ∈ lw_all := lw_g (lw_at lw_m6 80 rfl) rfl
theorem q1379 : (Jvm.Cond.methodLink "IdealCourt$Square" (146 : Nat) ({ cls := "IdealCourt$Square", name := "begin", desc := "(LIdealCourt$Ranks;I)V" } : Jvm.MethodName)) ∈ lw_all := lw_g (lw_at lw_m6 81 rfl) rfl
theorem q1380 : (Jvm.Cond.privateMethod ({ cls := "IdealCourt$Square", name := "begin", desc := "(LIdealCourt$Ranks;I)V" } : Jvm.MethodName)) ∈ lw_tbl := lw_at lw_m6 82 rfl
theorem q1381 : (Jvm.Cond.instanceMethod ({ cls := "IdealCourt$Square", name := "begin", desc := "(LIdealCourt$Ranks;I)V" } : Jvm.MethodName)) ∈ lw_all := lw_g (lw_at lw_m6 83 rfl) rfl
theorem q1382 : (Jvm.Cond.code ({ cls := "IdealCourt$Square", name := "begin", desc := "(LIdealCourt$Ranks;I)V" } : Jvm.MethodName) prog_14_method_2_code (6 : Nat) (Option.none : Option Jvm.ClassFile.FieldType)) ∈ lw_all := lw_g (lw_at lw_m6 84 rfl) rfl
theorem q1383 : (Jvm.Cond.methodLink "IdealCourt$Square" (83 : Nat) ({ cls := "IdealCourt$Whole", name := "set", desc := "(J)V" } : Jvm.MethodName)) ∈ lw_all := lw_g (lw_at lw_m6 85 rfl) rfl
theorem q1384 : (Jvm.Cond.methodLink "IdealCourt$Square" (87 : Nat) ({ cls := "IdealCourt$Terms", name := "degree", desc := "(I)I" } : Jvm.MethodName)) ∈ lw_all := lw_g (lw_at lw_m6 86 rfl) rfl
theorem q1385 : (Jvm.Cond.interfaceEntry "IdealCourt$Square" (93 : Nat)) ∈ lw_tbl := lw_at lw_m6 87 rfl
theorem q1386 : (Jvm.Cond.methodLink "IdealCourt$Square" (93 : Nat) ({ cls := "IdealCourt$Ranks", name := "rank", desc := "(II)I" } : Jvm.MethodName)) ∈ lw_all := lw_g (lw_at lw_m6 88 rfl) rfl
theorem q1387 : (Jvm.Cond.methodLink "IdealCourt$Square" (153 : Nat) ({ cls := "java/lang/Math", name := "max", desc := "(II)I" } : Jvm.MethodName)) ∈ lw_all := lw_g (lw_at lw_m6 89 rfl) rfl
theorem q1388 : (Jvm.Cond.methodLink "IdealCourt$Square" (156 : Nat) ({ cls := "IdealCourt$Square", name := "multiple", desc := "([III)V" } : Jvm.MethodName)) ∈ lw_all := lw_g (lw_at lw_m6 90 rfl) rfl
theorem q1389 : (Jvm.Cond.privateMethod ({ cls := "IdealCourt$Square", name := "multiple", desc := "([III)V" } : Jvm.MethodName)) ∈ lw_tbl := lw_at lw_m6 91 rfl
theorem q1390 : (Jvm.Cond.instanceMethod ({ cls := "IdealCourt$Square", name := "multiple", desc := "([III)V" } : Jvm.MethodName)) ∈ lw_all := lw_g (lw_at lw_m6 92 rfl) rfl
theorem q1391 : (Jvm.Cond.code ({ cls := "IdealCourt$Square", name := "multiple", desc := "([III)V" } : Jvm.MethodName) prog_14_method_10_code (5 : Nat) (Option.none : Option Jvm.ClassFile.FieldType)) ∈ lw_all := lw_g (lw_at lw_m6 93 rfl) rfl
theorem q1392 : (Jvm.Cond.methodLink "IdealCourt$Square" (160 : Nat) ({ cls := "IdealCourt$Terms", name := "times", desc := "(II)I" } : Jvm.MethodName)) ∈ lw_all := lw_g (lw_at lw_m6 94 rfl) rfl
theorem q1393 : (Jvm.Cond.methodLink "IdealCourt$Square" (162 : Nat) ({ cls := "IdealCourt$Square", name := "take", desc := "(II)V" } : Jvm.MethodName)) ∈ lw_all := lw_g (lw_at lw_m6 95 rfl) rfl
theorem q1394 : (Jvm.Cond.privateMethod ({ cls := "IdealCourt$Square", name := "take", desc := "(II)V" } : Jvm.MethodName)) ∈ lw_tbl := lw_at lw_m6 96 rfl
theorem q1395 : (Jvm.Cond.instanceMethod ({ cls := "IdealCourt$Square", name := "take", desc := "(II)V" } : Jvm.MethodName)) ∈ lw_all := lw_g (lw_at lw_m6 97 rfl) rfl
theorem q1396 : (Jvm.Cond.code ({ cls := "IdealCourt$Square", name := "take", desc := "(II)V" } : Jvm.MethodName) prog_14_method_7_code (6 : Nat) (Option.none : Option Jvm.ClassFile.FieldType)) ∈ lw_all := lw_g (lw_at lw_m6 98 rfl) rfl
theorem q1397 : (Jvm.Cond.methodLink "IdealCourt$Square" (129 : Nat) ({ cls := "IdealCourt$Square", name := "reduce", desc := "(I)V" } : Jvm.MethodName)) ∈ lw_all := lw_g (lw_at lw_m6 99 rfl) rfl
theorem q1398 : (Jvm.Cond.privateMethod ({ cls := "IdealCourt$Square", name := "reduce", desc := "(I)V" } : Jvm.MethodName)) ∈ lw_tbl := lw_at lw_m6 100 rfl
theorem q1399 : (Jvm.Cond.instanceMethod ({ cls := "IdealCourt$Square", name := "reduce", desc := "(I)V" } : Jvm.MethodName)) ∈ lw_all := lw_g (lw_at lw_m6 101 rfl) rfl
theorem q1400 : (Jvm.Cond.code ({ cls := "IdealCourt$Square", name := "reduce", desc := "(I)V" } : Jvm.MethodName) prog_14_method_5_code (5 : Nat) (Option.none : Option Jvm.ClassFile.FieldType)) ∈ lw_all := lw_g (lw_at lw_m6 102 rfl) rfl
theorem q1401 : (Jvm.Cond.methodLink "IdealCourt$Square" (113 : Nat) ({ cls := "IdealCourt$Reckoner", name := "times", desc := "(LIdealCourt$Whole;LIdealCourt$Whole;LIdealCourt$Whole;)V" } : Jvm.MethodName)) ∈ lw_all := lw_g (lw_at lw_m6 103 rfl) rfl
theorem q1402 : (Jvm.Cond.methodLink "IdealCourt$Square" (117 : Nat) ({ cls := "IdealCourt$Square", name := "load", desc := "(IILIdealCourt$Whole;)V" } : Jvm.MethodName)) ∈ lw_all := lw_g (lw_at lw_m6 104 rfl) rfl
theorem q1403 : (Jvm.Cond.privateMethod ({ cls := "IdealCourt$Square", name := "load", desc := "(IILIdealCourt$Whole;)V" } : Jvm.MethodName)) ∈ lw_tbl := lw_at lw_m6 105 rfl
theorem q1404 : (Jvm.Cond.instanceMethod ({ cls := "IdealCourt$Square", name := "load", desc := "(IILIdealCourt$Whole;)V" } : Jvm.MethodName)) ∈ lw_all := lw_g (lw_at lw_m6 106 rfl) rfl
theorem q1405 : (Jvm.Cond.code ({ cls := "IdealCourt$Square", name := "load", desc := "(IILIdealCourt$Whole;)V" } : Jvm.MethodName) prog_14_method_3_code (6 : Nat) (Option.none : Option Jvm.ClassFile.FieldType)) ∈ lw_all := lw_g (lw_at lw_m6 107 rfl) rfl
theorem q1406 : (Jvm.Cond.methodLink "IdealCourt$Square" (99 : Nat) ({ cls := "java/lang/Math", name := "abs", desc := "(I)I" } : Jvm.MethodName)) ∈ lw_all := lw_g (lw_at lw_m6 108 rfl) rfl
theorem q1407 : (Jvm.Cond.methodLink "IdealCourt$Square" (121 : Nat) ({ cls := "IdealCourt$Reckoner", name := "add", desc := "(LIdealCourt$Whole;LIdealCourt$Whole;LIdealCourt$Whole;I)V" } : Jvm.MethodName)) ∈ lw_all := lw_g (lw_at lw_m6 109 rfl) rfl
theorem q1408 : (Jvm.Cond.methodLink "IdealCourt$Square" (125 : Nat) ({ cls := "IdealCourt$Whole", name := "be", desc := "(LIdealCourt$Whole;)V" } : Jvm.MethodName)) ∈ lw_all := lw_g (lw_at lw_m6 110 rfl) rfl
theorem q1409 : (Jvm.Cond.methodLink "IdealCourt$Square" (132 : Nat) ({ cls := "IdealCourt$Square", name := "firstColumn", desc := "()I" } : Jvm.MethodName)) ∈ lw_all := lw_g (lw_at lw_m6 111 rfl) rfl
theorem q1410 : (Jvm.Cond.privateMethod ({ cls := "IdealCourt$Square", name := "firstColumn", desc := "()I" } : Jvm.MethodName)) ∈ lw_tbl := lw_at lw_m6 112 rfl
theorem q1411 : (Jvm.Cond.instanceMethod ({ cls := "IdealCourt$Square", name := "firstColumn", desc := "()I" } : Jvm.MethodName)) ∈ lw_all := lw_g (lw_at lw_m6 113 rfl) rfl
theorem q1412 : (Jvm.Cond.code ({ cls := "IdealCourt$Square", name := "firstColumn", desc := "()I" } : Jvm.MethodName) prog_14_method_6_code (2 : Nat) (Option.some Jvm.ClassFile.FieldType.int)) ∈ lw_all := lw_g (lw_at lw_m6 114 rfl) rfl
theorem q1413 : (Jvm.Cond.methodLink "IdealCourt$Square" (136 : Nat) ({ cls := "IdealCourt$Square", name := "turn", desc := "(III)V" } : Jvm.MethodName)) ∈ lw_all := lw_g (lw_at lw_m6 115 rfl) rfl
theorem q1414 : (Jvm.Cond.privateMethod ({ cls := "IdealCourt$Square", name := "turn", desc := "(III)V" } : Jvm.MethodName)) ∈ lw_tbl := lw_at lw_m6 116 rfl
theorem q1415 : (Jvm.Cond.instanceMethod ({ cls := "IdealCourt$Square", name := "turn", desc := "(III)V" } : Jvm.MethodName)) ∈ lw_all := lw_g (lw_at lw_m6 117 rfl) rfl
theorem q1416 : (Jvm.Cond.code ({ cls := "IdealCourt$Square", name := "turn", desc := "(III)V" } : Jvm.MethodName) prog_14_method_8_code (5 : Nat) (Option.none : Option Jvm.ClassFile.FieldType)) ∈ lw_all := lw_g (lw_at lw_m6 118 rfl) rfl
theorem q1417 : (Jvm.Cond.methodLink "IdealCourt$Square" (143 : Nat) ({ cls := "IdealCourt$Reckoner", name := "part", desc := "(LIdealCourt$Whole;LIdealCourt$Whole;LIdealCourt$Whole;)V" } : Jvm.MethodName)) ∈ lw_all := lw_g (lw_at lw_m6 119 rfl) rfl
theorem q1418 : (Jvm.Cond.methodLink "IdealCourt$Square" (140 : Nat) ({ cls := "IdealCourt$Square", name := "save", desc := "(IILIdealCourt$Whole;)V" } : Jvm.MethodName)) ∈ lw_all := lw_g (lw_at lw_m6 120 rfl) rfl
theorem q1419 : (Jvm.Cond.privateMethod ({ cls := "IdealCourt$Square", name := "save", desc := "(IILIdealCourt$Whole;)V" } : Jvm.MethodName)) ∈ lw_tbl := lw_at lw_m6 121 rfl
theorem q1420 : (Jvm.Cond.instanceMethod ({ cls := "IdealCourt$Square", name := "save", desc := "(IILIdealCourt$Whole;)V" } : Jvm.MethodName)) ∈ lw_all := lw_g (lw_at lw_m6 122 rfl) rfl
theorem q1421 : (Jvm.Cond.code ({ cls := "IdealCourt$Square", name := "save", desc := "(IILIdealCourt$Whole;)V" } : Jvm.MethodName) prog_14_method_4_code (6 : Nat) (Option.none : Option Jvm.ClassFile.FieldType)) ∈ lw_all := lw_g (lw_at lw_m6 123 rfl) rfl
theorem q1431 : (Jvm.Cond.instanceMethod ({ cls := "IdealCourt$Square", name := "element", desc := "(ILIdealCourt$Poly;LIdealCourt$Ratio;)V" } : Jvm.MethodName)) ∈ lw_all := lw_g (lw_at lw_m6 133 rfl) rfl
theorem q1432 : (Jvm.Cond.selects "IdealCourt$Square" ({ cls := "IdealCourt$Square", name := "element", desc := "(ILIdealCourt$Poly;LIdealCourt$Ratio;)V" } : Jvm.MethodName) ({ cls := "IdealCourt$Square", name := "element", desc := "(ILIdealCourt$Poly;LIdealCourt$Ratio;)V" } : Jvm.MethodName)) ∈ lw_all := lw_g (lw_at lw_m6 134 rfl) rfl
theorem q1433 : (Jvm.Cond.code ({ cls := "IdealCourt$Square", name := "element", desc := "(ILIdealCourt$Poly;LIdealCourt$Ratio;)V" } : Jvm.MethodName) prog_14_method_12_code (5 : Nat) (Option.none : Option Jvm.ClassFile.FieldType)) ∈ lw_all := lw_g (lw_at lw_m6 135 rfl) rfl
theorem q1434 : (Jvm.Cond.methodLink "IdealCourt$Square" (166 : Nat) ({ cls := "IdealCourt$Poly", name := "clear", desc := "()V" } : Jvm.MethodName)) ∈ lw_all := lw_g (lw_at lw_m6 136 rfl) rfl
theorem q1435 : (Jvm.Cond.methodLink "IdealCourt$Square" (179 : Nat) ({ cls := "IdealCourt$Ratio", name := "shorten", desc := "()V" } : Jvm.MethodName)) ∈ lw_all := lw_g (lw_at lw_m6 137 rfl) rfl
theorem q1436 : (Jvm.Cond.methodLink "IdealCourt$Square" (182 : Nat) ({ cls := "IdealCourt$Poly", name := "put", desc := "(ILIdealCourt$Ratio;)Z" } : Jvm.MethodName)) ∈ lw_all := lw_g (lw_at lw_m6 138 rfl) rfl
theorem q1438 : (Jvm.Cond.instanceMethod ({ cls := "IdealCourt$Square", name := "leadOf", desc := "(I)I" } : Jvm.MethodName)) ∈ lw_all := lw_g (lw_at lw_m6 140 rfl) rfl
theorem q1439 : (Jvm.Cond.selects "IdealCourt$Square" ({ cls := "IdealCourt$Square", name := "leadOf", desc := "(I)I" } : Jvm.MethodName) ({ cls := "IdealCourt$Square", name := "leadOf", desc := "(I)I" } : Jvm.MethodName)) ∈ lw_all := lw_g (lw_at lw_m6 141 rfl) rfl
theorem q1440 : (Jvm.Cond.code ({ cls := "IdealCourt$Square", name := "leadOf", desc := "(I)I" } : Jvm.MethodName) prog_14_method_11_code (2 : Nat) (Option.some Jvm.ClassFile.FieldType.int)) ∈ lw_all := lw_g (lw_at lw_m6 142 rfl) rfl
theorem q1446 : (Jvm.Cond.instanceMethod ({ cls := "IdealCourt$Square", name := "isMinimal", desc := "(I)Z" } : Jvm.MethodName)) ∈ lw_all := lw_g (lw_at lw_m6 148 rfl) rfl
theorem q1447 : (Jvm.Cond.selects "IdealCourt$Square" ({ cls := "IdealCourt$Square", name := "isMinimal", desc := "(I)Z" } : Jvm.MethodName) ({ cls := "IdealCourt$Square", name := "isMinimal", desc := "(I)Z" } : Jvm.MethodName)) ∈ lw_all := lw_g (lw_at lw_m6 149 rfl) rfl
theorem q1448 : (Jvm.Cond.code ({ cls := "IdealCourt$Square", name := "isMinimal", desc := "(I)Z" } : Jvm.MethodName) prog_14_method_14_code (4 : Nat) (Option.some Jvm.ClassFile.FieldType.boolean)) ∈ lw_all := lw_g (lw_at lw_m6 150 rfl) rfl
theorem q1449 : (Jvm.Cond.methodLink "IdealCourt$Square" (196 : Nat) ({ cls := "IdealCourt$Square", name := "leadOf", desc := "(I)I" } : Jvm.MethodName)) ∈ lw_all := lw_g (lw_at lw_m6 151 rfl) rfl
theorem q1450 : (Jvm.Cond.methodLink "IdealCourt$Square" (199 : Nat) ({ cls := "IdealCourt$Terms", name := "divides", desc := "(II)Z" } : Jvm.MethodName)) ∈ lw_all := lw_g (lw_at lw_m6 152 rfl) rfl
theorem q1470 : (Jvm.Cond.instanceMethod ({ cls := "IdealCourt$Square", name := "free", desc := "()I" } : Jvm.MethodName)) ∈ lw_all := lw_g (lw_at lw_m6 172 rfl) rfl
theorem q1471 : (Jvm.Cond.selects "IdealCourt$Square" ({ cls := "IdealCourt$Square", name := "free", desc := "()I" } : Jvm.MethodName) ({ cls := "IdealCourt$Square", name := "free", desc := "()I" } : Jvm.MethodName)) ∈ lw_all := lw_g (lw_at lw_m6 173 rfl) rfl
theorem q1472 : (Jvm.Cond.code ({ cls := "IdealCourt$Square", name := "free", desc := "()I" } : Jvm.MethodName) prog_14_method_16_code (3 : Nat) (Option.some Jvm.ClassFile.FieldType.int)) ∈ lw_all := lw_g (lw_at lw_m6 174 rfl) rfl
theorem q1473 : (Jvm.Cond.methodLink "IdealCourt$Square" (203 : Nat) ({ cls := "IdealCourt$Terms", name := "number", desc := "(III)I" } : Jvm.MethodName)) ∈ lw_all := lw_g (lw_at lw_m6 175 rfl) rfl
theorem q1474 : (Jvm.Cond.methodLink "IdealCourt$Square" (207 : Nat) ({ cls := "IdealCourt$Square", name := "isFree", desc := "(I)Z" } : Jvm.MethodName)) ∈ lw_all := lw_g (lw_at lw_m6 176 rfl) rfl
theorem q1475 : (Jvm.Cond.instanceMethod ({ cls := "IdealCourt$Square", name := "isFree", desc := "(I)Z" } : Jvm.MethodName)) ∈ lw_all := lw_g (lw_at lw_m6 177 rfl) rfl
theorem q1476 : (Jvm.Cond.selects "IdealCourt$Square" ({ cls := "IdealCourt$Square", name := "isFree", desc := "(I)Z" } : Jvm.MethodName) ({ cls := "IdealCourt$Square", name := "isFree", desc := "(I)Z" } : Jvm.MethodName)) ∈ lw_all := lw_g (lw_at lw_m6 178 rfl) rfl
theorem q1477 : (Jvm.Cond.code ({ cls := "IdealCourt$Square", name := "isFree", desc := "(I)Z" } : Jvm.MethodName) prog_14_method_15_code (4 : Nat) (Option.some Jvm.ClassFile.FieldType.boolean)) ∈ lw_all := lw_g (lw_at lw_m6 179 rfl) rfl
theorem q1483 : (Jvm.Cond.instanceMethod ({ cls := "IdealCourt$Square", name := "member", desc := "(LIdealCourt$Poly;LIdealCourt$Poly;[LIdealCourt$Poly;LIdealCourt$Ratio;)Z" } : Jvm.MethodName)) ∈ lw_all := lw_g (lw_at lw_m6 185 rfl) rfl
theorem q1484 : (Jvm.Cond.selects "IdealCourt$Square" ({ cls := "IdealCourt$Square", name := "member", desc := "(LIdealCourt$Poly;LIdealCourt$Poly;[LIdealCourt$Poly;LIdealCourt$Ratio;)Z" } : Jvm.MethodName) ({ cls := "IdealCourt$Square", name := "member", desc := "(LIdealCourt$Poly;LIdealCourt$Poly;[LIdealCourt$Poly;LIdealCourt$Ratio;)Z" } : Jvm.MethodName)) ∈ lw_all := lw_g (lw_at lw_m6 186 rfl) rfl
theorem q1485 : (Jvm.Cond.code ({ cls := "IdealCourt$Square", name := "member", desc := "(LIdealCourt$Poly;LIdealCourt$Poly;[LIdealCourt$Poly;LIdealCourt$Ratio;)Z" } : Jvm.MethodName) prog_14_method_13_code (7 : Nat) (Option.some Jvm.ClassFile.FieldType.boolean)) ∈ lw_all := lw_g (lw_at lw_m6 187 rfl) rfl
theorem q1486 : (Jvm.Cond.methodLink "IdealCourt$Square" (186 : Nat) ({ cls := "IdealCourt$Poly", name := "get", desc := "(ILIdealCourt$Ratio;)V" } : Jvm.MethodName)) ∈ lw_all := lw_g (lw_at lw_m6 188 rfl) rfl
theorem q1487 : (Jvm.Cond.methodLink "IdealCourt$Square" (190 : Nat) ({ cls := "IdealCourt$Ratio", name := "whole", desc := "()I" } : Jvm.MethodName)) ∈ lw_all := lw_g (lw_at lw_m6 189 rfl) rfl
theorem in_X7 : ∀ w ∈ wsX70, w ∈ lw_all := lw_in wsX70 [348, 350, 352, 354, 356, 358, 360, 362, 364, 366, 368, 370, 372, 374, 376, 378, 380, 382, 384, 386] (by decide +kernel) (by decide +kernel)
