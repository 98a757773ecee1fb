/-! IdealCourt$Reckoner -/
set_option maxRecDepth 100000
def RX2 : String := "IdealCourt$Reckoner"
def TX2 : u_T := fun k => match k with
  | 0 => ("IdealCourt$Reckoner", "u", "[I", true)
  | 1 => ("IdealCourt$Reckoner", "v", "[I", true)
  | 2 => ("IdealCourt$Reckoner", "quotient", "LIdealCourt$Whole;", true)
  | 3 => ("IdealCourt$Reckoner", "rest", "LIdealCourt$Whole;", true)
  | 4 => ("IdealCourt$Reckoner", "one", "LIdealCourt$Whole;", true)
  | _ => ("IdealCourt$Reckoner", "other", "LIdealCourt$Whole;", true)
def tyX2 : Nat → FieldType := fun k => match k with
  | 0 => .array .int
  | 1 => .array .int
  | 2 => .object "IdealCourt$Whole"
  | 3 => .object "IdealCourt$Whole"
  | 4 => .object "IdealCourt$Whole"
  | _ => .object "IdealCourt$Whole"
abbrev wsX20 : List Cond := u_ws RX2 TX2 6
theorem nmX2 : ∀ a, a < 6 → ∀ b, b < 6 → a ≠ b → (TX2 a).2.1 ≠ (TX2 b).2.1 := by decide +kernel
theorem tyX2_ok : ∀ k, k < 6 → parseFieldDescriptor (TX2 k).2.2.1 = some (tyX2 k) := by decide +kernel
abbrev cX2_init : ByteArray := prog_12_method_1_code
def yX2_init : MethodName := ⟨RX2, "<init>", "()V"⟩
def dkwX2_init_3 : List UInt8 := [17, 0, 160, 183, 0, 18, 181, 0, 31, 177]
abbrev dktX2_init_3 : List UInt8 := dkwX2_init_3 ++ []
def dkwX2_init_2 : List UInt8 := [181, 0, 25, 42, 187, 0, 16, 89, 17, 0, 160, 183, 0, 18, 181, 0, 28, 42, 187, 0, 16, 89]
abbrev dktX2_init_2 : List UInt8 := dkwX2_init_2 ++ dktX2_init_3
def dkwX2_init_1 : List UInt8 := [187, 0, 16, 89, 17, 0, 160, 183, 0, 18, 181, 0, 21, 42, 187, 0, 16, 89, 17, 0, 160, 183, 0, 18]
abbrev dktX2_init_1 : List UInt8 := dkwX2_init_1 ++ dktX2_init_2
def dkwX2_init_0 : List UInt8 := [42, 183, 0, 1, 42, 17, 1, 64, 188, 10, 181, 0, 9, 42, 17, 1, 64, 188, 10, 181, 0, 13, 42]
abbrev dktX2_init_0 : List UInt8 := dkwX2_init_0 ++ dktX2_init_1
theorem dksX2_init_0 : cX2_init.data.toList.drop 0 = dktX2_init_0 := by decide +kernel
theorem dksX2_init_1 : cX2_init.data.toList.drop 23 = dktX2_init_1 := dk_seg dksX2_init_0 23 rfl rfl
theorem dksX2_init_2 : cX2_init.data.toList.drop 47 = dktX2_init_2 := dk_seg dksX2_init_1 24 rfl rfl
theorem dksX2_init_3 : cX2_init.data.toList.drop 69 = dktX2_init_3 := dk_seg dksX2_init_2 22 rfl rfl
theorem dX2_init_0 : decode cX2_init 0 = .ok (.aload_n 0, 1) := dk_42 (dk_at dksX2_init_0 0 rfl rfl)
theorem dX2_init_1 : decode cX2_init 1 = .ok (.invokespecial 1, 3) := dk_183 0 1 (dk_at dksX2_init_0 1 rfl rfl)
theorem dX2_init_4 : decode cX2_init 4 = .ok (.aload_n 0, 1) := dk_42 (dk_at dksX2_init_0 4 rfl rfl)
theorem dX2_init_5 : decode cX2_init 5 = .ok (.sipush 320, 3) := dk_17 1 64 (dk_at dksX2_init_0 5 rfl rfl)
theorem dX2_init_8 : decode cX2_init 8 = .ok (.newarray .int, 2) := dk_188_10 (dk_at dksX2_init_0 8 rfl rfl)
theorem dX2_init_10 : decode cX2_init 10 = .ok (.putfield 9, 3) := dk_181 0 9 (dk_at dksX2_init_0 10 rfl rfl)
theorem dX2_init_13 : decode cX2_init 13 = .ok (.aload_n 0, 1) := dk_42 (dk_at dksX2_init_0 13 rfl rfl)
theorem dX2_init_14 : decode cX2_init 14 = .ok (.sipush 320, 3) := dk_17 1 64 (dk_at dksX2_init_0 14 rfl rfl)
theorem dX2_init_17 : decode cX2_init 17 = .ok (.newarray .int, 2) := dk_188_10 (dk_at dksX2_init_0 17 rfl rfl)
theorem dX2_init_19 : decode cX2_init 19 = .ok (.putfield 13, 3) := dk_181 0 13 (dk_at dksX2_init_0 19 rfl rfl)
theorem dX2_init_22 : decode cX2_init 22 = .ok (.aload_n 0, 1) := dk_42 (dk_at dksX2_init_0 22 rfl rfl)
theorem dX2_init_23 : decode cX2_init 23 = .ok (.new 16, 3) := dk_187 0 16 (dk_at dksX2_init_1 0 rfl rfl)
theorem dX2_init_26 : decode cX2_init 26 = .ok (.dup, 1) := dk_89 (dk_at dksX2_init_1 3 rfl rfl)
theorem dX2_init_27 : decode cX2_init 27 = .ok (.sipush 160, 3) := dk_17 0 160 (dk_at dksX2_init_1 4 rfl rfl)
theorem dX2_init_30 : decode cX2_init 30 = .ok (.invokespecial 18, 3) := dk_183 0 18 (dk_at dksX2_init_1 7 rfl rfl)
theorem dX2_init_33 : decode cX2_init 33 = .ok (.putfield 21, 3) := dk_181 0 21 (dk_at dksX2_init_1 10 rfl rfl)
theorem dX2_init_36 : decode cX2_init 36 = .ok (.aload_n 0, 1) := dk_42 (dk_at dksX2_init_1 13 rfl rfl)
theorem dX2_init_37 : decode cX2_init 37 = .ok (.new 16, 3) := dk_187 0 16 (dk_at dksX2_init_1 14 rfl rfl)
theorem dX2_init_40 : decode cX2_init 40 = .ok (.dup, 1) := dk_89 (dk_at dksX2_init_1 17 rfl rfl)
theorem dX2_init_41 : decode cX2_init 41 = .ok (.sipush 160, 3) := dk_17 0 160 (dk_at dksX2_init_1 18 rfl rfl)
theorem dX2_init_44 : decode cX2_init 44 = .ok (.invokespecial 18, 3) := dk_183 0 18 (dk_at dksX2_init_1 21 rfl rfl)
theorem dX2_init_47 : decode cX2_init 47 = .ok (.putfield 25, 3) := dk_181 0 25 (dk_at dksX2_init_2 0 rfl rfl)
theorem dX2_init_50 : decode cX2_init 50 = .ok (.aload_n 0, 1) := dk_42 (dk_at dksX2_init_2 3 rfl rfl)
theorem dX2_init_51 : decode cX2_init 51 = .ok (.new 16, 3) := dk_187 0 16 (dk_at dksX2_init_2 4 rfl rfl)
theorem dX2_init_54 : decode cX2_init 54 = .ok (.dup, 1) := dk_89 (dk_at dksX2_init_2 7 rfl rfl)
theorem dX2_init_55 : decode cX2_init 55 = .ok (.sipush 160, 3) := dk_17 0 160 (dk_at dksX2_init_2 8 rfl rfl)
theorem dX2_init_58 : decode cX2_init 58 = .ok (.invokespecial 18, 3) := dk_183 0 18 (dk_at dksX2_init_2 11 rfl rfl)
theorem dX2_init_61 : decode cX2_init 61 = .ok (.putfield 28, 3) := dk_181 0 28 (dk_at dksX2_init_2 14 rfl rfl)
theorem dX2_init_64 : decode cX2_init 64 = .ok (.aload_n 0, 1) := dk_42 (dk_at dksX2_init_2 17 rfl rfl)
theorem dX2_init_65 : decode cX2_init 65 = .ok (.new 16, 3) := dk_187 0 16 (dk_at dksX2_init_2 18 rfl rfl)
theorem dX2_init_68 : decode cX2_init 68 = .ok (.dup, 1) := dk_89 (dk_at dksX2_init_2 21 rfl rfl)
theorem dX2_init_69 : decode cX2_init 69 = .ok (.sipush 160, 3) := dk_17 0 160 (dk_at dksX2_init_3 0 rfl rfl)
theorem dX2_init_72 : decode cX2_init 72 = .ok (.invokespecial 18, 3) := dk_183 0 18 (dk_at dksX2_init_3 3 rfl rfl)
theorem dX2_init_75 : decode cX2_init 75 = .ok (.putfield 31, 3) := dk_181 0 31 (dk_at dksX2_init_3 6 rfl rfl)
theorem dX2_init_78 : decode cX2_init 78 = .ok (.return_, 1) := dk_177 (dk_at dksX2_init_3 9 rfl rfl)
abbrev cX2_common : ByteArray := prog_12_method_9_code
def yX2_common : MethodName := ⟨RX2, "common", "(LIdealCourt$Whole;LIdealCourt$Whole;LIdealCourt$Whole;)V"⟩
def dkwX2_common_3 : List UInt8 := [43, 42, 180, 0, 28, 182, 0, 60, 43, 180, 0, 41, 156, 0, 8, 43, 4, 181, 0, 41, 177]
abbrev dktX2_common_3 : List UInt8 := dkwX2_common_3 ++ []
def dkwX2_common_2 : List UInt8 := [180, 0, 28, 42, 180, 0, 31, 182, 0, 60, 42, 180, 0, 31, 42, 180, 0, 25, 182, 0, 60, 167, 255, 204]
abbrev dktX2_common_2 : List UInt8 := dkwX2_common_2 ++ dktX2_common_3
def dkwX2_common_1 : List UInt8 := [153, 0, 48, 42, 42, 180, 0, 21, 42, 180, 0, 25, 42, 180, 0, 28, 42, 180, 0, 31, 182, 0, 75, 42]
abbrev dktX2_common_1 : List UInt8 := dkwX2_common_1 ++ dktX2_common_2
def dkwX2_common_0 : List UInt8 := [42, 180, 0, 28, 44, 182, 0, 60, 42, 180, 0, 31, 45, 182, 0, 60, 42, 180, 0, 31, 180, 0, 41]
abbrev dktX2_common_0 : List UInt8 := dkwX2_common_0 ++ dktX2_common_1
theorem dksX2_common_0 : cX2_common.data.toList.drop 0 = dktX2_common_0 := by decide +kernel
theorem dksX2_common_1 : cX2_common.data.toList.drop 23 = dktX2_common_1 := dk_seg dksX2_common_0 23 rfl rfl
theorem dksX2_common_2 : cX2_common.data.toList.drop 47 = dktX2_common_2 := dk_seg dksX2_common_1 24 rfl rfl
theorem dksX2_common_3 : cX2_common.data.toList.drop 71 = dktX2_common_3 := dk_seg dksX2_common_2 24 rfl rfl
theorem dX2_common_0 : decode cX2_common 0 = .ok (.aload_n 0, 1) := dk_42 (dk_at dksX2_common_0 0 rfl rfl)
theorem dX2_common_1 : decode cX2_common 1 = .ok (.getfield 28, 3) := dk_180 0 28 (dk_at dksX2_common_0 1 rfl rfl)
theorem dX2_common_4 : decode cX2_common 4 = .ok (.aload_n 2, 1) := dk_44 (dk_at dksX2_common_0 4 rfl rfl)
theorem dX2_common_5 : decode cX2_common 5 = .ok (.invokevirtual 60, 3) := dk_182 0 60 (dk_at dksX2_common_0 5 rfl rfl)
theorem dX2_common_8 : decode cX2_common 8 = .ok (.aload_n 0, 1) := dk_42 (dk_at dksX2_common_0 8 rfl rfl)
theorem dX2_common_9 : decode cX2_common 9 = .ok (.getfield 31, 3) := dk_180 0 31 (dk_at dksX2_common_0 9 rfl rfl)
theorem dX2_common_12 : decode cX2_common 12 = .ok (.aload_n 3, 1) := dk_45 (dk_at dksX2_common_0 12 rfl rfl)
theorem dX2_common_13 : decode cX2_common 13 = .ok (.invokevirtual 60, 3) := dk_182 0 60 (dk_at dksX2_common_0 13 rfl rfl)
theorem dX2_common_16 : decode cX2_common 16 = .ok (.aload_n 0, 1) := dk_42 (dk_at dksX2_common_0 16 rfl rfl)
theorem dX2_common_17 : decode cX2_common 17 = .ok (.getfield 31, 3) := dk_180 0 31 (dk_at dksX2_common_0 17 rfl rfl)
theorem dX2_common_20 : decode cX2_common 20 = .ok (.getfield 41, 3) := dk_180 0 41 (dk_at dksX2_common_0 20 rfl rfl)
theorem dX2_common_23 : decode cX2_common 23 = .ok (.ifCond .eq 48, 3) := dk_153 0 48 (dk_at dksX2_common_1 0 rfl rfl)
theorem dX2_common_26 : decode cX2_common 26 = .ok (.aload_n 0, 1) := dk_42 (dk_at dksX2_common_1 3 rfl rfl)
theorem dX2_common_27 : decode cX2_common 27 = .ok (.aload_n 0, 1) := dk_42 (dk_at dksX2_common_1 4 rfl rfl)
theorem dX2_common_28 : decode cX2_common 28 = .ok (.getfield 21, 3) := dk_180 0 21 (dk_at dksX2_common_1 5 rfl rfl)
theorem dX2_common_31 : decode cX2_common 31 = .ok (.aload_n 0, 1) := dk_42 (dk_at dksX2_common_1 8 rfl rfl)
theorem dX2_common_32 : decode cX2_common 32 = .ok (.getfield 25, 3) := dk_180 0 25 (dk_at dksX2_common_1 9 rfl rfl)
theorem dX2_common_35 : decode cX2_common 35 = .ok (.aload_n 0, 1) := dk_42 (dk_at dksX2_common_1 12 rfl rfl)
theorem dX2_common_36 : decode cX2_common 36 = .ok (.getfield 28, 3) := dk_180 0 28 (dk_at dksX2_common_1 13 rfl rfl)
theorem dX2_common_39 : decode cX2_common 39 = .ok (.aload_n 0, 1) := dk_42 (dk_at dksX2_common_1 16 rfl rfl)
theorem dX2_common_40 : decode cX2_common 40 = .ok (.getfield 31, 3) := dk_180 0 31 (dk_at dksX2_common_1 17 rfl rfl)
theorem dX2_common_43 : decode cX2_common 43 = .ok (.invokevirtual 75, 3) := dk_182 0 75 (dk_at dksX2_common_1 20 rfl rfl)
theorem dX2_common_46 : decode cX2_common 46 = .ok (.aload_n 0, 1) := dk_42 (dk_at dksX2_common_1 23 rfl rfl)
theorem dX2_common_47 : decode cX2_common 47 = .ok (.getfield 28, 3) := dk_180 0 28 (dk_at dksX2_common_2 0 rfl rfl)
theorem dX2_common_50 : decode cX2_common 50 = .ok (.aload_n 0, 1) := dk_42 (dk_at dksX2_common_2 3 rfl rfl)
theorem dX2_common_51 : decode cX2_common 51 = .ok (.getfield 31, 3) := dk_180 0 31 (dk_at dksX2_common_2 4 rfl rfl)
theorem dX2_common_54 : decode cX2_common 54 = .ok (.invokevirtual 60, 3) := dk_182 0 60 (dk_at dksX2_common_2 7 rfl rfl)
theorem dX2_common_57 : decode cX2_common 57 = .ok (.aload_n 0, 1) := dk_42 (dk_at dksX2_common_2 10 rfl rfl)
theorem dX2_common_58 : decode cX2_common 58 = .ok (.getfield 31, 3) := dk_180 0 31 (dk_at dksX2_common_2 11 rfl rfl)
theorem dX2_common_61 : decode cX2_common 61 = .ok (.aload_n 0, 1) := dk_42 (dk_at dksX2_common_2 14 rfl rfl)
theorem dX2_common_62 : decode cX2_common 62 = .ok (.getfield 25, 3) := dk_180 0 25 (dk_at dksX2_common_2 15 rfl rfl)
theorem dX2_common_65 : decode cX2_common 65 = .ok (.invokevirtual 60, 3) := dk_182 0 60 (dk_at dksX2_common_2 18 rfl rfl)
theorem dX2_common_68 : decode cX2_common 68 = .ok (.goto (-52), 3) := dk_167 255 204 (dk_at dksX2_common_2 21 rfl rfl)
theorem dX2_common_71 : decode cX2_common 71 = .ok (.aload_n 1, 1) := dk_43 (dk_at dksX2_common_3 0 rfl rfl)
theorem dX2_common_72 : decode cX2_common 72 = .ok (.aload_n 0, 1) := dk_42 (dk_at dksX2_common_3 1 rfl rfl)
theorem dX2_common_73 : decode cX2_common 73 = .ok (.getfield 28, 3) := dk_180 0 28 (dk_at dksX2_common_3 2 rfl rfl)
theorem dX2_common_76 : decode cX2_common 76 = .ok (.invokevirtual 60, 3) := dk_182 0 60 (dk_at dksX2_common_3 5 rfl rfl)
theorem dX2_common_79 : decode cX2_common 79 = .ok (.aload_n 1, 1) := dk_43 (dk_at dksX2_common_3 8 rfl rfl)
theorem dX2_common_80 : decode cX2_common 80 = .ok (.getfield 41, 3) := dk_180 0 41 (dk_at dksX2_common_3 9 rfl rfl)
theorem dX2_common_83 : decode cX2_common 83 = .ok (.ifCond .ge 8, 3) := dk_156 0 8 (dk_at dksX2_common_3 12 rfl rfl)
theorem dX2_common_86 : decode cX2_common 86 = .ok (.aload_n 1, 1) := dk_43 (dk_at dksX2_common_3 15 rfl rfl)
theorem dX2_common_87 : decode cX2_common 87 = .ok (.iconst 1, 1) := dk_4 (dk_at dksX2_common_3 16 rfl rfl)
theorem dX2_common_88 : decode cX2_common 88 = .ok (.putfield 41, 3) := dk_181 0 41 (dk_at dksX2_common_3 17 rfl rfl)
theorem dX2_common_91 : decode cX2_common 91 = .ok (.return_, 1) := dk_177 (dk_at dksX2_common_3 20 rfl rfl)
abbrev cX2_divide : ByteArray := prog_12_method_5_code
def yX2_divide : MethodName := ⟨RX2, "divide", "(LIdealCourt$Whole;LIdealCourt$Whole;LIdealCourt$Whole;LIdealCourt$Whole;)V"⟩
def dkwX2_divide_8 : List UInt8 := [4, 96, 181, 0, 34, 43, 45, 180, 0, 41, 25, 4, 180, 0, 41, 104, 181, 0, 41, 43, 182, 0, 57, 177]
abbrev dktX2_divide_8 : List UInt8 := dkwX2_divide_8 ++ []
def dkwX2_divide_7 : List UInt8 := [167, 255, 211, 44, 21, 5, 181, 0, 34, 44, 45, 180, 0, 41, 181, 0, 41, 44, 182, 0, 57, 43, 21, 6]
abbrev dktX2_divide_7 : List UInt8 := dkwX2_divide_7 ++ dktX2_divide_8
def dkwX2_divide_6 : List UInt8 := [44, 180, 0, 38, 21, 11, 22, 12, 22, 7, 109, 136, 79, 22, 12, 22, 7, 113, 55, 9, 132, 11, 255]
abbrev dktX2_divide_6 : List UInt8 := dkwX2_divide_6 ++ dktX2_divide_7
def dkwX2_divide_5 : List UInt8 := [54, 11, 21, 11, 155, 0, 46, 22, 9, 20, 0, 50, 105, 42, 180, 0, 9, 21, 11, 46, 133, 97, 55, 12]
abbrev dktX2_divide_5 : List UInt8 := dkwX2_divide_5 ++ dktX2_divide_6
def dkwX2_divide_4 : List UInt8 := [21, 9, 42, 21, 9, 21, 5, 182, 0, 72, 79, 132, 9, 255, 167, 255, 233, 9, 55, 9, 21, 5, 4, 100]
abbrev dktX2_divide_4 : List UInt8 := dkwX2_divide_4 ++ dktX2_divide_5
def dkwX2_divide_3 : List UInt8 := [180, 0, 13, 25, 4, 22, 7, 182, 0, 68, 21, 6, 54, 9, 21, 9, 155, 0, 24, 43, 180, 0, 38]
abbrev dktX2_divide_3 : List UInt8 := dkwX2_divide_3 ++ dktX2_divide_4
def dkwX2_divide_2 : List UInt8 := [4, 100, 46, 133, 10, 97, 109, 55, 7, 42, 42, 180, 0, 9, 45, 22, 7, 182, 0, 68, 42, 42]
abbrev dktX2_divide_2 : List UInt8 := dkwX2_divide_2 ++ dktX2_divide_3
def dkwX2_divide_1 : List UInt8 := [180, 0, 34, 54, 5, 45, 180, 0, 34, 21, 5, 100, 54, 6, 20, 0, 50, 25, 4, 180, 0, 38, 21, 5]
abbrev dktX2_divide_1 : List UInt8 := dkwX2_divide_1 ++ dktX2_divide_2
def dkwX2_divide_0 : List UInt8 := [42, 45, 25, 4, 182, 0, 52, 156, 0, 14, 44, 45, 182, 0, 60, 43, 9, 182, 0, 64, 177, 25, 4]
abbrev dktX2_divide_0 : List UInt8 := dkwX2_divide_0 ++ dktX2_divide_1
theorem dksX2_divide_0 : cX2_divide.data.toList.drop 0 = dktX2_divide_0 := by decide +kernel
theorem dksX2_divide_1 : cX2_divide.data.toList.drop 23 = dktX2_divide_1 := dk_seg dksX2_divide_0 23 rfl rfl
theorem dksX2_divide_2 : cX2_divide.data.toList.drop 47 = dktX2_divide_2 := dk_seg dksX2_divide_1 24 rfl rfl
theorem dksX2_divide_3 : cX2_divide.data.toList.drop 69 = dktX2_divide_3 := dk_seg dksX2_divide_2 22 rfl rfl
theorem dksX2_divide_4 : cX2_divide.data.toList.drop 92 = dktX2_divide_4 := dk_seg dksX2_divide_3 23 rfl rfl
theorem dksX2_divide_5 : cX2_divide.data.toList.drop 116 = dktX2_divide_5 := dk_seg dksX2_divide_4 24 rfl rfl
theorem dksX2_divide_6 : cX2_divide.data.toList.drop 140 = dktX2_divide_6 := dk_seg dksX2_divide_5 24 rfl rfl
theorem dksX2_divide_7 : cX2_divide.data.toList.drop 163 = dktX2_divide_7 := dk_seg dksX2_divide_6 23 rfl rfl
theorem dksX2_divide_8 : cX2_divide.data.toList.drop 187 = dktX2_divide_8 := dk_seg dksX2_divide_7 24 rfl rfl
theorem dX2_divide_0 : decode cX2_divide 0 = .ok (.aload_n 0, 1) := dk_42 (dk_at dksX2_divide_0 0 rfl rfl)
theorem dX2_divide_1 : decode cX2_divide 1 = .ok (.aload_n 3, 1) := dk_45 (dk_at dksX2_divide_0 1 rfl rfl)
theorem dX2_divide_2 : decode cX2_divide 2 = .ok (.aload 4, 2) := dk_25 4 (dk_at dksX2_divide_0 2 rfl rfl)
theorem dX2_divide_4 : decode cX2_divide 4 = .ok (.invokevirtual 52, 3) := dk_182 0 52 (dk_at dksX2_divide_0 4 rfl rfl)
theorem dX2_divide_7 : decode cX2_divide 7 = .ok (.ifCond .ge 14, 3) := dk_156 0 14 (dk_at dksX2_divide_0 7 rfl rfl)
theorem dX2_divide_10 : decode cX2_divide 10 = .ok (.aload_n 2, 1) := dk_44 (dk_at dksX2_divide_0 10 rfl rfl)
theorem dX2_divide_11 : decode cX2_divide 11 = .ok (.aload_n 3, 1) := dk_45 (dk_at dksX2_divide_0 11 rfl rfl)
theorem dX2_divide_12 : decode cX2_divide 12 = .ok (.invokevirtual 60, 3) := dk_182 0 60 (dk_at dksX2_divide_0 12 rfl rfl)
theorem dX2_divide_15 : decode cX2_divide 15 = .ok (.aload_n 1, 1) := dk_43 (dk_at dksX2_divide_0 15 rfl rfl)
theorem dX2_divide_16 : decode cX2_divide 16 = .ok (.lconst 0, 1) := dk_9 (dk_at dksX2_divide_0 16 rfl rfl)
theorem dX2_divide_17 : decode cX2_divide 17 = .ok (.invokevirtual 64, 3) := dk_182 0 64 (dk_at dksX2_divide_0 17 rfl rfl)
theorem dX2_divide_20 : decode cX2_divide 20 = .ok (.return_, 1) := dk_177 (dk_at dksX2_divide_0 20 rfl rfl)
theorem dX2_divide_21 : decode cX2_divide 21 = .ok (.aload 4, 2) := dk_25 4 (dk_at dksX2_divide_0 21 rfl rfl)
theorem dX2_divide_23 : decode cX2_divide 23 = .ok (.getfield 34, 3) := dk_180 0 34 (dk_at dksX2_divide_1 0 rfl rfl)
theorem dX2_divide_26 : decode cX2_divide 26 = .ok (.istore 5, 2) := dk_54 5 (dk_at dksX2_divide_1 3 rfl rfl)
theorem dX2_divide_28 : decode cX2_divide 28 = .ok (.aload_n 3, 1) := dk_45 (dk_at dksX2_divide_1 5 rfl rfl)
theorem dX2_divide_29 : decode cX2_divide 29 = .ok (.getfield 34, 3) := dk_180 0 34 (dk_at dksX2_divide_1 6 rfl rfl)
theorem dX2_divide_32 : decode cX2_divide 32 = .ok (.iload 5, 2) := dk_21 5 (dk_at dksX2_divide_1 9 rfl rfl)
theorem dX2_divide_34 : decode cX2_divide 34 = .ok (.isub, 1) := dk_100 (dk_at dksX2_divide_1 11 rfl rfl)
theorem dX2_divide_35 : decode cX2_divide 35 = .ok (.istore 6, 2) := dk_54 6 (dk_at dksX2_divide_1 12 rfl rfl)
theorem dX2_divide_37 : decode cX2_divide 37 = .ok (.ldc2_w 50, 3) := dk_20 0 50 (dk_at dksX2_divide_1 14 rfl rfl)
theorem dX2_divide_40 : decode cX2_divide 40 = .ok (.aload 4, 2) := dk_25 4 (dk_at dksX2_divide_1 17 rfl rfl)
theorem dX2_divide_42 : decode cX2_divide 42 = .ok (.getfield 38, 3) := dk_180 0 38 (dk_at dksX2_divide_1 19 rfl rfl)
theorem dX2_divide_45 : decode cX2_divide 45 = .ok (.iload 5, 2) := dk_21 5 (dk_at dksX2_divide_1 22 rfl rfl)
theorem dX2_divide_47 : decode cX2_divide 47 = .ok (.iconst 1, 1) := dk_4 (dk_at dksX2_divide_2 0 rfl rfl)
theorem dX2_divide_48 : decode cX2_divide 48 = .ok (.isub, 1) := dk_100 (dk_at dksX2_divide_2 1 rfl rfl)
theorem dX2_divide_49 : decode cX2_divide 49 = .ok (.iaload, 1) := dk_46 (dk_at dksX2_divide_2 2 rfl rfl)
theorem dX2_divide_50 : decode cX2_divide 50 = .ok (.i2l, 1) := dk_133 (dk_at dksX2_divide_2 3 rfl rfl)
theorem dX2_divide_51 : decode cX2_divide 51 = .ok (.lconst 1, 1) := dk_10 (dk_at dksX2_divide_2 4 rfl rfl)
theorem dX2_divide_52 : decode cX2_divide 52 = .ok (.ladd, 1) := dk_97 (dk_at dksX2_divide_2 5 rfl rfl)
theorem dX2_divide_53 : decode cX2_divide 53 = .ok (.ldiv, 1) := dk_109 (dk_at dksX2_divide_2 6 rfl rfl)
theorem dX2_divide_54 : decode cX2_divide 54 = .ok (.lstore 7, 2) := dk_55 7 (dk_at dksX2_divide_2 7 rfl rfl)
theorem dX2_divide_56 : decode cX2_divide 56 = .ok (.aload_n 0, 1) := dk_42 (dk_at dksX2_divide_2 9 rfl rfl)
theorem dX2_divide_57 : decode cX2_divide 57 = .ok (.aload_n 0, 1) := dk_42 (dk_at dksX2_divide_2 10 rfl rfl)
theorem dX2_divide_58 : decode cX2_divide 58 = .ok (.getfield 9, 3) := dk_180 0 9 (dk_at dksX2_divide_2 11 rfl rfl)
theorem dX2_divide_61 : decode cX2_divide 61 = .ok (.aload_n 3, 1) := dk_45 (dk_at dksX2_divide_2 14 rfl rfl)
theorem dX2_divide_62 : decode cX2_divide 62 = .ok (.lload 7, 2) := dk_22 7 (dk_at dksX2_divide_2 15 rfl rfl)
theorem dX2_divide_64 : decode cX2_divide 64 = .ok (.invokevirtual 68, 3) := dk_182 0 68 (dk_at dksX2_divide_2 17 rfl rfl)
theorem dX2_divide_67 : decode cX2_divide 67 = .ok (.aload_n 0, 1) := dk_42 (dk_at dksX2_divide_2 20 rfl rfl)
theorem dX2_divide_68 : decode cX2_divide 68 = .ok (.aload_n 0, 1) := dk_42 (dk_at dksX2_divide_2 21 rfl rfl)
theorem dX2_divide_69 : decode cX2_divide 69 = .ok (.getfield 13, 3) := dk_180 0 13 (dk_at dksX2_divide_3 0 rfl rfl)
theorem dX2_divide_72 : decode cX2_divide 72 = .ok (.aload 4, 2) := dk_25 4 (dk_at dksX2_divide_3 3 rfl rfl)
theorem dX2_divide_74 : decode cX2_divide 74 = .ok (.lload 7, 2) := dk_22 7 (dk_at dksX2_divide_3 5 rfl rfl)
theorem dX2_divide_76 : decode cX2_divide 76 = .ok (.invokevirtual 68, 3) := dk_182 0 68 (dk_at dksX2_divide_3 7 rfl rfl)
theorem dX2_divide_79 : decode cX2_divide 79 = .ok (.iload 6, 2) := dk_21 6 (dk_at dksX2_divide_3 10 rfl rfl)
theorem dX2_divide_81 : decode cX2_divide 81 = .ok (.istore 9, 2) := dk_54 9 (dk_at dksX2_divide_3 12 rfl rfl)
theorem dX2_divide_83 : decode cX2_divide 83 = .ok (.iload 9, 2) := dk_21 9 (dk_at dksX2_divide_3 14 rfl rfl)
theorem dX2_divide_85 : decode cX2_divide 85 = .ok (.ifCond .lt 24, 3) := dk_155 0 24 (dk_at dksX2_divide_3 16 rfl rfl)
theorem dX2_divide_88 : decode cX2_divide 88 = .ok (.aload_n 1, 1) := dk_43 (dk_at dksX2_divide_3 19 rfl rfl)
theorem dX2_divide_89 : decode cX2_divide 89 = .ok (.getfield 38, 3) := dk_180 0 38 (dk_at dksX2_divide_3 20 rfl rfl)
theorem dX2_divide_92 : decode cX2_divide 92 = .ok (.iload 9, 2) := dk_21 9 (dk_at dksX2_divide_4 0 rfl rfl)
theorem dX2_divide_94 : decode cX2_divide 94 = .ok (.aload_n 0, 1) := dk_42 (dk_at dksX2_divide_4 2 rfl rfl)
theorem dX2_divide_95 : decode cX2_divide 95 = .ok (.iload 9, 2) := dk_21 9 (dk_at dksX2_divide_4 3 rfl rfl)
theorem dX2_divide_97 : decode cX2_divide 97 = .ok (.iload 5, 2) := dk_21 5 (dk_at dksX2_divide_4 5 rfl rfl)
theorem dX2_divide_99 : decode cX2_divide 99 = .ok (.invokevirtual 72, 3) := dk_182 0 72 (dk_at dksX2_divide_4 7 rfl rfl)
theorem dX2_divide_102 : decode cX2_divide 102 = .ok (.iastore, 1) := dk_79 (dk_at dksX2_divide_4 10 rfl rfl)
theorem dX2_divide_103 : decode cX2_divide 103 = .ok (.iinc 9 (-1), 3) := dk_132 9 255 (dk_at dksX2_divide_4 11 rfl rfl)
theorem dX2_divide_106 : decode cX2_divide 106 = .ok (.goto (-23), 3) := dk_167 255 233 (dk_at dksX2_divide_4 14 rfl rfl)
theorem dX2_divide_109 : decode cX2_divide 109 = .ok (.lconst 0, 1) := dk_9 (dk_at dksX2_divide_4 17 rfl rfl)
theorem dX2_divide_110 : decode cX2_divide 110 = .ok (.lstore 9, 2) := dk_55 9 (dk_at dksX2_divide_4 18 rfl rfl)
theorem dX2_divide_112 : decode cX2_divide 112 = .ok (.iload 5, 2) := dk_21 5 (dk_at dksX2_divide_4 20 rfl rfl)
theorem dX2_divide_114 : decode cX2_divide 114 = .ok (.iconst 1, 1) := dk_4 (dk_at dksX2_divide_4 22 rfl rfl)
theorem dX2_divide_115 : decode cX2_divide 115 = .ok (.isub, 1) := dk_100 (dk_at dksX2_divide_4 23 rfl rfl)
theorem dX2_divide_116 : decode cX2_divide 116 = .ok (.istore 11, 2) := dk_54 11 (dk_at dksX2_divide_5 0 rfl rfl)
theorem dX2_divide_118 : decode cX2_divide 118 = .ok (.iload 11, 2) := dk_21 11 (dk_at dksX2_divide_5 2 rfl rfl)
theorem dX2_divide_120 : decode cX2_divide 120 = .ok (.ifCond .lt 46, 3) := dk_155 0 46 (dk_at dksX2_divide_5 4 rfl rfl)
theorem dX2_divide_123 : decode cX2_divide 123 = .ok (.lload 9, 2) := dk_22 9 (dk_at dksX2_divide_5 7 rfl rfl)
theorem dX2_divide_125 : decode cX2_divide 125 = .ok (.ldc2_w 50, 3) := dk_20 0 50 (dk_at dksX2_divide_5 9 rfl rfl)
theorem dX2_divide_128 : decode cX2_divide 128 = .ok (.lmul, 1) := dk_105 (dk_at dksX2_divide_5 12 rfl rfl)
theorem dX2_divide_129 : decode cX2_divide 129 = .ok (.aload_n 0, 1) := dk_42 (dk_at dksX2_divide_5 13 rfl rfl)
theorem dX2_divide_130 : decode cX2_divide 130 = .ok (.getfield 9, 3) := dk_180 0 9 (dk_at dksX2_divide_5 14 rfl rfl)
theorem dX2_divide_133 : decode cX2_divide 133 = .ok (.iload 11, 2) := dk_21 11 (dk_at dksX2_divide_5 17 rfl rfl)
theorem dX2_divide_135 : decode cX2_divide 135 = .ok (.iaload, 1) := dk_46 (dk_at dksX2_divide_5 19 rfl rfl)
theorem dX2_divide_136 : decode cX2_divide 136 = .ok (.i2l, 1) := dk_133 (dk_at dksX2_divide_5 20 rfl rfl)
theorem dX2_divide_137 : decode cX2_divide 137 = .ok (.ladd, 1) := dk_97 (dk_at dksX2_divide_5 21 rfl rfl)
theorem dX2_divide_138 : decode cX2_divide 138 = .ok (.lstore 12, 2) := dk_55 12 (dk_at dksX2_divide_5 22 rfl rfl)
theorem dX2_divide_140 : decode cX2_divide 140 = .ok (.aload_n 2, 1) := dk_44 (dk_at dksX2_divide_6 0 rfl rfl)
theorem dX2_divide_141 : decode cX2_divide 141 = .ok (.getfield 38, 3) := dk_180 0 38 (dk_at dksX2_divide_6 1 rfl rfl)
theorem dX2_divide_144 : decode cX2_divide 144 = .ok (.iload 11, 2) := dk_21 11 (dk_at dksX2_divide_6 4 rfl rfl)
theorem dX2_divide_146 : decode cX2_divide 146 = .ok (.lload 12, 2) := dk_22 12 (dk_at dksX2_divide_6 6 rfl rfl)
theorem dX2_divide_148 : decode cX2_divide 148 = .ok (.lload 7, 2) := dk_22 7 (dk_at dksX2_divide_6 8 rfl rfl)
theorem dX2_divide_150 : decode cX2_divide 150 = .ok (.ldiv, 1) := dk_109 (dk_at dksX2_divide_6 10 rfl rfl)
theorem dX2_divide_151 : decode cX2_divide 151 = .ok (.l2i, 1) := dk_136 (dk_at dksX2_divide_6 11 rfl rfl)
theorem dX2_divide_152 : decode cX2_divide 152 = .ok (.iastore, 1) := dk_79 (dk_at dksX2_divide_6 12 rfl rfl)
theorem dX2_divide_153 : decode cX2_divide 153 = .ok (.lload 12, 2) := dk_22 12 (dk_at dksX2_divide_6 13 rfl rfl)
theorem dX2_divide_155 : decode cX2_divide 155 = .ok (.lload 7, 2) := dk_22 7 (dk_at dksX2_divide_6 15 rfl rfl)
theorem dX2_divide_157 : decode cX2_divide 157 = .ok (.lrem, 1) := dk_113 (dk_at dksX2_divide_6 17 rfl rfl)
theorem dX2_divide_158 : decode cX2_divide 158 = .ok (.lstore 9, 2) := dk_55 9 (dk_at dksX2_divide_6 18 rfl rfl)
theorem dX2_divide_160 : decode cX2_divide 160 = .ok (.iinc 11 (-1), 3) := dk_132 11 255 (dk_at dksX2_divide_6 20 rfl rfl)
theorem dX2_divide_163 : decode cX2_divide 163 = .ok (.goto (-45), 3) := dk_167 255 211 (dk_at dksX2_divide_7 0 rfl rfl)
theorem dX2_divide_166 : decode cX2_divide 166 = .ok (.aload_n 2, 1) := dk_44 (dk_at dksX2_divide_7 3 rfl rfl)
theorem dX2_divide_167 : decode cX2_divide 167 = .ok (.iload 5, 2) := dk_21 5 (dk_at dksX2_divide_7 4 rfl rfl)
theorem dX2_divide_169 : decode cX2_divide 169 = .ok (.putfield 34, 3) := dk_181 0 34 (dk_at dksX2_divide_7 6 rfl rfl)
theorem dX2_divide_172 : decode cX2_divide 172 = .ok (.aload_n 2, 1) := dk_44 (dk_at dksX2_divide_7 9 rfl rfl)
theorem dX2_divide_173 : decode cX2_divide 173 = .ok (.aload_n 3, 1) := dk_45 (dk_at dksX2_divide_7 10 rfl rfl)
theorem dX2_divide_174 : decode cX2_divide 174 = .ok (.getfield 41, 3) := dk_180 0 41 (dk_at dksX2_divide_7 11 rfl rfl)
theorem dX2_divide_177 : decode cX2_divide 177 = .ok (.putfield 41, 3) := dk_181 0 41 (dk_at dksX2_divide_7 14 rfl rfl)
theorem dX2_divide_180 : decode cX2_divide 180 = .ok (.aload_n 2, 1) := dk_44 (dk_at dksX2_divide_7 17 rfl rfl)
theorem dX2_divide_181 : decode cX2_divide 181 = .ok (.invokevirtual 57, 3) := dk_182 0 57 (dk_at dksX2_divide_7 18 rfl rfl)
theorem dX2_divide_184 : decode cX2_divide 184 = .ok (.aload_n 1, 1) := dk_43 (dk_at dksX2_divide_7 21 rfl rfl)
theorem dX2_divide_185 : decode cX2_divide 185 = .ok (.iload 6, 2) := dk_21 6 (dk_at dksX2_divide_7 22 rfl rfl)
theorem dX2_divide_187 : decode cX2_divide 187 = .ok (.iconst 1, 1) := dk_4 (dk_at dksX2_divide_8 0 rfl rfl)
theorem dX2_divide_188 : decode cX2_divide 188 = .ok (.iadd, 1) := dk_96 (dk_at dksX2_divide_8 1 rfl rfl)
theorem dX2_divide_189 : decode cX2_divide 189 = .ok (.putfield 34, 3) := dk_181 0 34 (dk_at dksX2_divide_8 2 rfl rfl)
theorem dX2_divide_192 : decode cX2_divide 192 = .ok (.aload_n 1, 1) := dk_43 (dk_at dksX2_divide_8 5 rfl rfl)
theorem dX2_divide_193 : decode cX2_divide 193 = .ok (.aload_n 3, 1) := dk_45 (dk_at dksX2_divide_8 6 rfl rfl)
theorem dX2_divide_194 : decode cX2_divide 194 = .ok (.getfield 41, 3) := dk_180 0 41 (dk_at dksX2_divide_8 7 rfl rfl)
theorem dX2_divide_197 : decode cX2_divide 197 = .ok (.aload 4, 2) := dk_25 4 (dk_at dksX2_divide_8 10 rfl rfl)
theorem dX2_divide_199 : decode cX2_divide 199 = .ok (.getfield 41, 3) := dk_180 0 41 (dk_at dksX2_divide_8 12 rfl rfl)
theorem dX2_divide_202 : decode cX2_divide 202 = .ok (.imul, 1) := dk_104 (dk_at dksX2_divide_8 15 rfl rfl)
theorem dX2_divide_203 : decode cX2_divide 203 = .ok (.putfield 41, 3) := dk_181 0 41 (dk_at dksX2_divide_8 16 rfl rfl)
theorem dX2_divide_206 : decode cX2_divide 206 = .ok (.aload_n 1, 1) := dk_43 (dk_at dksX2_divide_8 19 rfl rfl)
theorem dX2_divide_207 : decode cX2_divide 207 = .ok (.invokevirtual 57, 3) := dk_182 0 57 (dk_at dksX2_divide_8 20 rfl rfl)
theorem dX2_divide_210 : decode cX2_divide 210 = .ok (.return_, 1) := dk_177 (dk_at dksX2_divide_8 23 rfl rfl)
abbrev cX2_against : ByteArray := prog_12_method_2_code
def yX2_against : MethodName := ⟨RX2, "against", "(LIdealCourt$Whole;LIdealCourt$Whole;)I"⟩
def dkwX2_against_3 : List UInt8 := [180, 0, 38, 29, 46, 100, 172]
abbrev dktX2_against_3 : List UInt8 := dkwX2_against_3 ++ []
def dkwX2_against_2 : List UInt8 := [160, 0, 9, 132, 3, 255, 167, 255, 234, 29, 156, 0, 7, 3, 167, 0, 16, 43, 180, 0, 38, 29, 46, 44]
abbrev dktX2_against_2 : List UInt8 := dkwX2_against_2 ++ dktX2_against_3
def dkwX2_against_1 : List UInt8 := [180, 0, 34, 4, 100, 62, 29, 155, 0, 24, 43, 180, 0, 38, 29, 46, 44, 180, 0, 38, 29, 46]
abbrev dktX2_against_1 : List UInt8 := dkwX2_against_1 ++ dktX2_against_2
def dkwX2_against_0 : List UInt8 := [43, 180, 0, 34, 44, 180, 0, 34, 159, 0, 13, 43, 180, 0, 34, 44, 180, 0, 34, 100, 172, 43]
abbrev dktX2_against_0 : List UInt8 := dkwX2_against_0 ++ dktX2_against_1
theorem dksX2_against_0 : cX2_against.data.toList.drop 0 = dktX2_against_0 := by decide +kernel
theorem dksX2_against_1 : cX2_against.data.toList.drop 22 = dktX2_against_1 := dk_seg dksX2_against_0 22 rfl rfl
theorem dksX2_against_2 : cX2_against.data.toList.drop 44 = dktX2_against_2 := dk_seg dksX2_against_1 22 rfl rfl
theorem dksX2_against_3 : cX2_against.data.toList.drop 68 = dktX2_against_3 := dk_seg dksX2_against_2 24 rfl rfl
theorem dX2_against_0 : decode cX2_against 0 = .ok (.aload_n 1, 1) := dk_43 (dk_at dksX2_against_0 0 rfl rfl)
theorem dX2_against_1 : decode cX2_against 1 = .ok (.getfield 34, 3) := dk_180 0 34 (dk_at dksX2_against_0 1 rfl rfl)
theorem dX2_against_4 : decode cX2_against 4 = .ok (.aload_n 2, 1) := dk_44 (dk_at dksX2_against_0 4 rfl rfl)
theorem dX2_against_5 : decode cX2_against 5 = .ok (.getfield 34, 3) := dk_180 0 34 (dk_at dksX2_against_0 5 rfl rfl)
theorem dX2_against_8 : decode cX2_against 8 = .ok (.if_icmp .eq 13, 3) := dk_159 0 13 (dk_at dksX2_against_0 8 rfl rfl)
theorem dX2_against_11 : decode cX2_against 11 = .ok (.aload_n 1, 1) := dk_43 (dk_at dksX2_against_0 11 rfl rfl)
theorem dX2_against_12 : decode cX2_against 12 = .ok (.getfield 34, 3) := dk_180 0 34 (dk_at dksX2_against_0 12 rfl rfl)
theorem dX2_against_15 : decode cX2_against 15 = .ok (.aload_n 2, 1) := dk_44 (dk_at dksX2_against_0 15 rfl rfl)
theorem dX2_against_16 : decode cX2_against 16 = .ok (.getfield 34, 3) := dk_180 0 34 (dk_at dksX2_against_0 16 rfl rfl)
theorem dX2_against_19 : decode cX2_against 19 = .ok (.isub, 1) := dk_100 (dk_at dksX2_against_0 19 rfl rfl)
theorem dX2_against_20 : decode cX2_against 20 = .ok (.ireturn, 1) := dk_172 (dk_at dksX2_against_0 20 rfl rfl)
theorem dX2_against_21 : decode cX2_against 21 = .ok (.aload_n 1, 1) := dk_43 (dk_at dksX2_against_0 21 rfl rfl)
theorem dX2_against_22 : decode cX2_against 22 = .ok (.getfield 34, 3) := dk_180 0 34 (dk_at dksX2_against_1 0 rfl rfl)
theorem dX2_against_25 : decode cX2_against 25 = .ok (.iconst 1, 1) := dk_4 (dk_at dksX2_against_1 3 rfl rfl)
theorem dX2_against_26 : decode cX2_against 26 = .ok (.isub, 1) := dk_100 (dk_at dksX2_against_1 4 rfl rfl)
theorem dX2_against_27 : decode cX2_against 27 = .ok (.istore_n 3, 1) := dk_62 (dk_at dksX2_against_1 5 rfl rfl)
theorem dX2_against_28 : decode cX2_against 28 = .ok (.iload_n 3, 1) := dk_29 (dk_at dksX2_against_1 6 rfl rfl)
theorem dX2_against_29 : decode cX2_against 29 = .ok (.ifCond .lt 24, 3) := dk_155 0 24 (dk_at dksX2_against_1 7 rfl rfl)
theorem dX2_against_32 : decode cX2_against 32 = .ok (.aload_n 1, 1) := dk_43 (dk_at dksX2_against_1 10 rfl rfl)
theorem dX2_against_33 : decode cX2_against 33 = .ok (.getfield 38, 3) := dk_180 0 38 (dk_at dksX2_against_1 11 rfl rfl)
theorem dX2_against_36 : decode cX2_against 36 = .ok (.iload_n 3, 1) := dk_29 (dk_at dksX2_against_1 14 rfl rfl)
theorem dX2_against_37 : decode cX2_against 37 = .ok (.iaload, 1) := dk_46 (dk_at dksX2_against_1 15 rfl rfl)
theorem dX2_against_38 : decode cX2_against 38 = .ok (.aload_n 2, 1) := dk_44 (dk_at dksX2_against_1 16 rfl rfl)
theorem dX2_against_39 : decode cX2_against 39 = .ok (.getfield 38, 3) := dk_180 0 38 (dk_at dksX2_against_1 17 rfl rfl)
theorem dX2_against_42 : decode cX2_against 42 = .ok (.iload_n 3, 1) := dk_29 (dk_at dksX2_against_1 20 rfl rfl)
theorem dX2_against_43 : decode cX2_against 43 = .ok (.iaload, 1) := dk_46 (dk_at dksX2_against_1 21 rfl rfl)
theorem dX2_against_44 : decode cX2_against 44 = .ok (.if_icmp .ne 9, 3) := dk_160 0 9 (dk_at dksX2_against_2 0 rfl rfl)
theorem dX2_against_47 : decode cX2_against 47 = .ok (.iinc 3 (-1), 3) := dk_132 3 255 (dk_at dksX2_against_2 3 rfl rfl)
theorem dX2_against_50 : decode cX2_against 50 = .ok (.goto (-22), 3) := dk_167 255 234 (dk_at dksX2_against_2 6 rfl rfl)
theorem dX2_against_53 : decode cX2_against 53 = .ok (.iload_n 3, 1) := dk_29 (dk_at dksX2_against_2 9 rfl rfl)
theorem dX2_against_54 : decode cX2_against 54 = .ok (.ifCond .ge 7, 3) := dk_156 0 7 (dk_at dksX2_against_2 10 rfl rfl)
theorem dX2_against_57 : decode cX2_against 57 = .ok (.iconst 0, 1) := dk_3 (dk_at dksX2_against_2 13 rfl rfl)
theorem dX2_against_58 : decode cX2_against 58 = .ok (.goto 16, 3) := dk_167 0 16 (dk_at dksX2_against_2 14 rfl rfl)
theorem dX2_against_61 : decode cX2_against 61 = .ok (.aload_n 1, 1) := dk_43 (dk_at dksX2_against_2 17 rfl rfl)
theorem dX2_against_62 : decode cX2_against 62 = .ok (.getfield 38, 3) := dk_180 0 38 (dk_at dksX2_against_2 18 rfl rfl)
theorem dX2_against_65 : decode cX2_against 65 = .ok (.iload_n 3, 1) := dk_29 (dk_at dksX2_against_2 21 rfl rfl)
theorem dX2_against_66 : decode cX2_against 66 = .ok (.iaload, 1) := dk_46 (dk_at dksX2_against_2 22 rfl rfl)
theorem dX2_against_67 : decode cX2_against 67 = .ok (.aload_n 2, 1) := dk_44 (dk_at dksX2_against_2 23 rfl rfl)
theorem dX2_against_68 : decode cX2_against 68 = .ok (.getfield 38, 3) := dk_180 0 38 (dk_at dksX2_against_3 0 rfl rfl)
theorem dX2_against_71 : decode cX2_against 71 = .ok (.iload_n 3, 1) := dk_29 (dk_at dksX2_against_3 3 rfl rfl)
theorem dX2_against_72 : decode cX2_against 72 = .ok (.iaload, 1) := dk_46 (dk_at dksX2_against_3 4 rfl rfl)
theorem dX2_against_73 : decode cX2_against 73 = .ok (.isub, 1) := dk_100 (dk_at dksX2_against_3 5 rfl rfl)
theorem dX2_against_74 : decode cX2_against 74 = .ok (.ireturn, 1) := dk_172 (dk_at dksX2_against_3 6 rfl rfl)
abbrev cX2_scale : ByteArray := prog_12_method_6_code
def yX2_scale : MethodName := ⟨RX2, "scale", "([ILIdealCourt$Whole;J)V"⟩
def dkwX2_scale_2 : List UInt8 := [105, 101, 136, 79, 132, 7, 1, 167, 255, 207, 43, 44, 180, 0, 34, 22, 5, 136, 79, 177]
abbrev dktX2_scale_2 : List UInt8 := dkwX2_scale_2 ++ []
def dkwX2_scale_1 : List UInt8 := [105, 22, 5, 97, 55, 8, 22, 8, 20, 0, 50, 109, 55, 5, 43, 21, 7, 22, 8, 22, 5, 20, 0, 50]
abbrev dktX2_scale_1 : List UInt8 := dkwX2_scale_1 ++ dktX2_scale_2
def dkwX2_scale_0 : List UInt8 := [9, 55, 5, 3, 54, 7, 21, 7, 44, 180, 0, 34, 162, 0, 46, 44, 180, 0, 38, 21, 7, 46, 133, 33]
abbrev dktX2_scale_0 : List UInt8 := dkwX2_scale_0 ++ dktX2_scale_1
theorem dksX2_scale_0 : cX2_scale.data.toList.drop 0 = dktX2_scale_0 := by decide +kernel
theorem dksX2_scale_1 : cX2_scale.data.toList.drop 24 = dktX2_scale_1 := dk_seg dksX2_scale_0 24 rfl rfl
theorem dksX2_scale_2 : cX2_scale.data.toList.drop 48 = dktX2_scale_2 := dk_seg dksX2_scale_1 24 rfl rfl
theorem dX2_scale_0 : decode cX2_scale 0 = .ok (.lconst 0, 1) := dk_9 (dk_at dksX2_scale_0 0 rfl rfl)
theorem dX2_scale_1 : decode cX2_scale 1 = .ok (.lstore 5, 2) := dk_55 5 (dk_at dksX2_scale_0 1 rfl rfl)
theorem dX2_scale_3 : decode cX2_scale 3 = .ok (.iconst 0, 1) := dk_3 (dk_at dksX2_scale_0 3 rfl rfl)
theorem dX2_scale_4 : decode cX2_scale 4 = .ok (.istore 7, 2) := dk_54 7 (dk_at dksX2_scale_0 4 rfl rfl)
theorem dX2_scale_6 : decode cX2_scale 6 = .ok (.iload 7, 2) := dk_21 7 (dk_at dksX2_scale_0 6 rfl rfl)
theorem dX2_scale_8 : decode cX2_scale 8 = .ok (.aload_n 2, 1) := dk_44 (dk_at dksX2_scale_0 8 rfl rfl)
theorem dX2_scale_9 : decode cX2_scale 9 = .ok (.getfield 34, 3) := dk_180 0 34 (dk_at dksX2_scale_0 9 rfl rfl)
theorem dX2_scale_12 : decode cX2_scale 12 = .ok (.if_icmp .ge 46, 3) := dk_162 0 46 (dk_at dksX2_scale_0 12 rfl rfl)
theorem dX2_scale_15 : decode cX2_scale 15 = .ok (.aload_n 2, 1) := dk_44 (dk_at dksX2_scale_0 15 rfl rfl)
theorem dX2_scale_16 : decode cX2_scale 16 = .ok (.getfield 38, 3) := dk_180 0 38 (dk_at dksX2_scale_0 16 rfl rfl)
theorem dX2_scale_19 : decode cX2_scale 19 = .ok (.iload 7, 2) := dk_21 7 (dk_at dksX2_scale_0 19 rfl rfl)
theorem dX2_scale_21 : decode cX2_scale 21 = .ok (.iaload, 1) := dk_46 (dk_at dksX2_scale_0 21 rfl rfl)
theorem dX2_scale_22 : decode cX2_scale 22 = .ok (.i2l, 1) := dk_133 (dk_at dksX2_scale_0 22 rfl rfl)
theorem dX2_scale_23 : decode cX2_scale 23 = .ok (.lload_n 3, 1) := dk_33 (dk_at dksX2_scale_0 23 rfl rfl)
theorem dX2_scale_24 : decode cX2_scale 24 = .ok (.lmul, 1) := dk_105 (dk_at dksX2_scale_1 0 rfl rfl)
theorem dX2_scale_25 : decode cX2_scale 25 = .ok (.lload 5, 2) := dk_22 5 (dk_at dksX2_scale_1 1 rfl rfl)
theorem dX2_scale_27 : decode cX2_scale 27 = .ok (.ladd, 1) := dk_97 (dk_at dksX2_scale_1 3 rfl rfl)
theorem dX2_scale_28 : decode cX2_scale 28 = .ok (.lstore 8, 2) := dk_55 8 (dk_at dksX2_scale_1 4 rfl rfl)
theorem dX2_scale_30 : decode cX2_scale 30 = .ok (.lload 8, 2) := dk_22 8 (dk_at dksX2_scale_1 6 rfl rfl)
theorem dX2_scale_32 : decode cX2_scale 32 = .ok (.ldc2_w 50, 3) := dk_20 0 50 (dk_at dksX2_scale_1 8 rfl rfl)
theorem dX2_scale_35 : decode cX2_scale 35 = .ok (.ldiv, 1) := dk_109 (dk_at dksX2_scale_1 11 rfl rfl)
theorem dX2_scale_36 : decode cX2_scale 36 = .ok (.lstore 5, 2) := dk_55 5 (dk_at dksX2_scale_1 12 rfl rfl)
theorem dX2_scale_38 : decode cX2_scale 38 = .ok (.aload_n 1, 1) := dk_43 (dk_at dksX2_scale_1 14 rfl rfl)
theorem dX2_scale_39 : decode cX2_scale 39 = .ok (.iload 7, 2) := dk_21 7 (dk_at dksX2_scale_1 15 rfl rfl)
theorem dX2_scale_41 : decode cX2_scale 41 = .ok (.lload 8, 2) := dk_22 8 (dk_at dksX2_scale_1 17 rfl rfl)
theorem dX2_scale_43 : decode cX2_scale 43 = .ok (.lload 5, 2) := dk_22 5 (dk_at dksX2_scale_1 19 rfl rfl)
theorem dX2_scale_45 : decode cX2_scale 45 = .ok (.ldc2_w 50, 3) := dk_20 0 50 (dk_at dksX2_scale_1 21 rfl rfl)
theorem dX2_scale_48 : decode cX2_scale 48 = .ok (.lmul, 1) := dk_105 (dk_at dksX2_scale_2 0 rfl rfl)
theorem dX2_scale_49 : decode cX2_scale 49 = .ok (.lsub, 1) := dk_101 (dk_at dksX2_scale_2 1 rfl rfl)
theorem dX2_scale_50 : decode cX2_scale 50 = .ok (.l2i, 1) := dk_136 (dk_at dksX2_scale_2 2 rfl rfl)
theorem dX2_scale_51 : decode cX2_scale 51 = .ok (.iastore, 1) := dk_79 (dk_at dksX2_scale_2 3 rfl rfl)
theorem dX2_scale_52 : decode cX2_scale 52 = .ok (.iinc 7 1, 3) := dk_132 7 1 (dk_at dksX2_scale_2 4 rfl rfl)
theorem dX2_scale_55 : decode cX2_scale 55 = .ok (.goto (-49), 3) := dk_167 255 207 (dk_at dksX2_scale_2 7 rfl rfl)
theorem dX2_scale_58 : decode cX2_scale 58 = .ok (.aload_n 1, 1) := dk_43 (dk_at dksX2_scale_2 10 rfl rfl)
theorem dX2_scale_59 : decode cX2_scale 59 = .ok (.aload_n 2, 1) := dk_44 (dk_at dksX2_scale_2 11 rfl rfl)
theorem dX2_scale_60 : decode cX2_scale 60 = .ok (.getfield 34, 3) := dk_180 0 34 (dk_at dksX2_scale_2 12 rfl rfl)
theorem dX2_scale_63 : decode cX2_scale 63 = .ok (.lload 5, 2) := dk_22 5 (dk_at dksX2_scale_2 15 rfl rfl)
theorem dX2_scale_65 : decode cX2_scale 65 = .ok (.l2i, 1) := dk_136 (dk_at dksX2_scale_2 17 rfl rfl)
theorem dX2_scale_66 : decode cX2_scale 66 = .ok (.iastore, 1) := dk_79 (dk_at dksX2_scale_2 18 rfl rfl)
theorem dX2_scale_67 : decode cX2_scale 67 = .ok (.return_, 1) := dk_177 (dk_at dksX2_scale_2 19 rfl rfl)
abbrev cX2_digit : ByteArray := prog_12_method_7_code
def yX2_digit : MethodName := ⟨RX2, "digit", "(II)I"⟩
def dkwX2_digit_15 : List UInt8 := [21, 13, 104, 100, 79, 132, 14, 1, 167, 255, 194, 22, 5, 136, 4, 100, 172]
abbrev dktX2_digit_15 : List UInt8 := dkwX2_digit_15 ++ []
def dkwX2_digit_14 : List UInt8 := [18, 56, 161, 0, 7, 4, 167, 0, 4, 3, 54, 13, 42, 180, 0, 9, 27, 21, 14, 96, 21, 15, 18, 56]
abbrev dktX2_digit_14 : List UInt8 := dkwX2_digit_14 ++ dktX2_digit_15
def dkwX2_digit_13 : List UInt8 := [180, 0, 9, 27, 21, 14, 96, 46, 42, 180, 0, 13, 21, 14, 46, 96, 21, 13, 96, 54, 15, 21, 15]
abbrev dktX2_digit_13 : List UInt8 := dkwX2_digit_13 ++ dktX2_digit_14
def dkwX2_digit_12 : List UInt8 := [9, 148, 155, 0, 7, 22, 5, 136, 172, 3, 54, 13, 3, 54, 14, 21, 14, 28, 162, 0, 62, 42]
abbrev dktX2_digit_12 : List UInt8 := dkwX2_digit_12 ++ dktX2_digit_13
def dkwX2_digit_11 : List UInt8 := [180, 0, 9, 27, 28, 96, 46, 133, 22, 9, 101, 55, 11, 42, 180, 0, 9, 27, 28, 96, 3, 79, 22, 11]
abbrev dktX2_digit_11 : List UInt8 := dkwX2_digit_11 ++ dktX2_digit_12
def dkwX2_digit_10 : List UInt8 := [97, 55, 9, 42, 180, 0, 9, 27, 21, 11, 96, 22, 12, 136, 79, 132, 11, 1, 167, 255, 145, 42]
abbrev dktX2_digit_10 : List UInt8 := dkwX2_digit_10 ++ dktX2_digit_11
def dkwX2_digit_9 : List UInt8 := [22, 9, 10, 97, 55, 9, 22, 12, 9, 148, 156, 0, 17, 22, 12, 20, 0, 50, 97, 55, 12, 22, 9, 10]
abbrev dktX2_digit_9 : List UInt8 := dkwX2_digit_9 ++ dktX2_digit_10
def dkwX2_digit_8 : List UInt8 := [133, 105, 20, 0, 50, 109, 55, 9, 22, 12, 9, 148, 156, 0, 17, 22, 12, 20, 0, 50, 97, 55, 12]
abbrev dktX2_digit_8 : List UInt8 := dkwX2_digit_8 ++ dktX2_digit_9
def dkwX2_digit_7 : List UInt8 := [180, 0, 13, 21, 11, 46, 133, 105, 20, 0, 50, 113, 101, 55, 12, 22, 5, 42, 180, 0, 13, 21, 11, 46]
abbrev dktX2_digit_7 : List UInt8 := dkwX2_digit_7 ++ dktX2_digit_8
def dkwX2_digit_6 : List UInt8 := [54, 11, 21, 11, 28, 162, 0, 111, 42, 180, 0, 9, 27, 21, 11, 96, 46, 133, 22, 9, 101, 22, 5, 42]
abbrev dktX2_digit_6 : List UInt8 := dkwX2_digit_6 ++ dktX2_digit_7
def dkwX2_digit_5 : List UInt8 := [55, 5, 22, 7, 42, 180, 0, 13, 28, 4, 100, 46, 133, 97, 55, 7, 167, 255, 179, 9, 55, 9, 3]
abbrev dktX2_digit_5 : List UInt8 := dkwX2_digit_5 ++ dktX2_digit_6
def dkwX2_digit_4 : List UInt8 := [20, 0, 50, 105, 42, 180, 0, 9, 27, 28, 96, 5, 100, 46, 133, 97, 148, 158, 0, 26, 22, 5, 10, 101]
abbrev dktX2_digit_4 : List UInt8 := dkwX2_digit_4 ++ dktX2_digit_5
def dkwX2_digit_3 : List UInt8 := [156, 0, 42, 28, 4, 164, 0, 60, 22, 5, 42, 180, 0, 13, 28, 5, 100, 46, 133, 105, 22, 7]
abbrev dktX2_digit_3 : List UInt8 := dkwX2_digit_3 ++ dktX2_digit_4
def dkwX2_digit_2 : List UInt8 := [100, 46, 133, 105, 101, 55, 7, 22, 7, 20, 0, 50, 148, 156, 0, 74, 22, 5, 20, 0, 50, 148]
abbrev dktX2_digit_2 : List UInt8 := dkwX2_digit_2 ++ dktX2_digit_3
def dkwX2_digit_1 : List UInt8 := [97, 66, 33, 42, 180, 0, 13, 28, 4, 100, 46, 133, 109, 55, 5, 33, 22, 5, 42, 180, 0, 13, 28, 4]
abbrev dktX2_digit_1 : List UInt8 := dkwX2_digit_1 ++ dktX2_digit_2
def dkwX2_digit_0 : List UInt8 := [42, 180, 0, 9, 27, 28, 96, 46, 133, 20, 0, 50, 105, 42, 180, 0, 9, 27, 28, 96, 4, 100, 46, 133]
abbrev dktX2_digit_0 : List UInt8 := dkwX2_digit_0 ++ dktX2_digit_1
theorem dksX2_digit_0 : cX2_digit.data.toList.drop 0 = dktX2_digit_0 := by decide +kernel
theorem dksX2_digit_1 : cX2_digit.data.toList.drop 24 = dktX2_digit_1 := dk_seg dksX2_digit_0 24 rfl rfl
theorem dksX2_digit_2 : cX2_digit.data.toList.drop 48 = dktX2_digit_2 := dk_seg dksX2_digit_1 24 rfl rfl
theorem dksX2_digit_3 : cX2_digit.data.toList.drop 70 = dktX2_digit_3 := dk_seg dksX2_digit_2 22 rfl rfl
theorem dksX2_digit_4 : cX2_digit.data.toList.drop 92 = dktX2_digit_4 := dk_seg dksX2_digit_3 22 rfl rfl
theorem dksX2_digit_5 : cX2_digit.data.toList.drop 116 = dktX2_digit_5 := dk_seg dksX2_digit_4 24 rfl rfl
theorem dksX2_digit_6 : cX2_digit.data.toList.drop 139 = dktX2_digit_6 := dk_seg dksX2_digit_5 23 rfl rfl
theorem dksX2_digit_7 : cX2_digit.data.toList.drop 163 = dktX2_digit_7 := dk_seg dksX2_digit_6 24 rfl rfl
theorem dksX2_digit_8 : cX2_digit.data.toList.drop 187 = dktX2_digit_8 := dk_seg dksX2_digit_7 24 rfl rfl
theorem dksX2_digit_9 : cX2_digit.data.toList.drop 210 = dktX2_digit_9 := dk_seg dksX2_digit_8 23 rfl rfl
theorem dksX2_digit_10 : cX2_digit.data.toList.drop 234 = dktX2_digit_10 := dk_seg dksX2_digit_9 24 rfl rfl
theorem dksX2_digit_11 : cX2_digit.data.toList.drop 256 = dktX2_digit_11 := dk_seg dksX2_digit_10 22 rfl rfl
theorem dksX2_digit_12 : cX2_digit.data.toList.drop 280 = dktX2_digit_12 := dk_seg dksX2_digit_11 24 rfl rfl
theorem dksX2_digit_13 : cX2_digit.data.toList.drop 302 = dktX2_digit_13 := dk_seg dksX2_digit_12 22 rfl rfl
theorem dksX2_digit_14 : cX2_digit.data.toList.drop 325 = dktX2_digit_14 := dk_seg dksX2_digit_13 23 rfl rfl
theorem dksX2_digit_15 : cX2_digit.data.toList.drop 349 = dktX2_digit_15 := dk_seg dksX2_digit_14 24 rfl rfl
theorem dX2_digit_0 : decode cX2_digit 0 = .ok (.aload_n 0, 1) := dk_42 (dk_at dksX2_digit_0 0 rfl rfl)
theorem dX2_digit_1 : decode cX2_digit 1 = .ok (.getfield 9, 3) := dk_180 0 9 (dk_at dksX2_digit_0 1 rfl rfl)
theorem dX2_digit_4 : decode cX2_digit 4 = .ok (.iload_n 1, 1) := dk_27 (dk_at dksX2_digit_0 4 rfl rfl)
theorem dX2_digit_5 : decode cX2_digit 5 = .ok (.iload_n 2, 1) := dk_28 (dk_at dksX2_digit_0 5 rfl rfl)
theorem dX2_digit_6 : decode cX2_digit 6 = .ok (.iadd, 1) := dk_96 (dk_at dksX2_digit_0 6 rfl rfl)
theorem dX2_digit_7 : decode cX2_digit 7 = .ok (.iaload, 1) := dk_46 (dk_at dksX2_digit_0 7 rfl rfl)
theorem dX2_digit_8 : decode cX2_digit 8 = .ok (.i2l, 1) := dk_133 (dk_at dksX2_digit_0 8 rfl rfl)
theorem dX2_digit_9 : decode cX2_digit 9 = .ok (.ldc2_w 50, 3) := dk_20 0 50 (dk_at dksX2_digit_0 9 rfl rfl)
theorem dX2_digit_12 : decode cX2_digit 12 = .ok (.lmul, 1) := dk_105 (dk_at dksX2_digit_0 12 rfl rfl)
theorem dX2_digit_13 : decode cX2_digit 13 = .ok (.aload_n 0, 1) := dk_42 (dk_at dksX2_digit_0 13 rfl rfl)
theorem dX2_digit_14 : decode cX2_digit 14 = .ok (.getfield 9, 3) := dk_180 0 9 (dk_at dksX2_digit_0 14 rfl rfl)
theorem dX2_digit_17 : decode cX2_digit 17 = .ok (.iload_n 1, 1) := dk_27 (dk_at dksX2_digit_0 17 rfl rfl)
theorem dX2_digit_18 : decode cX2_digit 18 = .ok (.iload_n 2, 1) := dk_28 (dk_at dksX2_digit_0 18 rfl rfl)
theorem dX2_digit_19 : decode cX2_digit 19 = .ok (.iadd, 1) := dk_96 (dk_at dksX2_digit_0 19 rfl rfl)
theorem dX2_digit_20 : decode cX2_digit 20 = .ok (.iconst 1, 1) := dk_4 (dk_at dksX2_digit_0 20 rfl rfl)
theorem dX2_digit_21 : decode cX2_digit 21 = .ok (.isub, 1) := dk_100 (dk_at dksX2_digit_0 21 rfl rfl)
theorem dX2_digit_22 : decode cX2_digit 22 = .ok (.iaload, 1) := dk_46 (dk_at dksX2_digit_0 22 rfl rfl)
theorem dX2_digit_23 : decode cX2_digit 23 = .ok (.i2l, 1) := dk_133 (dk_at dksX2_digit_0 23 rfl rfl)
theorem dX2_digit_24 : decode cX2_digit 24 = .ok (.ladd, 1) := dk_97 (dk_at dksX2_digit_1 0 rfl rfl)
theorem dX2_digit_25 : decode cX2_digit 25 = .ok (.lstore_n 3, 1) := dk_66 (dk_at dksX2_digit_1 1 rfl rfl)
theorem dX2_digit_26 : decode cX2_digit 26 = .ok (.lload_n 3, 1) := dk_33 (dk_at dksX2_digit_1 2 rfl rfl)
theorem dX2_digit_27 : decode cX2_digit 27 = .ok (.aload_n 0, 1) := dk_42 (dk_at dksX2_digit_1 3 rfl rfl)
theorem dX2_digit_28 : decode cX2_digit 28 = .ok (.getfield 13, 3) := dk_180 0 13 (dk_at dksX2_digit_1 4 rfl rfl)
theorem dX2_digit_31 : decode cX2_digit 31 = .ok (.iload_n 2, 1) := dk_28 (dk_at dksX2_digit_1 7 rfl rfl)
theorem dX2_digit_32 : decode cX2_digit 32 = .ok (.iconst 1, 1) := dk_4 (dk_at dksX2_digit_1 8 rfl rfl)
theorem dX2_digit_33 : decode cX2_digit 33 = .ok (.isub, 1) := dk_100 (dk_at dksX2_digit_1 9 rfl rfl)
theorem dX2_digit_34 : decode cX2_digit 34 = .ok (.iaload, 1) := dk_46 (dk_at dksX2_digit_1 10 rfl rfl)
theorem dX2_digit_35 : decode cX2_digit 35 = .ok (.i2l, 1) := dk_133 (dk_at dksX2_digit_1 11 rfl rfl)
theorem dX2_digit_36 : decode cX2_digit 36 = .ok (.ldiv, 1) := dk_109 (dk_at dksX2_digit_1 12 rfl rfl)
theorem dX2_digit_37 : decode cX2_digit 37 = .ok (.lstore 5, 2) := dk_55 5 (dk_at dksX2_digit_1 13 rfl rfl)
theorem dX2_digit_39 : decode cX2_digit 39 = .ok (.lload_n 3, 1) := dk_33 (dk_at dksX2_digit_1 15 rfl rfl)
theorem dX2_digit_40 : decode cX2_digit 40 = .ok (.lload 5, 2) := dk_22 5 (dk_at dksX2_digit_1 16 rfl rfl)
theorem dX2_digit_42 : decode cX2_digit 42 = .ok (.aload_n 0, 1) := dk_42 (dk_at dksX2_digit_1 18 rfl rfl)
theorem dX2_digit_43 : decode cX2_digit 43 = .ok (.getfield 13, 3) := dk_180 0 13 (dk_at dksX2_digit_1 19 rfl rfl)
theorem dX2_digit_46 : decode cX2_digit 46 = .ok (.iload_n 2, 1) := dk_28 (dk_at dksX2_digit_1 22 rfl rfl)
theorem dX2_digit_47 : decode cX2_digit 47 = .ok (.iconst 1, 1) := dk_4 (dk_at dksX2_digit_1 23 rfl rfl)
theorem dX2_digit_48 : decode cX2_digit 48 = .ok (.isub, 1) := dk_100 (dk_at dksX2_digit_2 0 rfl rfl)
theorem dX2_digit_49 : decode cX2_digit 49 = .ok (.iaload, 1) := dk_46 (dk_at dksX2_digit_2 1 rfl rfl)
theorem dX2_digit_50 : decode cX2_digit 50 = .ok (.i2l, 1) := dk_133 (dk_at dksX2_digit_2 2 rfl rfl)
theorem dX2_digit_51 : decode cX2_digit 51 = .ok (.lmul, 1) := dk_105 (dk_at dksX2_digit_2 3 rfl rfl)
theorem dX2_digit_52 : decode cX2_digit 52 = .ok (.lsub, 1) := dk_101 (dk_at dksX2_digit_2 4 rfl rfl)
theorem dX2_digit_53 : decode cX2_digit 53 = .ok (.lstore 7, 2) := dk_55 7 (dk_at dksX2_digit_2 5 rfl rfl)
theorem dX2_digit_55 : decode cX2_digit 55 = .ok (.lload 7, 2) := dk_22 7 (dk_at dksX2_digit_2 7 rfl rfl)
theorem dX2_digit_57 : decode cX2_digit 57 = .ok (.ldc2_w 50, 3) := dk_20 0 50 (dk_at dksX2_digit_2 9 rfl rfl)
theorem dX2_digit_60 : decode cX2_digit 60 = .ok (.lcmp, 1) := dk_148 (dk_at dksX2_digit_2 12 rfl rfl)
theorem dX2_digit_61 : decode cX2_digit 61 = .ok (.ifCond .ge 74, 3) := dk_156 0 74 (dk_at dksX2_digit_2 13 rfl rfl)
theorem dX2_digit_64 : decode cX2_digit 64 = .ok (.lload 5, 2) := dk_22 5 (dk_at dksX2_digit_2 16 rfl rfl)
theorem dX2_digit_66 : decode cX2_digit 66 = .ok (.ldc2_w 50, 3) := dk_20 0 50 (dk_at dksX2_digit_2 18 rfl rfl)
theorem dX2_digit_69 : decode cX2_digit 69 = .ok (.lcmp, 1) := dk_148 (dk_at dksX2_digit_2 21 rfl rfl)
theorem dX2_digit_70 : decode cX2_digit 70 = .ok (.ifCond .ge 42, 3) := dk_156 0 42 (dk_at dksX2_digit_3 0 rfl rfl)
theorem dX2_digit_73 : decode cX2_digit 73 = .ok (.iload_n 2, 1) := dk_28 (dk_at dksX2_digit_3 3 rfl rfl)
theorem dX2_digit_74 : decode cX2_digit 74 = .ok (.iconst 1, 1) := dk_4 (dk_at dksX2_digit_3 4 rfl rfl)
theorem dX2_digit_75 : decode cX2_digit 75 = .ok (.if_icmp .le 60, 3) := dk_164 0 60 (dk_at dksX2_digit_3 5 rfl rfl)
theorem dX2_digit_78 : decode cX2_digit 78 = .ok (.lload 5, 2) := dk_22 5 (dk_at dksX2_digit_3 8 rfl rfl)
theorem dX2_digit_80 : decode cX2_digit 80 = .ok (.aload_n 0, 1) := dk_42 (dk_at dksX2_digit_3 10 rfl rfl)
theorem dX2_digit_81 : decode cX2_digit 81 = .ok (.getfield 13, 3) := dk_180 0 13 (dk_at dksX2_digit_3 11 rfl rfl)
theorem dX2_digit_84 : decode cX2_digit 84 = .ok (.iload_n 2, 1) := dk_28 (dk_at dksX2_digit_3 14 rfl rfl)
theorem dX2_digit_85 : decode cX2_digit 85 = .ok (.iconst 2, 1) := dk_5 (dk_at dksX2_digit_3 15 rfl rfl)
theorem dX2_digit_86 : decode cX2_digit 86 = .ok (.isub, 1) := dk_100 (dk_at dksX2_digit_3 16 rfl rfl)
theorem dX2_digit_87 : decode cX2_digit 87 = .ok (.iaload, 1) := dk_46 (dk_at dksX2_digit_3 17 rfl rfl)
theorem dX2_digit_88 : decode cX2_digit 88 = .ok (.i2l, 1) := dk_133 (dk_at dksX2_digit_3 18 rfl rfl)
theorem dX2_digit_89 : decode cX2_digit 89 = .ok (.lmul, 1) := dk_105 (dk_at dksX2_digit_3 19 rfl rfl)
theorem dX2_digit_90 : decode cX2_digit 90 = .ok (.lload 7, 2) := dk_22 7 (dk_at dksX2_digit_3 20 rfl rfl)
theorem dX2_digit_92 : decode cX2_digit 92 = .ok (.ldc2_w 50, 3) := dk_20 0 50 (dk_at dksX2_digit_4 0 rfl rfl)
theorem dX2_digit_95 : decode cX2_digit 95 = .ok (.lmul, 1) := dk_105 (dk_at dksX2_digit_4 3 rfl rfl)
theorem dX2_digit_96 : decode cX2_digit 96 = .ok (.aload_n 0, 1) := dk_42 (dk_at dksX2_digit_4 4 rfl rfl)
theorem dX2_digit_97 : decode cX2_digit 97 = .ok (.getfield 9, 3) := dk_180 0 9 (dk_at dksX2_digit_4 5 rfl rfl)
theorem dX2_digit_100 : decode cX2_digit 100 = .ok (.iload_n 1, 1) := dk_27 (dk_at dksX2_digit_4 8 rfl rfl)
theorem dX2_digit_101 : decode cX2_digit 101 = .ok (.iload_n 2, 1) := dk_28 (dk_at dksX2_digit_4 9 rfl rfl)
theorem dX2_digit_102 : decode cX2_digit 102 = .ok (.iadd, 1) := dk_96 (dk_at dksX2_digit_4 10 rfl rfl)
theorem dX2_digit_103 : decode cX2_digit 103 = .ok (.iconst 2, 1) := dk_5 (dk_at dksX2_digit_4 11 rfl rfl)
theorem dX2_digit_104 : decode cX2_digit 104 = .ok (.isub, 1) := dk_100 (dk_at dksX2_digit_4 12 rfl rfl)
theorem dX2_digit_105 : decode cX2_digit 105 = .ok (.iaload, 1) := dk_46 (dk_at dksX2_digit_4 13 rfl rfl)
theorem dX2_digit_106 : decode cX2_digit 106 = .ok (.i2l, 1) := dk_133 (dk_at dksX2_digit_4 14 rfl rfl)
theorem dX2_digit_107 : decode cX2_digit 107 = .ok (.ladd, 1) := dk_97 (dk_at dksX2_digit_4 15 rfl rfl)
theorem dX2_digit_108 : decode cX2_digit 108 = .ok (.lcmp, 1) := dk_148 (dk_at dksX2_digit_4 16 rfl rfl)
theorem dX2_digit_109 : decode cX2_digit 109 = .ok (.ifCond .le 26, 3) := dk_158 0 26 (dk_at dksX2_digit_4 17 rfl rfl)
theorem dX2_digit_112 : decode cX2_digit 112 = .ok (.lload 5, 2) := dk_22 5 (dk_at dksX2_digit_4 20 rfl rfl)
theorem dX2_digit_114 : decode cX2_digit 114 = .ok (.lconst 1, 1) := dk_10 (dk_at dksX2_digit_4 22 rfl rfl)
theorem dX2_digit_115 : decode cX2_digit 115 = .ok (.lsub, 1) := dk_101 (dk_at dksX2_digit_4 23 rfl rfl)
theorem dX2_digit_116 : decode cX2_digit 116 = .ok (.lstore 5, 2) := dk_55 5 (dk_at dksX2_digit_5 0 rfl rfl)
theorem dX2_digit_118 : decode cX2_digit 118 = .ok (.lload 7, 2) := dk_22 7 (dk_at dksX2_digit_5 2 rfl rfl)
theorem dX2_digit_120 : decode cX2_digit 120 = .ok (.aload_n 0, 1) := dk_42 (dk_at dksX2_digit_5 4 rfl rfl)
theorem dX2_digit_121 : decode cX2_digit 121 = .ok (.getfield 13, 3) := dk_180 0 13 (dk_at dksX2_digit_5 5 rfl rfl)
theorem dX2_digit_124 : decode cX2_digit 124 = .ok (.iload_n 2, 1) := dk_28 (dk_at dksX2_digit_5 8 rfl rfl)
theorem dX2_digit_125 : decode cX2_digit 125 = .ok (.iconst 1, 1) := dk_4 (dk_at dksX2_digit_5 9 rfl rfl)
theorem dX2_digit_126 : decode cX2_digit 126 = .ok (.isub, 1) := dk_100 (dk_at dksX2_digit_5 10 rfl rfl)
theorem dX2_digit_127 : decode cX2_digit 127 = .ok (.iaload, 1) := dk_46 (dk_at dksX2_digit_5 11 rfl rfl)
theorem dX2_digit_128 : decode cX2_digit 128 = .ok (.i2l, 1) := dk_133 (dk_at dksX2_digit_5 12 rfl rfl)
theorem dX2_digit_129 : decode cX2_digit 129 = .ok (.ladd, 1) := dk_97 (dk_at dksX2_digit_5 13 rfl rfl)
theorem dX2_digit_130 : decode cX2_digit 130 = .ok (.lstore 7, 2) := dk_55 7 (dk_at dksX2_digit_5 14 rfl rfl)
theorem dX2_digit_132 : decode cX2_digit 132 = .ok (.goto (-77), 3) := dk_167 255 179 (dk_at dksX2_digit_5 16 rfl rfl)
theorem dX2_digit_135 : decode cX2_digit 135 = .ok (.lconst 0, 1) := dk_9 (dk_at dksX2_digit_5 19 rfl rfl)
theorem dX2_digit_136 : decode cX2_digit 136 = .ok (.lstore 9, 2) := dk_55 9 (dk_at dksX2_digit_5 20 rfl rfl)
theorem dX2_digit_138 : decode cX2_digit 138 = .ok (.iconst 0, 1) := dk_3 (dk_at dksX2_digit_5 22 rfl rfl)
theorem dX2_digit_139 : decode cX2_digit 139 = .ok (.istore 11, 2) := dk_54 11 (dk_at dksX2_digit_6 0 rfl rfl)
theorem dX2_digit_141 : decode cX2_digit 141 = .ok (.iload 11, 2) := dk_21 11 (dk_at dksX2_digit_6 2 rfl rfl)
theorem dX2_digit_143 : decode cX2_digit 143 = .ok (.iload_n 2, 1) := dk_28 (dk_at dksX2_digit_6 4 rfl rfl)
theorem dX2_digit_144 : decode cX2_digit 144 = .ok (.if_icmp .ge 111, 3) := dk_162 0 111 (dk_at dksX2_digit_6 5 rfl rfl)
theorem dX2_digit_147 : decode cX2_digit 147 = .ok (.aload_n 0, 1) := dk_42 (dk_at dksX2_digit_6 8 rfl rfl)
theorem dX2_digit_148 : decode cX2_digit 148 = .ok (.getfield 9, 3) := dk_180 0 9 (dk_at dksX2_digit_6 9 rfl rfl)
theorem dX2_digit_151 : decode cX2_digit 151 = .ok (.iload_n 1, 1) := dk_27 (dk_at dksX2_digit_6 12 rfl rfl)
theorem dX2_digit_152 : decode cX2_digit 152 = .ok (.iload 11, 2) := dk_21 11 (dk_at dksX2_digit_6 13 rfl rfl)
theorem dX2_digit_154 : decode cX2_digit 154 = .ok (.iadd, 1) := dk_96 (dk_at dksX2_digit_6 15 rfl rfl)
theorem dX2_digit_155 : decode cX2_digit 155 = .ok (.iaload, 1) := dk_46 (dk_at dksX2_digit_6 16 rfl rfl)
theorem dX2_digit_156 : decode cX2_digit 156 = .ok (.i2l, 1) := dk_133 (dk_at dksX2_digit_6 17 rfl rfl)
theorem dX2_digit_157 : decode cX2_digit 157 = .ok (.lload 9, 2) := dk_22 9 (dk_at dksX2_digit_6 18 rfl rfl)
theorem dX2_digit_159 : decode cX2_digit 159 = .ok (.lsub, 1) := dk_101 (dk_at dksX2_digit_6 20 rfl rfl)
theorem dX2_digit_160 : decode cX2_digit 160 = .ok (.lload 5, 2) := dk_22 5 (dk_at dksX2_digit_6 21 rfl rfl)
theorem dX2_digit_162 : decode cX2_digit 162 = .ok (.aload_n 0, 1) := dk_42 (dk_at dksX2_digit_6 23 rfl rfl)
theorem dX2_digit_163 : decode cX2_digit 163 = .ok (.getfield 13, 3) := dk_180 0 13 (dk_at dksX2_digit_7 0 rfl rfl)
theorem dX2_digit_166 : decode cX2_digit 166 = .ok (.iload 11, 2) := dk_21 11 (dk_at dksX2_digit_7 3 rfl rfl)
theorem dX2_digit_168 : decode cX2_digit 168 = .ok (.iaload, 1) := dk_46 (dk_at dksX2_digit_7 5 rfl rfl)
theorem dX2_digit_169 : decode cX2_digit 169 = .ok (.i2l, 1) := dk_133 (dk_at dksX2_digit_7 6 rfl rfl)
theorem dX2_digit_170 : decode cX2_digit 170 = .ok (.lmul, 1) := dk_105 (dk_at dksX2_digit_7 7 rfl rfl)
theorem dX2_digit_171 : decode cX2_digit 171 = .ok (.ldc2_w 50, 3) := dk_20 0 50 (dk_at dksX2_digit_7 8 rfl rfl)
theorem dX2_digit_174 : decode cX2_digit 174 = .ok (.lrem, 1) := dk_113 (dk_at dksX2_digit_7 11 rfl rfl)
theorem dX2_digit_175 : decode cX2_digit 175 = .ok (.lsub, 1) := dk_101 (dk_at dksX2_digit_7 12 rfl rfl)
theorem dX2_digit_176 : decode cX2_digit 176 = .ok (.lstore 12, 2) := dk_55 12 (dk_at dksX2_digit_7 13 rfl rfl)
theorem dX2_digit_178 : decode cX2_digit 178 = .ok (.lload 5, 2) := dk_22 5 (dk_at dksX2_digit_7 15 rfl rfl)
theorem dX2_digit_180 : decode cX2_digit 180 = .ok (.aload_n 0, 1) := dk_42 (dk_at dksX2_digit_7 17 rfl rfl)
theorem dX2_digit_181 : decode cX2_digit 181 = .ok (.getfield 13, 3) := dk_180 0 13 (dk_at dksX2_digit_7 18 rfl rfl)
theorem dX2_digit_184 : decode cX2_digit 184 = .ok (.iload 11, 2) := dk_21 11 (dk_at dksX2_digit_7 21 rfl rfl)
theorem dX2_digit_186 : decode cX2_digit 186 = .ok (.iaload, 1) := dk_46 (dk_at dksX2_digit_7 23 rfl rfl)
theorem dX2_digit_187 : decode cX2_digit 187 = .ok (.i2l, 1) := dk_133 (dk_at dksX2_digit_8 0 rfl rfl)
theorem dX2_digit_188 : decode cX2_digit 188 = .ok (.lmul, 1) := dk_105 (dk_at dksX2_digit_8 1 rfl rfl)
theorem dX2_digit_189 : decode cX2_digit 189 = .ok (.ldc2_w 50, 3) := dk_20 0 50 (dk_at dksX2_digit_8 2 rfl rfl)
theorem dX2_digit_192 : decode cX2_digit 192 = .ok (.ldiv, 1) := dk_109 (dk_at dksX2_digit_8 5 rfl rfl)
theorem dX2_digit_193 : decode cX2_digit 193 = .ok (.lstore 9, 2) := dk_55 9 (dk_at dksX2_digit_8 6 rfl rfl)
theorem dX2_digit_195 : decode cX2_digit 195 = .ok (.lload 12, 2) := dk_22 12 (dk_at dksX2_digit_8 8 rfl rfl)
theorem dX2_digit_197 : decode cX2_digit 197 = .ok (.lconst 0, 1) := dk_9 (dk_at dksX2_digit_8 10 rfl rfl)
theorem dX2_digit_198 : decode cX2_digit 198 = .ok (.lcmp, 1) := dk_148 (dk_at dksX2_digit_8 11 rfl rfl)
theorem dX2_digit_199 : decode cX2_digit 199 = .ok (.ifCond .ge 17, 3) := dk_156 0 17 (dk_at dksX2_digit_8 12 rfl rfl)
theorem dX2_digit_202 : decode cX2_digit 202 = .ok (.lload 12, 2) := dk_22 12 (dk_at dksX2_digit_8 15 rfl rfl)
theorem dX2_digit_204 : decode cX2_digit 204 = .ok (.ldc2_w 50, 3) := dk_20 0 50 (dk_at dksX2_digit_8 17 rfl rfl)
theorem dX2_digit_207 : decode cX2_digit 207 = .ok (.ladd, 1) := dk_97 (dk_at dksX2_digit_8 20 rfl rfl)
theorem dX2_digit_208 : decode cX2_digit 208 = .ok (.lstore 12, 2) := dk_55 12 (dk_at dksX2_digit_8 21 rfl rfl)
theorem dX2_digit_210 : decode cX2_digit 210 = .ok (.lload 9, 2) := dk_22 9 (dk_at dksX2_digit_9 0 rfl rfl)
theorem dX2_digit_212 : decode cX2_digit 212 = .ok (.lconst 1, 1) := dk_10 (dk_at dksX2_digit_9 2 rfl rfl)
theorem dX2_digit_213 : decode cX2_digit 213 = .ok (.ladd, 1) := dk_97 (dk_at dksX2_digit_9 3 rfl rfl)
theorem dX2_digit_214 : decode cX2_digit 214 = .ok (.lstore 9, 2) := dk_55 9 (dk_at dksX2_digit_9 4 rfl rfl)
theorem dX2_digit_216 : decode cX2_digit 216 = .ok (.lload 12, 2) := dk_22 12 (dk_at dksX2_digit_9 6 rfl rfl)
theorem dX2_digit_218 : decode cX2_digit 218 = .ok (.lconst 0, 1) := dk_9 (dk_at dksX2_digit_9 8 rfl rfl)
theorem dX2_digit_219 : decode cX2_digit 219 = .ok (.lcmp, 1) := dk_148 (dk_at dksX2_digit_9 9 rfl rfl)
theorem dX2_digit_220 : decode cX2_digit 220 = .ok (.ifCond .ge 17, 3) := dk_156 0 17 (dk_at dksX2_digit_9 10 rfl rfl)
theorem dX2_digit_223 : decode cX2_digit 223 = .ok (.lload 12, 2) := dk_22 12 (dk_at dksX2_digit_9 13 rfl rfl)
theorem dX2_digit_225 : decode cX2_digit 225 = .ok (.ldc2_w 50, 3) := dk_20 0 50 (dk_at dksX2_digit_9 15 rfl rfl)
theorem dX2_digit_228 : decode cX2_digit 228 = .ok (.ladd, 1) := dk_97 (dk_at dksX2_digit_9 18 rfl rfl)
theorem dX2_digit_229 : decode cX2_digit 229 = .ok (.lstore 12, 2) := dk_55 12 (dk_at dksX2_digit_9 19 rfl rfl)
theorem dX2_digit_231 : decode cX2_digit 231 = .ok (.lload 9, 2) := dk_22 9 (dk_at dksX2_digit_9 21 rfl rfl)
theorem dX2_digit_233 : decode cX2_digit 233 = .ok (.lconst 1, 1) := dk_10 (dk_at dksX2_digit_9 23 rfl rfl)
theorem dX2_digit_234 : decode cX2_digit 234 = .ok (.ladd, 1) := dk_97 (dk_at dksX2_digit_10 0 rfl rfl)
theorem dX2_digit_235 : decode cX2_digit 235 = .ok (.lstore 9, 2) := dk_55 9 (dk_at dksX2_digit_10 1 rfl rfl)
theorem dX2_digit_237 : decode cX2_digit 237 = .ok (.aload_n 0, 1) := dk_42 (dk_at dksX2_digit_10 3 rfl rfl)
theorem dX2_digit_238 : decode cX2_digit 238 = .ok (.getfield 9, 3) := dk_180 0 9 (dk_at dksX2_digit_10 4 rfl rfl)
theorem dX2_digit_241 : decode cX2_digit 241 = .ok (.iload_n 1, 1) := dk_27 (dk_at dksX2_digit_10 7 rfl rfl)
theorem dX2_digit_242 : decode cX2_digit 242 = .ok (.iload 11, 2) := dk_21 11 (dk_at dksX2_digit_10 8 rfl rfl)
theorem dX2_digit_244 : decode cX2_digit 244 = .ok (.iadd, 1) := dk_96 (dk_at dksX2_digit_10 10 rfl rfl)
theorem dX2_digit_245 : decode cX2_digit 245 = .ok (.lload 12, 2) := dk_22 12 (dk_at dksX2_digit_10 11 rfl rfl)
theorem dX2_digit_247 : decode cX2_digit 247 = .ok (.l2i, 1) := dk_136 (dk_at dksX2_digit_10 13 rfl rfl)
theorem dX2_digit_248 : decode cX2_digit 248 = .ok (.iastore, 1) := dk_79 (dk_at dksX2_digit_10 14 rfl rfl)
theorem dX2_digit_249 : decode cX2_digit 249 = .ok (.iinc 11 1, 3) := dk_132 11 1 (dk_at dksX2_digit_10 15 rfl rfl)
theorem dX2_digit_252 : decode cX2_digit 252 = .ok (.goto (-111), 3) := dk_167 255 145 (dk_at dksX2_digit_10 18 rfl rfl)
theorem dX2_digit_255 : decode cX2_digit 255 = .ok (.aload_n 0, 1) := dk_42 (dk_at dksX2_digit_10 21 rfl rfl)
theorem dX2_digit_256 : decode cX2_digit 256 = .ok (.getfield 9, 3) := dk_180 0 9 (dk_at dksX2_digit_11 0 rfl rfl)
theorem dX2_digit_259 : decode cX2_digit 259 = .ok (.iload_n 1, 1) := dk_27 (dk_at dksX2_digit_11 3 rfl rfl)
theorem dX2_digit_260 : decode cX2_digit 260 = .ok (.iload_n 2, 1) := dk_28 (dk_at dksX2_digit_11 4 rfl rfl)
theorem dX2_digit_261 : decode cX2_digit 261 = .ok (.iadd, 1) := dk_96 (dk_at dksX2_digit_11 5 rfl rfl)
theorem dX2_digit_262 : decode cX2_digit 262 = .ok (.iaload, 1) := dk_46 (dk_at dksX2_digit_11 6 rfl rfl)
theorem dX2_digit_263 : decode cX2_digit 263 = .ok (.i2l, 1) := dk_133 (dk_at dksX2_digit_11 7 rfl rfl)
theorem dX2_digit_264 : decode cX2_digit 264 = .ok (.lload 9, 2) := dk_22 9 (dk_at dksX2_digit_11 8 rfl rfl)
theorem dX2_digit_266 : decode cX2_digit 266 = .ok (.lsub, 1) := dk_101 (dk_at dksX2_digit_11 10 rfl rfl)
theorem dX2_digit_267 : decode cX2_digit 267 = .ok (.lstore 11, 2) := dk_55 11 (dk_at dksX2_digit_11 11 rfl rfl)
theorem dX2_digit_269 : decode cX2_digit 269 = .ok (.aload_n 0, 1) := dk_42 (dk_at dksX2_digit_11 13 rfl rfl)
theorem dX2_digit_270 : decode cX2_digit 270 = .ok (.getfield 9, 3) := dk_180 0 9 (dk_at dksX2_digit_11 14 rfl rfl)
theorem dX2_digit_273 : decode cX2_digit 273 = .ok (.iload_n 1, 1) := dk_27 (dk_at dksX2_digit_11 17 rfl rfl)
theorem dX2_digit_274 : decode cX2_digit 274 = .ok (.iload_n 2, 1) := dk_28 (dk_at dksX2_digit_11 18 rfl rfl)
theorem dX2_digit_275 : decode cX2_digit 275 = .ok (.iadd, 1) := dk_96 (dk_at dksX2_digit_11 19 rfl rfl)
theorem dX2_digit_276 : decode cX2_digit 276 = .ok (.iconst 0, 1) := dk_3 (dk_at dksX2_digit_11 20 rfl rfl)
theorem dX2_digit_277 : decode cX2_digit 277 = .ok (.iastore, 1) := dk_79 (dk_at dksX2_digit_11 21 rfl rfl)
theorem dX2_digit_278 : decode cX2_digit 278 = .ok (.lload 11, 2) := dk_22 11 (dk_at dksX2_digit_11 22 rfl rfl)
theorem dX2_digit_280 : decode cX2_digit 280 = .ok (.lconst 0, 1) := dk_9 (dk_at dksX2_digit_12 0 rfl rfl)
theorem dX2_digit_281 : decode cX2_digit 281 = .ok (.lcmp, 1) := dk_148 (dk_at dksX2_digit_12 1 rfl rfl)
theorem dX2_digit_282 : decode cX2_digit 282 = .ok (.ifCond .lt 7, 3) := dk_155 0 7 (dk_at dksX2_digit_12 2 rfl rfl)
theorem dX2_digit_285 : decode cX2_digit 285 = .ok (.lload 5, 2) := dk_22 5 (dk_at dksX2_digit_12 5 rfl rfl)
theorem dX2_digit_287 : decode cX2_digit 287 = .ok (.l2i, 1) := dk_136 (dk_at dksX2_digit_12 7 rfl rfl)
theorem dX2_digit_288 : decode cX2_digit 288 = .ok (.ireturn, 1) := dk_172 (dk_at dksX2_digit_12 8 rfl rfl)
theorem dX2_digit_289 : decode cX2_digit 289 = .ok (.iconst 0, 1) := dk_3 (dk_at dksX2_digit_12 9 rfl rfl)
theorem dX2_digit_290 : decode cX2_digit 290 = .ok (.istore 13, 2) := dk_54 13 (dk_at dksX2_digit_12 10 rfl rfl)
theorem dX2_digit_292 : decode cX2_digit 292 = .ok (.iconst 0, 1) := dk_3 (dk_at dksX2_digit_12 12 rfl rfl)
theorem dX2_digit_293 : decode cX2_digit 293 = .ok (.istore 14, 2) := dk_54 14 (dk_at dksX2_digit_12 13 rfl rfl)
theorem dX2_digit_295 : decode cX2_digit 295 = .ok (.iload 14, 2) := dk_21 14 (dk_at dksX2_digit_12 15 rfl rfl)
theorem dX2_digit_297 : decode cX2_digit 297 = .ok (.iload_n 2, 1) := dk_28 (dk_at dksX2_digit_12 17 rfl rfl)
theorem dX2_digit_298 : decode cX2_digit 298 = .ok (.if_icmp .ge 62, 3) := dk_162 0 62 (dk_at dksX2_digit_12 18 rfl rfl)
theorem dX2_digit_301 : decode cX2_digit 301 = .ok (.aload_n 0, 1) := dk_42 (dk_at dksX2_digit_12 21 rfl rfl)
theorem dX2_digit_302 : decode cX2_digit 302 = .ok (.getfield 9, 3) := dk_180 0 9 (dk_at dksX2_digit_13 0 rfl rfl)
theorem dX2_digit_305 : decode cX2_digit 305 = .ok (.iload_n 1, 1) := dk_27 (dk_at dksX2_digit_13 3 rfl rfl)
theorem dX2_digit_306 : decode cX2_digit 306 = .ok (.iload 14, 2) := dk_21 14 (dk_at dksX2_digit_13 4 rfl rfl)
theorem dX2_digit_308 : decode cX2_digit 308 = .ok (.iadd, 1) := dk_96 (dk_at dksX2_digit_13 6 rfl rfl)
theorem dX2_digit_309 : decode cX2_digit 309 = .ok (.iaload, 1) := dk_46 (dk_at dksX2_digit_13 7 rfl rfl)
theorem dX2_digit_310 : decode cX2_digit 310 = .ok (.aload_n 0, 1) := dk_42 (dk_at dksX2_digit_13 8 rfl rfl)
theorem dX2_digit_311 : decode cX2_digit 311 = .ok (.getfield 13, 3) := dk_180 0 13 (dk_at dksX2_digit_13 9 rfl rfl)
theorem dX2_digit_314 : decode cX2_digit 314 = .ok (.iload 14, 2) := dk_21 14 (dk_at dksX2_digit_13 12 rfl rfl)
theorem dX2_digit_316 : decode cX2_digit 316 = .ok (.iaload, 1) := dk_46 (dk_at dksX2_digit_13 14 rfl rfl)
theorem dX2_digit_317 : decode cX2_digit 317 = .ok (.iadd, 1) := dk_96 (dk_at dksX2_digit_13 15 rfl rfl)
theorem dX2_digit_318 : decode cX2_digit 318 = .ok (.iload 13, 2) := dk_21 13 (dk_at dksX2_digit_13 16 rfl rfl)
theorem dX2_digit_320 : decode cX2_digit 320 = .ok (.iadd, 1) := dk_96 (dk_at dksX2_digit_13 18 rfl rfl)
theorem dX2_digit_321 : decode cX2_digit 321 = .ok (.istore 15, 2) := dk_54 15 (dk_at dksX2_digit_13 19 rfl rfl)
theorem dX2_digit_323 : decode cX2_digit 323 = .ok (.iload 15, 2) := dk_21 15 (dk_at dksX2_digit_13 21 rfl rfl)
theorem dX2_digit_325 : decode cX2_digit 325 = .ok (.ldc 56, 2) := dk_18 56 (dk_at dksX2_digit_14 0 rfl rfl)
theorem dX2_digit_327 : decode cX2_digit 327 = .ok (.if_icmp .lt 7, 3) := dk_161 0 7 (dk_at dksX2_digit_14 2 rfl rfl)
theorem dX2_digit_330 : decode cX2_digit 330 = .ok (.iconst 1, 1) := dk_4 (dk_at dksX2_digit_14 5 rfl rfl)
theorem dX2_digit_331 : decode cX2_digit 331 = .ok (.goto 4, 3) := dk_167 0 4 (dk_at dksX2_digit_14 6 rfl rfl)
theorem dX2_digit_334 : decode cX2_digit 334 = .ok (.iconst 0, 1) := dk_3 (dk_at dksX2_digit_14 9 rfl rfl)
theorem dX2_digit_335 : decode cX2_digit 335 = .ok (.istore 13, 2) := dk_54 13 (dk_at dksX2_digit_14 10 rfl rfl)
theorem dX2_digit_337 : decode cX2_digit 337 = .ok (.aload_n 0, 1) := dk_42 (dk_at dksX2_digit_14 12 rfl rfl)
theorem dX2_digit_338 : decode cX2_digit 338 = .ok (.getfield 9, 3) := dk_180 0 9 (dk_at dksX2_digit_14 13 rfl rfl)
theorem dX2_digit_341 : decode cX2_digit 341 = .ok (.iload_n 1, 1) := dk_27 (dk_at dksX2_digit_14 16 rfl rfl)
theorem dX2_digit_342 : decode cX2_digit 342 = .ok (.iload 14, 2) := dk_21 14 (dk_at dksX2_digit_14 17 rfl rfl)
theorem dX2_digit_344 : decode cX2_digit 344 = .ok (.iadd, 1) := dk_96 (dk_at dksX2_digit_14 19 rfl rfl)
theorem dX2_digit_345 : decode cX2_digit 345 = .ok (.iload 15, 2) := dk_21 15 (dk_at dksX2_digit_14 20 rfl rfl)
theorem dX2_digit_347 : decode cX2_digit 347 = .ok (.ldc 56, 2) := dk_18 56 (dk_at dksX2_digit_14 22 rfl rfl)
theorem dX2_digit_349 : decode cX2_digit 349 = .ok (.iload 13, 2) := dk_21 13 (dk_at dksX2_digit_15 0 rfl rfl)
theorem dX2_digit_351 : decode cX2_digit 351 = .ok (.imul, 1) := dk_104 (dk_at dksX2_digit_15 2 rfl rfl)
theorem dX2_digit_352 : decode cX2_digit 352 = .ok (.isub, 1) := dk_100 (dk_at dksX2_digit_15 3 rfl rfl)
theorem dX2_digit_353 : decode cX2_digit 353 = .ok (.iastore, 1) := dk_79 (dk_at dksX2_digit_15 4 rfl rfl)
theorem dX2_digit_354 : decode cX2_digit 354 = .ok (.iinc 14 1, 3) := dk_132 14 1 (dk_at dksX2_digit_15 5 rfl rfl)
theorem dX2_digit_357 : decode cX2_digit 357 = .ok (.goto (-62), 3) := dk_167 255 194 (dk_at dksX2_digit_15 8 rfl rfl)
theorem dX2_digit_360 : decode cX2_digit 360 = .ok (.lload 5, 2) := dk_22 5 (dk_at dksX2_digit_15 11 rfl rfl)
theorem dX2_digit_362 : decode cX2_digit 362 = .ok (.l2i, 1) := dk_136 (dk_at dksX2_digit_15 13 rfl rfl)
theorem dX2_digit_363 : decode cX2_digit 363 = .ok (.iconst 1, 1) := dk_4 (dk_at dksX2_digit_15 14 rfl rfl)
theorem dX2_digit_364 : decode cX2_digit 364 = .ok (.isub, 1) := dk_100 (dk_at dksX2_digit_15 15 rfl rfl)
theorem dX2_digit_365 : decode cX2_digit 365 = .ok (.ireturn, 1) := dk_172 (dk_at dksX2_digit_15 16 rfl rfl)
abbrev cX2_part : ByteArray := prog_12_method_8_code
def yX2_part : MethodName := ⟨RX2, "part", "(LIdealCourt$Whole;LIdealCourt$Whole;LIdealCourt$Whole;)V"⟩
def dkwX2_part_0 : List UInt8 := [42, 42, 180, 0, 21, 42, 180, 0, 25, 44, 45, 182, 0, 75, 43, 42, 180, 0, 21, 182, 0, 60, 177]
abbrev dktX2_part_0 : List UInt8 := dkwX2_part_0 ++ []
theorem dksX2_part_0 : cX2_part.data.toList.drop 0 = dktX2_part_0 := by decide +kernel
theorem dX2_part_0 : decode cX2_part 0 = .ok (.aload_n 0, 1) := dk_42 (dk_at dksX2_part_0 0 rfl rfl)
theorem dX2_part_1 : decode cX2_part 1 = .ok (.aload_n 0, 1) := dk_42 (dk_at dksX2_part_0 1 rfl rfl)
theorem dX2_part_2 : decode cX2_part 2 = .ok (.getfield 21, 3) := dk_180 0 21 (dk_at dksX2_part_0 2 rfl rfl)
theorem dX2_part_5 : decode cX2_part 5 = .ok (.aload_n 0, 1) := dk_42 (dk_at dksX2_part_0 5 rfl rfl)
theorem dX2_part_6 : decode cX2_part 6 = .ok (.getfield 25, 3) := dk_180 0 25 (dk_at dksX2_part_0 6 rfl rfl)
theorem dX2_part_9 : decode cX2_part 9 = .ok (.aload_n 2, 1) := dk_44 (dk_at dksX2_part_0 9 rfl rfl)
theorem dX2_part_10 : decode cX2_part 10 = .ok (.aload_n 3, 1) := dk_45 (dk_at dksX2_part_0 10 rfl rfl)
theorem dX2_part_11 : decode cX2_part 11 = .ok (.invokevirtual 75, 3) := dk_182 0 75 (dk_at dksX2_part_0 11 rfl rfl)
theorem dX2_part_14 : decode cX2_part 14 = .ok (.aload_n 1, 1) := dk_43 (dk_at dksX2_part_0 14 rfl rfl)
theorem dX2_part_15 : decode cX2_part 15 = .ok (.aload_n 0, 1) := dk_42 (dk_at dksX2_part_0 15 rfl rfl)
theorem dX2_part_16 : decode cX2_part 16 = .ok (.getfield 21, 3) := dk_180 0 21 (dk_at dksX2_part_0 16 rfl rfl)
theorem dX2_part_19 : decode cX2_part 19 = .ok (.invokevirtual 60, 3) := dk_182 0 60 (dk_at dksX2_part_0 19 rfl rfl)
theorem dX2_part_22 : decode cX2_part 22 = .ok (.return_, 1) := dk_177 (dk_at dksX2_part_0 22 rfl rfl)
abbrev cX2_times : ByteArray := prog_12_method_4_code
def yX2_times : MethodName := ⟨RX2, "times", "(LIdealCourt$Whole;LIdealCourt$Whole;LIdealCourt$Whole;)V"⟩
def dkwX2_times_7 : List UInt8 := [181, 0, 34, 43, 44, 180, 0, 41, 45, 180, 0, 41, 104, 181, 0, 41, 43, 182, 0, 57, 177]
abbrev dktX2_times_7 : List UInt8 := dkwX2_times_7 ++ []
def dkwX2_times_6 : List UInt8 := [180, 0, 38, 21, 5, 45, 180, 0, 34, 96, 22, 6, 136, 79, 132, 5, 1, 167, 255, 142, 43, 21, 4]
abbrev dktX2_times_6 : List UInt8 := dkwX2_times_6 ++ dktX2_times_7
def dkwX2_times_5 : List UInt8 := [21, 5, 21, 10, 96, 22, 11, 22, 6, 20, 0, 50, 105, 101, 136, 79, 132, 10, 1, 167, 255, 188, 43]
abbrev dktX2_times_5 : List UInt8 := dkwX2_times_5 ++ dktX2_times_6
def dkwX2_times_4 : List UInt8 := [21, 10, 96, 46, 133, 97, 22, 6, 97, 55, 11, 22, 11, 20, 0, 50, 109, 55, 6, 43, 180, 0, 38]
abbrev dktX2_times_4 : List UInt8 := dkwX2_times_4 ++ dktX2_times_5
def dkwX2_times_3 : List UInt8 := [180, 0, 34, 162, 0, 65, 22, 8, 45, 180, 0, 38, 21, 10, 46, 133, 105, 43, 180, 0, 38, 21, 5]
abbrev dktX2_times_3 : List UInt8 := dkwX2_times_3 ++ dktX2_times_4
def dkwX2_times_2 : List UInt8 := [162, 0, 111, 9, 55, 6, 44, 180, 0, 38, 21, 5, 46, 133, 55, 8, 3, 54, 10, 21, 10, 45]
abbrev dktX2_times_2 : List UInt8 := dkwX2_times_2 ++ dktX2_times_3
def dkwX2_times_1 : List UInt8 := [180, 0, 38, 21, 5, 3, 79, 132, 5, 1, 167, 255, 238, 3, 54, 5, 21, 5, 44, 180, 0, 34]
abbrev dktX2_times_1 : List UInt8 := dkwX2_times_1 ++ dktX2_times_2
def dkwX2_times_0 : List UInt8 := [44, 180, 0, 34, 45, 180, 0, 34, 96, 54, 4, 3, 54, 5, 21, 5, 21, 4, 162, 0, 17, 43]
abbrev dktX2_times_0 : List UInt8 := dkwX2_times_0 ++ dktX2_times_1
theorem dksX2_times_0 : cX2_times.data.toList.drop 0 = dktX2_times_0 := by decide +kernel
theorem dksX2_times_1 : cX2_times.data.toList.drop 22 = dktX2_times_1 := dk_seg dksX2_times_0 22 rfl rfl
theorem dksX2_times_2 : cX2_times.data.toList.drop 44 = dktX2_times_2 := dk_seg dksX2_times_1 22 rfl rfl
theorem dksX2_times_3 : cX2_times.data.toList.drop 66 = dktX2_times_3 := dk_seg dksX2_times_2 22 rfl rfl
theorem dksX2_times_4 : cX2_times.data.toList.drop 89 = dktX2_times_4 := dk_seg dksX2_times_3 23 rfl rfl
theorem dksX2_times_5 : cX2_times.data.toList.drop 112 = dktX2_times_5 := dk_seg dksX2_times_4 23 rfl rfl
theorem dksX2_times_6 : cX2_times.data.toList.drop 135 = dktX2_times_6 := dk_seg dksX2_times_5 23 rfl rfl
theorem dksX2_times_7 : cX2_times.data.toList.drop 158 = dktX2_times_7 := dk_seg dksX2_times_6 23 rfl rfl
theorem dX2_times_0 : decode cX2_times 0 = .ok (.aload_n 2, 1) := dk_44 (dk_at dksX2_times_0 0 rfl rfl)
theorem dX2_times_1 : decode cX2_times 1 = .ok (.getfield 34, 3) := dk_180 0 34 (dk_at dksX2_times_0 1 rfl rfl)
theorem dX2_times_4 : decode cX2_times 4 = .ok (.aload_n 3, 1) := dk_45 (dk_at dksX2_times_0 4 rfl rfl)
theorem dX2_times_5 : decode cX2_times 5 = .ok (.getfield 34, 3) := dk_180 0 34 (dk_at dksX2_times_0 5 rfl rfl)
theorem dX2_times_8 : decode cX2_times 8 = .ok (.iadd, 1) := dk_96 (dk_at dksX2_times_0 8 rfl rfl)
theorem dX2_times_9 : decode cX2_times 9 = .ok (.istore 4, 2) := dk_54 4 (dk_at dksX2_times_0 9 rfl rfl)
theorem dX2_times_11 : decode cX2_times 11 = .ok (.iconst 0, 1) := dk_3 (dk_at dksX2_times_0 11 rfl rfl)
theorem dX2_times_12 : decode cX2_times 12 = .ok (.istore 5, 2) := dk_54 5 (dk_at dksX2_times_0 12 rfl rfl)
theorem dX2_times_14 : decode cX2_times 14 = .ok (.iload 5, 2) := dk_21 5 (dk_at dksX2_times_0 14 rfl rfl)
theorem dX2_times_16 : decode cX2_times 16 = .ok (.iload 4, 2) := dk_21 4 (dk_at dksX2_times_0 16 rfl rfl)
theorem dX2_times_18 : decode cX2_times 18 = .ok (.if_icmp .ge 17, 3) := dk_162 0 17 (dk_at dksX2_times_0 18 rfl rfl)
theorem dX2_times_21 : decode cX2_times 21 = .ok (.aload_n 1, 1) := dk_43 (dk_at dksX2_times_0 21 rfl rfl)
theorem dX2_times_22 : decode cX2_times 22 = .ok (.getfield 38, 3) := dk_180 0 38 (dk_at dksX2_times_1 0 rfl rfl)
theorem dX2_times_25 : decode cX2_times 25 = .ok (.iload 5, 2) := dk_21 5 (dk_at dksX2_times_1 3 rfl rfl)
theorem dX2_times_27 : decode cX2_times 27 = .ok (.iconst 0, 1) := dk_3 (dk_at dksX2_times_1 5 rfl rfl)
theorem dX2_times_28 : decode cX2_times 28 = .ok (.iastore, 1) := dk_79 (dk_at dksX2_times_1 6 rfl rfl)
theorem dX2_times_29 : decode cX2_times 29 = .ok (.iinc 5 1, 3) := dk_132 5 1 (dk_at dksX2_times_1 7 rfl rfl)
theorem dX2_times_32 : decode cX2_times 32 = .ok (.goto (-18), 3) := dk_167 255 238 (dk_at dksX2_times_1 10 rfl rfl)
theorem dX2_times_35 : decode cX2_times 35 = .ok (.iconst 0, 1) := dk_3 (dk_at dksX2_times_1 13 rfl rfl)
theorem dX2_times_36 : decode cX2_times 36 = .ok (.istore 5, 2) := dk_54 5 (dk_at dksX2_times_1 14 rfl rfl)
theorem dX2_times_38 : decode cX2_times 38 = .ok (.iload 5, 2) := dk_21 5 (dk_at dksX2_times_1 16 rfl rfl)
theorem dX2_times_40 : decode cX2_times 40 = .ok (.aload_n 2, 1) := dk_44 (dk_at dksX2_times_1 18 rfl rfl)
theorem dX2_times_41 : decode cX2_times 41 = .ok (.getfield 34, 3) := dk_180 0 34 (dk_at dksX2_times_1 19 rfl rfl)
theorem dX2_times_44 : decode cX2_times 44 = .ok (.if_icmp .ge 111, 3) := dk_162 0 111 (dk_at dksX2_times_2 0 rfl rfl)
theorem dX2_times_47 : decode cX2_times 47 = .ok (.lconst 0, 1) := dk_9 (dk_at dksX2_times_2 3 rfl rfl)
theorem dX2_times_48 : decode cX2_times 48 = .ok (.lstore 6, 2) := dk_55 6 (dk_at dksX2_times_2 4 rfl rfl)
theorem dX2_times_50 : decode cX2_times 50 = .ok (.aload_n 2, 1) := dk_44 (dk_at dksX2_times_2 6 rfl rfl)
theorem dX2_times_51 : decode cX2_times 51 = .ok (.getfield 38, 3) := dk_180 0 38 (dk_at dksX2_times_2 7 rfl rfl)
theorem dX2_times_54 : decode cX2_times 54 = .ok (.iload 5, 2) := dk_21 5 (dk_at dksX2_times_2 10 rfl rfl)
theorem dX2_times_56 : decode cX2_times 56 = .ok (.iaload, 1) := dk_46 (dk_at dksX2_times_2 12 rfl rfl)
theorem dX2_times_57 : decode cX2_times 57 = .ok (.i2l, 1) := dk_133 (dk_at dksX2_times_2 13 rfl rfl)
theorem dX2_times_58 : decode cX2_times 58 = .ok (.lstore 8, 2) := dk_55 8 (dk_at dksX2_times_2 14 rfl rfl)
theorem dX2_times_60 : decode cX2_times 60 = .ok (.iconst 0, 1) := dk_3 (dk_at dksX2_times_2 16 rfl rfl)
theorem dX2_times_61 : decode cX2_times 61 = .ok (.istore 10, 2) := dk_54 10 (dk_at dksX2_times_2 17 rfl rfl)
theorem dX2_times_63 : decode cX2_times 63 = .ok (.iload 10, 2) := dk_21 10 (dk_at dksX2_times_2 19 rfl rfl)
theorem dX2_times_65 : decode cX2_times 65 = .ok (.aload_n 3, 1) := dk_45 (dk_at dksX2_times_2 21 rfl rfl)
theorem dX2_times_66 : decode cX2_times 66 = .ok (.getfield 34, 3) := dk_180 0 34 (dk_at dksX2_times_3 0 rfl rfl)
theorem dX2_times_69 : decode cX2_times 69 = .ok (.if_icmp .ge 65, 3) := dk_162 0 65 (dk_at dksX2_times_3 3 rfl rfl)
theorem dX2_times_72 : decode cX2_times 72 = .ok (.lload 8, 2) := dk_22 8 (dk_at dksX2_times_3 6 rfl rfl)
theorem dX2_times_74 : decode cX2_times 74 = .ok (.aload_n 3, 1) := dk_45 (dk_at dksX2_times_3 8 rfl rfl)
theorem dX2_times_75 : decode cX2_times 75 = .ok (.getfield 38, 3) := dk_180 0 38 (dk_at dksX2_times_3 9 rfl rfl)
theorem dX2_times_78 : decode cX2_times 78 = .ok (.iload 10, 2) := dk_21 10 (dk_at dksX2_times_3 12 rfl rfl)
theorem dX2_times_80 : decode cX2_times 80 = .ok (.iaload, 1) := dk_46 (dk_at dksX2_times_3 14 rfl rfl)
theorem dX2_times_81 : decode cX2_times 81 = .ok (.i2l, 1) := dk_133 (dk_at dksX2_times_3 15 rfl rfl)
theorem dX2_times_82 : decode cX2_times 82 = .ok (.lmul, 1) := dk_105 (dk_at dksX2_times_3 16 rfl rfl)
theorem dX2_times_83 : decode cX2_times 83 = .ok (.aload_n 1, 1) := dk_43 (dk_at dksX2_times_3 17 rfl rfl)
theorem dX2_times_84 : decode cX2_times 84 = .ok (.getfield 38, 3) := dk_180 0 38 (dk_at dksX2_times_3 18 rfl rfl)
theorem dX2_times_87 : decode cX2_times 87 = .ok (.iload 5, 2) := dk_21 5 (dk_at dksX2_times_3 21 rfl rfl)
theorem dX2_times_89 : decode cX2_times 89 = .ok (.iload 10, 2) := dk_21 10 (dk_at dksX2_times_4 0 rfl rfl)
theorem dX2_times_91 : decode cX2_times 91 = .ok (.iadd, 1) := dk_96 (dk_at dksX2_times_4 2 rfl rfl)
theorem dX2_times_92 : decode cX2_times 92 = .ok (.iaload, 1) := dk_46 (dk_at dksX2_times_4 3 rfl rfl)
theorem dX2_times_93 : decode cX2_times 93 = .ok (.i2l, 1) := dk_133 (dk_at dksX2_times_4 4 rfl rfl)
theorem dX2_times_94 : decode cX2_times 94 = .ok (.ladd, 1) := dk_97 (dk_at dksX2_times_4 5 rfl rfl)
theorem dX2_times_95 : decode cX2_times 95 = .ok (.lload 6, 2) := dk_22 6 (dk_at dksX2_times_4 6 rfl rfl)
theorem dX2_times_97 : decode cX2_times 97 = .ok (.ladd, 1) := dk_97 (dk_at dksX2_times_4 8 rfl rfl)
theorem dX2_times_98 : decode cX2_times 98 = .ok (.lstore 11, 2) := dk_55 11 (dk_at dksX2_times_4 9 rfl rfl)
theorem dX2_times_100 : decode cX2_times 100 = .ok (.lload 11, 2) := dk_22 11 (dk_at dksX2_times_4 11 rfl rfl)
theorem dX2_times_102 : decode cX2_times 102 = .ok (.ldc2_w 50, 3) := dk_20 0 50 (dk_at dksX2_times_4 13 rfl rfl)
theorem dX2_times_105 : decode cX2_times 105 = .ok (.ldiv, 1) := dk_109 (dk_at dksX2_times_4 16 rfl rfl)
theorem dX2_times_106 : decode cX2_times 106 = .ok (.lstore 6, 2) := dk_55 6 (dk_at dksX2_times_4 17 rfl rfl)
theorem dX2_times_108 : decode cX2_times 108 = .ok (.aload_n 1, 1) := dk_43 (dk_at dksX2_times_4 19 rfl rfl)
theorem dX2_times_109 : decode cX2_times 109 = .ok (.getfield 38, 3) := dk_180 0 38 (dk_at dksX2_times_4 20 rfl rfl)
theorem dX2_times_112 : decode cX2_times 112 = .ok (.iload 5, 2) := dk_21 5 (dk_at dksX2_times_5 0 rfl rfl)
theorem dX2_times_114 : decode cX2_times 114 = .ok (.iload 10, 2) := dk_21 10 (dk_at dksX2_times_5 2 rfl rfl)
theorem dX2_times_116 : decode cX2_times 116 = .ok (.iadd, 1) := dk_96 (dk_at dksX2_times_5 4 rfl rfl)
theorem dX2_times_117 : decode cX2_times 117 = .ok (.lload 11, 2) := dk_22 11 (dk_at dksX2_times_5 5 rfl rfl)
theorem dX2_times_119 : decode cX2_times 119 = .ok (.lload 6, 2) := dk_22 6 (dk_at dksX2_times_5 7 rfl rfl)
theorem dX2_times_121 : decode cX2_times 121 = .ok (.ldc2_w 50, 3) := dk_20 0 50 (dk_at dksX2_times_5 9 rfl rfl)
theorem dX2_times_124 : decode cX2_times 124 = .ok (.lmul, 1) := dk_105 (dk_at dksX2_times_5 12 rfl rfl)
theorem dX2_times_125 : decode cX2_times 125 = .ok (.lsub, 1) := dk_101 (dk_at dksX2_times_5 13 rfl rfl)
theorem dX2_times_126 : decode cX2_times 126 = .ok (.l2i, 1) := dk_136 (dk_at dksX2_times_5 14 rfl rfl)
theorem dX2_times_127 : decode cX2_times 127 = .ok (.iastore, 1) := dk_79 (dk_at dksX2_times_5 15 rfl rfl)
theorem dX2_times_128 : decode cX2_times 128 = .ok (.iinc 10 1, 3) := dk_132 10 1 (dk_at dksX2_times_5 16 rfl rfl)
theorem dX2_times_131 : decode cX2_times 131 = .ok (.goto (-68), 3) := dk_167 255 188 (dk_at dksX2_times_5 19 rfl rfl)
theorem dX2_times_134 : decode cX2_times 134 = .ok (.aload_n 1, 1) := dk_43 (dk_at dksX2_times_5 22 rfl rfl)
theorem dX2_times_135 : decode cX2_times 135 = .ok (.getfield 38, 3) := dk_180 0 38 (dk_at dksX2_times_6 0 rfl rfl)
theorem dX2_times_138 : decode cX2_times 138 = .ok (.iload 5, 2) := dk_21 5 (dk_at dksX2_times_6 3 rfl rfl)
theorem dX2_times_140 : decode cX2_times 140 = .ok (.aload_n 3, 1) := dk_45 (dk_at dksX2_times_6 5 rfl rfl)
theorem dX2_times_141 : decode cX2_times 141 = .ok (.getfield 34, 3) := dk_180 0 34 (dk_at dksX2_times_6 6 rfl rfl)
theorem dX2_times_144 : decode cX2_times 144 = .ok (.iadd, 1) := dk_96 (dk_at dksX2_times_6 9 rfl rfl)
theorem dX2_times_145 : decode cX2_times 145 = .ok (.lload 6, 2) := dk_22 6 (dk_at dksX2_times_6 10 rfl rfl)
theorem dX2_times_147 : decode cX2_times 147 = .ok (.l2i, 1) := dk_136 (dk_at dksX2_times_6 12 rfl rfl)
theorem dX2_times_148 : decode cX2_times 148 = .ok (.iastore, 1) := dk_79 (dk_at dksX2_times_6 13 rfl rfl)
theorem dX2_times_149 : decode cX2_times 149 = .ok (.iinc 5 1, 3) := dk_132 5 1 (dk_at dksX2_times_6 14 rfl rfl)
theorem dX2_times_152 : decode cX2_times 152 = .ok (.goto (-114), 3) := dk_167 255 142 (dk_at dksX2_times_6 17 rfl rfl)
theorem dX2_times_155 : decode cX2_times 155 = .ok (.aload_n 1, 1) := dk_43 (dk_at dksX2_times_6 20 rfl rfl)
theorem dX2_times_156 : decode cX2_times 156 = .ok (.iload 4, 2) := dk_21 4 (dk_at dksX2_times_6 21 rfl rfl)
theorem dX2_times_158 : decode cX2_times 158 = .ok (.putfield 34, 3) := dk_181 0 34 (dk_at dksX2_times_7 0 rfl rfl)
theorem dX2_times_161 : decode cX2_times 161 = .ok (.aload_n 1, 1) := dk_43 (dk_at dksX2_times_7 3 rfl rfl)
theorem dX2_times_162 : decode cX2_times 162 = .ok (.aload_n 2, 1) := dk_44 (dk_at dksX2_times_7 4 rfl rfl)
theorem dX2_times_163 : decode cX2_times 163 = .ok (.getfield 41, 3) := dk_180 0 41 (dk_at dksX2_times_7 5 rfl rfl)
theorem dX2_times_166 : decode cX2_times 166 = .ok (.aload_n 3, 1) := dk_45 (dk_at dksX2_times_7 8 rfl rfl)
theorem dX2_times_167 : decode cX2_times 167 = .ok (.getfield 41, 3) := dk_180 0 41 (dk_at dksX2_times_7 9 rfl rfl)
theorem dX2_times_170 : decode cX2_times 170 = .ok (.imul, 1) := dk_104 (dk_at dksX2_times_7 12 rfl rfl)
theorem dX2_times_171 : decode cX2_times 171 = .ok (.putfield 41, 3) := dk_181 0 41 (dk_at dksX2_times_7 13 rfl rfl)
theorem dX2_times_174 : decode cX2_times 174 = .ok (.aload_n 1, 1) := dk_43 (dk_at dksX2_times_7 16 rfl rfl)
theorem dX2_times_175 : decode cX2_times 175 = .ok (.invokevirtual 57, 3) := dk_182 0 57 (dk_at dksX2_times_7 17 rfl rfl)
theorem dX2_times_178 : decode cX2_times 178 = .ok (.return_, 1) := dk_177 (dk_at dksX2_times_7 20 rfl rfl)
abbrev cX2_add : ByteArray := prog_12_method_3_code
def yX2_add : MethodName := ⟨RX2, "add", "(LIdealCourt$Whole;LIdealCourt$Whole;LIdealCourt$Whole;I)V"⟩
def dkwX2_add_16 : List UInt8 := [43, 21, 10, 181, 0, 34, 43, 21, 9, 181, 0, 41, 43, 182, 0, 57, 177]
abbrev dktX2_add_16 : List UInt8 := dkwX2_add_16 ++ []
def dkwX2_add_15 : List UInt8 := [21, 13, 21, 14, 156, 0, 11, 21, 14, 18, 56, 96, 167, 0, 5, 21, 14, 79, 132, 13, 1, 167, 255, 179]
abbrev dktX2_add_15 : List UInt8 := dkwX2_add_15 ++ dktX2_add_16
def dkwX2_add_14 : List UInt8 := [3, 100, 21, 12, 100, 54, 14, 21, 14, 156, 0, 7, 4, 167, 0, 4, 3, 54, 12, 43, 180, 0, 38]
abbrev dktX2_add_14 : List UInt8 := dkwX2_add_14 ++ dktX2_add_15
def dkwX2_add_13 : List UInt8 := [180, 0, 38, 21, 13, 46, 21, 13, 21, 11, 162, 0, 14, 25, 8, 180, 0, 38, 21, 13, 46, 167, 0, 4]
abbrev dktX2_add_13 : List UInt8 := dkwX2_add_13 ++ dktX2_add_14
def dkwX2_add_12 : List UInt8 := [25, 8, 180, 0, 34, 54, 11, 3, 54, 12, 3, 54, 13, 21, 13, 21, 10, 162, 0, 76, 25, 7]
abbrev dktX2_add_12 : List UInt8 := dkwX2_add_12 ++ dktX2_add_13
def dkwX2_add_11 : List UInt8 := [21, 6, 153, 0, 10, 44, 180, 0, 41, 167, 0, 5, 21, 5, 54, 9, 25, 7, 180, 0, 34, 54, 10]
abbrev dktX2_add_11 : List UInt8 := dkwX2_add_11 ++ dktX2_add_12
def dkwX2_add_10 : List UInt8 := [21, 6, 153, 0, 7, 44, 167, 0, 4, 45, 58, 7, 21, 6, 153, 0, 7, 45, 167, 0, 4, 44, 58, 8]
abbrev dktX2_add_10 : List UInt8 := dkwX2_add_10 ++ dktX2_add_11
def dkwX2_add_9 : List UInt8 := [167, 0, 4, 3, 181, 0, 41, 177, 42, 44, 45, 182, 0, 52, 155, 0, 7, 4, 167, 0, 4, 3, 54, 6]
abbrev dktX2_add_9 : List UInt8 := dkwX2_add_9 ++ dktX2_add_10
def dkwX2_add_8 : List UInt8 := [21, 9, 4, 79, 43, 21, 9, 4, 96, 181, 0, 34, 43, 43, 180, 0, 34, 158, 0, 8, 21, 6]
abbrev dktX2_add_8 : List UInt8 := dkwX2_add_8 ++ dktX2_add_9
def dkwX2_add_7 : List UInt8 := [132, 12, 1, 167, 255, 169, 43, 21, 9, 181, 0, 34, 22, 7, 9, 148, 158, 0, 19, 43, 180, 0, 38]
abbrev dktX2_add_7 : List UInt8 := dkwX2_add_7 ++ dktX2_add_8
def dkwX2_add_6 : List UInt8 := [167, 0, 4, 9, 55, 7, 43, 180, 0, 38, 21, 12, 22, 13, 20, 0, 50, 22, 7, 105, 101, 136, 79]
abbrev dktX2_add_6 : List UInt8 := dkwX2_add_6 ++ dktX2_add_7
def dkwX2_add_5 : List UInt8 := [180, 0, 38, 21, 12, 46, 167, 0, 4, 3, 133, 97, 55, 13, 22, 13, 20, 0, 50, 148, 155, 0, 7, 10]
abbrev dktX2_add_5 : List UInt8 := dkwX2_add_5 ++ dktX2_add_6
def dkwX2_add_4 : List UInt8 := [162, 0, 13, 44, 180, 0, 38, 21, 12, 46, 167, 0, 4, 3, 133, 97, 21, 12, 21, 11, 162, 0, 13, 45]
abbrev dktX2_add_4 : List UInt8 := dkwX2_add_4 ++ dktX2_add_5
def dkwX2_add_3 : List UInt8 := [45, 180, 0, 34, 54, 11, 3, 54, 12, 21, 12, 21, 9, 162, 0, 86, 22, 7, 21, 12, 21, 10]
abbrev dktX2_add_3 : List UInt8 := dkwX2_add_3 ++ dktX2_add_4
def dkwX2_add_2 : List UInt8 := [54, 6, 9, 55, 7, 44, 180, 0, 34, 45, 180, 0, 34, 184, 0, 44, 54, 9, 44, 180, 0, 34, 54, 10]
abbrev dktX2_add_2 : List UInt8 := dkwX2_add_2 ++ dktX2_add_3
def dkwX2_add_1 : List UInt8 := [180, 0, 41, 21, 5, 160, 0, 189, 44, 180, 0, 41, 153, 0, 10, 44, 180, 0, 41, 167, 0, 5, 21, 5]
abbrev dktX2_add_1 : List UInt8 := dkwX2_add_1 ++ dktX2_add_2
def dkwX2_add_0 : List UInt8 := [45, 180, 0, 41, 21, 4, 104, 54, 5, 44, 180, 0, 41, 153, 0, 17, 21, 5, 153, 0, 12, 44]
abbrev dktX2_add_0 : List UInt8 := dkwX2_add_0 ++ dktX2_add_1
theorem dksX2_add_0 : cX2_add.data.toList.drop 0 = dktX2_add_0 := by decide +kernel
theorem dksX2_add_1 : cX2_add.data.toList.drop 22 = dktX2_add_1 := dk_seg dksX2_add_0 22 rfl rfl
theorem dksX2_add_2 : cX2_add.data.toList.drop 46 = dktX2_add_2 := dk_seg dksX2_add_1 24 rfl rfl
theorem dksX2_add_3 : cX2_add.data.toList.drop 70 = dktX2_add_3 := dk_seg dksX2_add_2 24 rfl rfl
theorem dksX2_add_4 : cX2_add.data.toList.drop 92 = dktX2_add_4 := dk_seg dksX2_add_3 22 rfl rfl
theorem dksX2_add_5 : cX2_add.data.toList.drop 116 = dktX2_add_5 := dk_seg dksX2_add_4 24 rfl rfl
theorem dksX2_add_6 : cX2_add.data.toList.drop 140 = dktX2_add_6 := dk_seg dksX2_add_5 24 rfl rfl
theorem dksX2_add_7 : cX2_add.data.toList.drop 163 = dktX2_add_7 := dk_seg dksX2_add_6 23 rfl rfl
theorem dksX2_add_8 : cX2_add.data.toList.drop 186 = dktX2_add_8 := dk_seg dksX2_add_7 23 rfl rfl
theorem dksX2_add_9 : cX2_add.data.toList.drop 208 = dktX2_add_9 := dk_seg dksX2_add_8 22 rfl rfl
theorem dksX2_add_10 : cX2_add.data.toList.drop 232 = dktX2_add_10 := dk_seg dksX2_add_9 24 rfl rfl
theorem dksX2_add_11 : cX2_add.data.toList.drop 256 = dktX2_add_11 := dk_seg dksX2_add_10 24 rfl rfl
theorem dksX2_add_12 : cX2_add.data.toList.drop 279 = dktX2_add_12 := dk_seg dksX2_add_11 23 rfl rfl
theorem dksX2_add_13 : cX2_add.data.toList.drop 301 = dktX2_add_13 := dk_seg dksX2_add_12 22 rfl rfl
theorem dksX2_add_14 : cX2_add.data.toList.drop 325 = dktX2_add_14 := dk_seg dksX2_add_13 24 rfl rfl
theorem dksX2_add_15 : cX2_add.data.toList.drop 348 = dktX2_add_15 := dk_seg dksX2_add_14 23 rfl rfl
theorem dksX2_add_16 : cX2_add.data.toList.drop 372 = dktX2_add_16 := dk_seg dksX2_add_15 24 rfl rfl
theorem dX2_add_0 : decode cX2_add 0 = .ok (.aload_n 3, 1) := dk_45 (dk_at dksX2_add_0 0 rfl rfl)
theorem dX2_add_1 : decode cX2_add 1 = .ok (.getfield 41, 3) := dk_180 0 41 (dk_at dksX2_add_0 1 rfl rfl)
theorem dX2_add_4 : decode cX2_add 4 = .ok (.iload 4, 2) := dk_21 4 (dk_at dksX2_add_0 4 rfl rfl)
theorem dX2_add_6 : decode cX2_add 6 = .ok (.imul, 1) := dk_104 (dk_at dksX2_add_0 6 rfl rfl)
theorem dX2_add_7 : decode cX2_add 7 = .ok (.istore 5, 2) := dk_54 5 (dk_at dksX2_add_0 7 rfl rfl)
theorem dX2_add_9 : decode cX2_add 9 = .ok (.aload_n 2, 1) := dk_44 (dk_at dksX2_add_0 9 rfl rfl)
theorem dX2_add_10 : decode cX2_add 10 = .ok (.getfield 41, 3) := dk_180 0 41 (dk_at dksX2_add_0 10 rfl rfl)
theorem dX2_add_13 : decode cX2_add 13 = .ok (.ifCond .eq 17, 3) := dk_153 0 17 (dk_at dksX2_add_0 13 rfl rfl)
theorem dX2_add_16 : decode cX2_add 16 = .ok (.iload 5, 2) := dk_21 5 (dk_at dksX2_add_0 16 rfl rfl)
theorem dX2_add_18 : decode cX2_add 18 = .ok (.ifCond .eq 12, 3) := dk_153 0 12 (dk_at dksX2_add_0 18 rfl rfl)
theorem dX2_add_21 : decode cX2_add 21 = .ok (.aload_n 2, 1) := dk_44 (dk_at dksX2_add_0 21 rfl rfl)
theorem dX2_add_22 : decode cX2_add 22 = .ok (.getfield 41, 3) := dk_180 0 41 (dk_at dksX2_add_1 0 rfl rfl)
theorem dX2_add_25 : decode cX2_add 25 = .ok (.iload 5, 2) := dk_21 5 (dk_at dksX2_add_1 3 rfl rfl)
theorem dX2_add_27 : decode cX2_add 27 = .ok (.if_icmp .ne 189, 3) := dk_160 0 189 (dk_at dksX2_add_1 5 rfl rfl)
theorem dX2_add_30 : decode cX2_add 30 = .ok (.aload_n 2, 1) := dk_44 (dk_at dksX2_add_1 8 rfl rfl)
theorem dX2_add_31 : decode cX2_add 31 = .ok (.getfield 41, 3) := dk_180 0 41 (dk_at dksX2_add_1 9 rfl rfl)
theorem dX2_add_34 : decode cX2_add 34 = .ok (.ifCond .eq 10, 3) := dk_153 0 10 (dk_at dksX2_add_1 12 rfl rfl)
theorem dX2_add_37 : decode cX2_add 37 = .ok (.aload_n 2, 1) := dk_44 (dk_at dksX2_add_1 15 rfl rfl)
theorem dX2_add_38 : decode cX2_add 38 = .ok (.getfield 41, 3) := dk_180 0 41 (dk_at dksX2_add_1 16 rfl rfl)
theorem dX2_add_41 : decode cX2_add 41 = .ok (.goto 5, 3) := dk_167 0 5 (dk_at dksX2_add_1 19 rfl rfl)
theorem dX2_add_44 : decode cX2_add 44 = .ok (.iload 5, 2) := dk_21 5 (dk_at dksX2_add_1 22 rfl rfl)
theorem dX2_add_46 : decode cX2_add 46 = .ok (.istore 6, 2) := dk_54 6 (dk_at dksX2_add_2 0 rfl rfl)
theorem dX2_add_48 : decode cX2_add 48 = .ok (.lconst 0, 1) := dk_9 (dk_at dksX2_add_2 2 rfl rfl)
theorem dX2_add_49 : decode cX2_add 49 = .ok (.lstore 7, 2) := dk_55 7 (dk_at dksX2_add_2 3 rfl rfl)
theorem dX2_add_51 : decode cX2_add 51 = .ok (.aload_n 2, 1) := dk_44 (dk_at dksX2_add_2 5 rfl rfl)
theorem dX2_add_52 : decode cX2_add 52 = .ok (.getfield 34, 3) := dk_180 0 34 (dk_at dksX2_add_2 6 rfl rfl)
theorem dX2_add_55 : decode cX2_add 55 = .ok (.aload_n 3, 1) := dk_45 (dk_at dksX2_add_2 9 rfl rfl)
theorem dX2_add_56 : decode cX2_add 56 = .ok (.getfield 34, 3) := dk_180 0 34 (dk_at dksX2_add_2 10 rfl rfl)
theorem dX2_add_59 : decode cX2_add 59 = .ok (.invokestatic 44, 3) := dk_184 0 44 (dk_at dksX2_add_2 13 rfl rfl)
theorem dX2_add_62 : decode cX2_add 62 = .ok (.istore 9, 2) := dk_54 9 (dk_at dksX2_add_2 16 rfl rfl)
theorem dX2_add_64 : decode cX2_add 64 = .ok (.aload_n 2, 1) := dk_44 (dk_at dksX2_add_2 18 rfl rfl)
theorem dX2_add_65 : decode cX2_add 65 = .ok (.getfield 34, 3) := dk_180 0 34 (dk_at dksX2_add_2 19 rfl rfl)
theorem dX2_add_68 : decode cX2_add 68 = .ok (.istore 10, 2) := dk_54 10 (dk_at dksX2_add_2 22 rfl rfl)
theorem dX2_add_70 : decode cX2_add 70 = .ok (.aload_n 3, 1) := dk_45 (dk_at dksX2_add_3 0 rfl rfl)
theorem dX2_add_71 : decode cX2_add 71 = .ok (.getfield 34, 3) := dk_180 0 34 (dk_at dksX2_add_3 1 rfl rfl)
theorem dX2_add_74 : decode cX2_add 74 = .ok (.istore 11, 2) := dk_54 11 (dk_at dksX2_add_3 4 rfl rfl)
theorem dX2_add_76 : decode cX2_add 76 = .ok (.iconst 0, 1) := dk_3 (dk_at dksX2_add_3 6 rfl rfl)
theorem dX2_add_77 : decode cX2_add 77 = .ok (.istore 12, 2) := dk_54 12 (dk_at dksX2_add_3 7 rfl rfl)
theorem dX2_add_79 : decode cX2_add 79 = .ok (.iload 12, 2) := dk_21 12 (dk_at dksX2_add_3 9 rfl rfl)
theorem dX2_add_81 : decode cX2_add 81 = .ok (.iload 9, 2) := dk_21 9 (dk_at dksX2_add_3 11 rfl rfl)
theorem dX2_add_83 : decode cX2_add 83 = .ok (.if_icmp .ge 86, 3) := dk_162 0 86 (dk_at dksX2_add_3 13 rfl rfl)
theorem dX2_add_86 : decode cX2_add 86 = .ok (.lload 7, 2) := dk_22 7 (dk_at dksX2_add_3 16 rfl rfl)
theorem dX2_add_88 : decode cX2_add 88 = .ok (.iload 12, 2) := dk_21 12 (dk_at dksX2_add_3 18 rfl rfl)
theorem dX2_add_90 : decode cX2_add 90 = .ok (.iload 10, 2) := dk_21 10 (dk_at dksX2_add_3 20 rfl rfl)
theorem dX2_add_92 : decode cX2_add 92 = .ok (.if_icmp .ge 13, 3) := dk_162 0 13 (dk_at dksX2_add_4 0 rfl rfl)
theorem dX2_add_95 : decode cX2_add 95 = .ok (.aload_n 2, 1) := dk_44 (dk_at dksX2_add_4 3 rfl rfl)
theorem dX2_add_96 : decode cX2_add 96 = .ok (.getfield 38, 3) := dk_180 0 38 (dk_at dksX2_add_4 4 rfl rfl)
theorem dX2_add_99 : decode cX2_add 99 = .ok (.iload 12, 2) := dk_21 12 (dk_at dksX2_add_4 7 rfl rfl)
theorem dX2_add_101 : decode cX2_add 101 = .ok (.iaload, 1) := dk_46 (dk_at dksX2_add_4 9 rfl rfl)
theorem dX2_add_102 : decode cX2_add 102 = .ok (.goto 4, 3) := dk_167 0 4 (dk_at dksX2_add_4 10 rfl rfl)
theorem dX2_add_105 : decode cX2_add 105 = .ok (.iconst 0, 1) := dk_3 (dk_at dksX2_add_4 13 rfl rfl)
theorem dX2_add_106 : decode cX2_add 106 = .ok (.i2l, 1) := dk_133 (dk_at dksX2_add_4 14 rfl rfl)
theorem dX2_add_107 : decode cX2_add 107 = .ok (.ladd, 1) := dk_97 (dk_at dksX2_add_4 15 rfl rfl)
theorem dX2_add_108 : decode cX2_add 108 = .ok (.iload 12, 2) := dk_21 12 (dk_at dksX2_add_4 16 rfl rfl)
theorem dX2_add_110 : decode cX2_add 110 = .ok (.iload 11, 2) := dk_21 11 (dk_at dksX2_add_4 18 rfl rfl)
theorem dX2_add_112 : decode cX2_add 112 = .ok (.if_icmp .ge 13, 3) := dk_162 0 13 (dk_at dksX2_add_4 20 rfl rfl)
theorem dX2_add_115 : decode cX2_add 115 = .ok (.aload_n 3, 1) := dk_45 (dk_at dksX2_add_4 23 rfl rfl)
theorem dX2_add_116 : decode cX2_add 116 = .ok (.getfield 38, 3) := dk_180 0 38 (dk_at dksX2_add_5 0 rfl rfl)
theorem dX2_add_119 : decode cX2_add 119 = .ok (.iload 12, 2) := dk_21 12 (dk_at dksX2_add_5 3 rfl rfl)
theorem dX2_add_121 : decode cX2_add 121 = .ok (.iaload, 1) := dk_46 (dk_at dksX2_add_5 5 rfl rfl)
theorem dX2_add_122 : decode cX2_add 122 = .ok (.goto 4, 3) := dk_167 0 4 (dk_at dksX2_add_5 6 rfl rfl)
theorem dX2_add_125 : decode cX2_add 125 = .ok (.iconst 0, 1) := dk_3 (dk_at dksX2_add_5 9 rfl rfl)
theorem dX2_add_126 : decode cX2_add 126 = .ok (.i2l, 1) := dk_133 (dk_at dksX2_add_5 10 rfl rfl)
theorem dX2_add_127 : decode cX2_add 127 = .ok (.ladd, 1) := dk_97 (dk_at dksX2_add_5 11 rfl rfl)
theorem dX2_add_128 : decode cX2_add 128 = .ok (.lstore 13, 2) := dk_55 13 (dk_at dksX2_add_5 12 rfl rfl)
theorem dX2_add_130 : decode cX2_add 130 = .ok (.lload 13, 2) := dk_22 13 (dk_at dksX2_add_5 14 rfl rfl)
theorem dX2_add_132 : decode cX2_add 132 = .ok (.ldc2_w 50, 3) := dk_20 0 50 (dk_at dksX2_add_5 16 rfl rfl)
theorem dX2_add_135 : decode cX2_add 135 = .ok (.lcmp, 1) := dk_148 (dk_at dksX2_add_5 19 rfl rfl)
theorem dX2_add_136 : decode cX2_add 136 = .ok (.ifCond .lt 7, 3) := dk_155 0 7 (dk_at dksX2_add_5 20 rfl rfl)
theorem dX2_add_139 : decode cX2_add 139 = .ok (.lconst 1, 1) := dk_10 (dk_at dksX2_add_5 23 rfl rfl)
theorem dX2_add_140 : decode cX2_add 140 = .ok (.goto 4, 3) := dk_167 0 4 (dk_at dksX2_add_6 0 rfl rfl)
theorem dX2_add_143 : decode cX2_add 143 = .ok (.lconst 0, 1) := dk_9 (dk_at dksX2_add_6 3 rfl rfl)
theorem dX2_add_144 : decode cX2_add 144 = .ok (.lstore 7, 2) := dk_55 7 (dk_at dksX2_add_6 4 rfl rfl)
theorem dX2_add_146 : decode cX2_add 146 = .ok (.aload_n 1, 1) := dk_43 (dk_at dksX2_add_6 6 rfl rfl)
theorem dX2_add_147 : decode cX2_add 147 = .ok (.getfield 38, 3) := dk_180 0 38 (dk_at dksX2_add_6 7 rfl rfl)
theorem dX2_add_150 : decode cX2_add 150 = .ok (.iload 12, 2) := dk_21 12 (dk_at dksX2_add_6 10 rfl rfl)
theorem dX2_add_152 : decode cX2_add 152 = .ok (.lload 13, 2) := dk_22 13 (dk_at dksX2_add_6 12 rfl rfl)
theorem dX2_add_154 : decode cX2_add 154 = .ok (.ldc2_w 50, 3) := dk_20 0 50 (dk_at dksX2_add_6 14 rfl rfl)
theorem dX2_add_157 : decode cX2_add 157 = .ok (.lload 7, 2) := dk_22 7 (dk_at dksX2_add_6 17 rfl rfl)
theorem dX2_add_159 : decode cX2_add 159 = .ok (.lmul, 1) := dk_105 (dk_at dksX2_add_6 19 rfl rfl)
theorem dX2_add_160 : decode cX2_add 160 = .ok (.lsub, 1) := dk_101 (dk_at dksX2_add_6 20 rfl rfl)
theorem dX2_add_161 : decode cX2_add 161 = .ok (.l2i, 1) := dk_136 (dk_at dksX2_add_6 21 rfl rfl)
theorem dX2_add_162 : decode cX2_add 162 = .ok (.iastore, 1) := dk_79 (dk_at dksX2_add_6 22 rfl rfl)
theorem dX2_add_163 : decode cX2_add 163 = .ok (.iinc 12 1, 3) := dk_132 12 1 (dk_at dksX2_add_7 0 rfl rfl)
theorem dX2_add_166 : decode cX2_add 166 = .ok (.goto (-87), 3) := dk_167 255 169 (dk_at dksX2_add_7 3 rfl rfl)
theorem dX2_add_169 : decode cX2_add 169 = .ok (.aload_n 1, 1) := dk_43 (dk_at dksX2_add_7 6 rfl rfl)
theorem dX2_add_170 : decode cX2_add 170 = .ok (.iload 9, 2) := dk_21 9 (dk_at dksX2_add_7 7 rfl rfl)
theorem dX2_add_172 : decode cX2_add 172 = .ok (.putfield 34, 3) := dk_181 0 34 (dk_at dksX2_add_7 9 rfl rfl)
theorem dX2_add_175 : decode cX2_add 175 = .ok (.lload 7, 2) := dk_22 7 (dk_at dksX2_add_7 12 rfl rfl)
theorem dX2_add_177 : decode cX2_add 177 = .ok (.lconst 0, 1) := dk_9 (dk_at dksX2_add_7 14 rfl rfl)
theorem dX2_add_178 : decode cX2_add 178 = .ok (.lcmp, 1) := dk_148 (dk_at dksX2_add_7 15 rfl rfl)
theorem dX2_add_179 : decode cX2_add 179 = .ok (.ifCond .le 19, 3) := dk_158 0 19 (dk_at dksX2_add_7 16 rfl rfl)
theorem dX2_add_182 : decode cX2_add 182 = .ok (.aload_n 1, 1) := dk_43 (dk_at dksX2_add_7 19 rfl rfl)
theorem dX2_add_183 : decode cX2_add 183 = .ok (.getfield 38, 3) := dk_180 0 38 (dk_at dksX2_add_7 20 rfl rfl)
theorem dX2_add_186 : decode cX2_add 186 = .ok (.iload 9, 2) := dk_21 9 (dk_at dksX2_add_8 0 rfl rfl)
theorem dX2_add_188 : decode cX2_add 188 = .ok (.iconst 1, 1) := dk_4 (dk_at dksX2_add_8 2 rfl rfl)
theorem dX2_add_189 : decode cX2_add 189 = .ok (.iastore, 1) := dk_79 (dk_at dksX2_add_8 3 rfl rfl)
theorem dX2_add_190 : decode cX2_add 190 = .ok (.aload_n 1, 1) := dk_43 (dk_at dksX2_add_8 4 rfl rfl)
theorem dX2_add_191 : decode cX2_add 191 = .ok (.iload 9, 2) := dk_21 9 (dk_at dksX2_add_8 5 rfl rfl)
theorem dX2_add_193 : decode cX2_add 193 = .ok (.iconst 1, 1) := dk_4 (dk_at dksX2_add_8 7 rfl rfl)
theorem dX2_add_194 : decode cX2_add 194 = .ok (.iadd, 1) := dk_96 (dk_at dksX2_add_8 8 rfl rfl)
theorem dX2_add_195 : decode cX2_add 195 = .ok (.putfield 34, 3) := dk_181 0 34 (dk_at dksX2_add_8 9 rfl rfl)
theorem dX2_add_198 : decode cX2_add 198 = .ok (.aload_n 1, 1) := dk_43 (dk_at dksX2_add_8 12 rfl rfl)
theorem dX2_add_199 : decode cX2_add 199 = .ok (.aload_n 1, 1) := dk_43 (dk_at dksX2_add_8 13 rfl rfl)
theorem dX2_add_200 : decode cX2_add 200 = .ok (.getfield 34, 3) := dk_180 0 34 (dk_at dksX2_add_8 14 rfl rfl)
theorem dX2_add_203 : decode cX2_add 203 = .ok (.ifCond .le 8, 3) := dk_158 0 8 (dk_at dksX2_add_8 17 rfl rfl)
theorem dX2_add_206 : decode cX2_add 206 = .ok (.iload 6, 2) := dk_21 6 (dk_at dksX2_add_8 20 rfl rfl)
theorem dX2_add_208 : decode cX2_add 208 = .ok (.goto 4, 3) := dk_167 0 4 (dk_at dksX2_add_9 0 rfl rfl)
theorem dX2_add_211 : decode cX2_add 211 = .ok (.iconst 0, 1) := dk_3 (dk_at dksX2_add_9 3 rfl rfl)
theorem dX2_add_212 : decode cX2_add 212 = .ok (.putfield 41, 3) := dk_181 0 41 (dk_at dksX2_add_9 4 rfl rfl)
theorem dX2_add_215 : decode cX2_add 215 = .ok (.return_, 1) := dk_177 (dk_at dksX2_add_9 7 rfl rfl)
theorem dX2_add_216 : decode cX2_add 216 = .ok (.aload_n 0, 1) := dk_42 (dk_at dksX2_add_9 8 rfl rfl)
theorem dX2_add_217 : decode cX2_add 217 = .ok (.aload_n 2, 1) := dk_44 (dk_at dksX2_add_9 9 rfl rfl)
theorem dX2_add_218 : decode cX2_add 218 = .ok (.aload_n 3, 1) := dk_45 (dk_at dksX2_add_9 10 rfl rfl)
theorem dX2_add_219 : decode cX2_add 219 = .ok (.invokevirtual 52, 3) := dk_182 0 52 (dk_at dksX2_add_9 11 rfl rfl)
theorem dX2_add_222 : decode cX2_add 222 = .ok (.ifCond .lt 7, 3) := dk_155 0 7 (dk_at dksX2_add_9 14 rfl rfl)
theorem dX2_add_225 : decode cX2_add 225 = .ok (.iconst 1, 1) := dk_4 (dk_at dksX2_add_9 17 rfl rfl)
theorem dX2_add_226 : decode cX2_add 226 = .ok (.goto 4, 3) := dk_167 0 4 (dk_at dksX2_add_9 18 rfl rfl)
theorem dX2_add_229 : decode cX2_add 229 = .ok (.iconst 0, 1) := dk_3 (dk_at dksX2_add_9 21 rfl rfl)
theorem dX2_add_230 : decode cX2_add 230 = .ok (.istore 6, 2) := dk_54 6 (dk_at dksX2_add_9 22 rfl rfl)
theorem dX2_add_232 : decode cX2_add 232 = .ok (.iload 6, 2) := dk_21 6 (dk_at dksX2_add_10 0 rfl rfl)
theorem dX2_add_234 : decode cX2_add 234 = .ok (.ifCond .eq 7, 3) := dk_153 0 7 (dk_at dksX2_add_10 2 rfl rfl)
theorem dX2_add_237 : decode cX2_add 237 = .ok (.aload_n 2, 1) := dk_44 (dk_at dksX2_add_10 5 rfl rfl)
theorem dX2_add_238 : decode cX2_add 238 = .ok (.goto 4, 3) := dk_167 0 4 (dk_at dksX2_add_10 6 rfl rfl)
theorem dX2_add_241 : decode cX2_add 241 = .ok (.aload_n 3, 1) := dk_45 (dk_at dksX2_add_10 9 rfl rfl)
theorem dX2_add_242 : decode cX2_add 242 = .ok (.astore 7, 2) := dk_58 7 (dk_at dksX2_add_10 10 rfl rfl)
theorem dX2_add_244 : decode cX2_add 244 = .ok (.iload 6, 2) := dk_21 6 (dk_at dksX2_add_10 12 rfl rfl)
theorem dX2_add_246 : decode cX2_add 246 = .ok (.ifCond .eq 7, 3) := dk_153 0 7 (dk_at dksX2_add_10 14 rfl rfl)
theorem dX2_add_249 : decode cX2_add 249 = .ok (.aload_n 3, 1) := dk_45 (dk_at dksX2_add_10 17 rfl rfl)
theorem dX2_add_250 : decode cX2_add 250 = .ok (.goto 4, 3) := dk_167 0 4 (dk_at dksX2_add_10 18 rfl rfl)
theorem dX2_add_253 : decode cX2_add 253 = .ok (.aload_n 2, 1) := dk_44 (dk_at dksX2_add_10 21 rfl rfl)
theorem dX2_add_254 : decode cX2_add 254 = .ok (.astore 8, 2) := dk_58 8 (dk_at dksX2_add_10 22 rfl rfl)
theorem dX2_add_256 : decode cX2_add 256 = .ok (.iload 6, 2) := dk_21 6 (dk_at dksX2_add_11 0 rfl rfl)
theorem dX2_add_258 : decode cX2_add 258 = .ok (.ifCond .eq 10, 3) := dk_153 0 10 (dk_at dksX2_add_11 2 rfl rfl)
theorem dX2_add_261 : decode cX2_add 261 = .ok (.aload_n 2, 1) := dk_44 (dk_at dksX2_add_11 5 rfl rfl)
theorem dX2_add_262 : decode cX2_add 262 = .ok (.getfield 41, 3) := dk_180 0 41 (dk_at dksX2_add_11 6 rfl rfl)
theorem dX2_add_265 : decode cX2_add 265 = .ok (.goto 5, 3) := dk_167 0 5 (dk_at dksX2_add_11 9 rfl rfl)
theorem dX2_add_268 : decode cX2_add 268 = .ok (.iload 5, 2) := dk_21 5 (dk_at dksX2_add_11 12 rfl rfl)
theorem dX2_add_270 : decode cX2_add 270 = .ok (.istore 9, 2) := dk_54 9 (dk_at dksX2_add_11 14 rfl rfl)
theorem dX2_add_272 : decode cX2_add 272 = .ok (.aload 7, 2) := dk_25 7 (dk_at dksX2_add_11 16 rfl rfl)
theorem dX2_add_274 : decode cX2_add 274 = .ok (.getfield 34, 3) := dk_180 0 34 (dk_at dksX2_add_11 18 rfl rfl)
theorem dX2_add_277 : decode cX2_add 277 = .ok (.istore 10, 2) := dk_54 10 (dk_at dksX2_add_11 21 rfl rfl)
theorem dX2_add_279 : decode cX2_add 279 = .ok (.aload 8, 2) := dk_25 8 (dk_at dksX2_add_12 0 rfl rfl)
theorem dX2_add_281 : decode cX2_add 281 = .ok (.getfield 34, 3) := dk_180 0 34 (dk_at dksX2_add_12 2 rfl rfl)
theorem dX2_add_284 : decode cX2_add 284 = .ok (.istore 11, 2) := dk_54 11 (dk_at dksX2_add_12 5 rfl rfl)
theorem dX2_add_286 : decode cX2_add 286 = .ok (.iconst 0, 1) := dk_3 (dk_at dksX2_add_12 7 rfl rfl)
theorem dX2_add_287 : decode cX2_add 287 = .ok (.istore 12, 2) := dk_54 12 (dk_at dksX2_add_12 8 rfl rfl)
theorem dX2_add_289 : decode cX2_add 289 = .ok (.iconst 0, 1) := dk_3 (dk_at dksX2_add_12 10 rfl rfl)
theorem dX2_add_290 : decode cX2_add 290 = .ok (.istore 13, 2) := dk_54 13 (dk_at dksX2_add_12 11 rfl rfl)
theorem dX2_add_292 : decode cX2_add 292 = .ok (.iload 13, 2) := dk_21 13 (dk_at dksX2_add_12 13 rfl rfl)
theorem dX2_add_294 : decode cX2_add 294 = .ok (.iload 10, 2) := dk_21 10 (dk_at dksX2_add_12 15 rfl rfl)
theorem dX2_add_296 : decode cX2_add 296 = .ok (.if_icmp .ge 76, 3) := dk_162 0 76 (dk_at dksX2_add_12 17 rfl rfl)
theorem dX2_add_299 : decode cX2_add 299 = .ok (.aload 7, 2) := dk_25 7 (dk_at dksX2_add_12 20 rfl rfl)
theorem dX2_add_301 : decode cX2_add 301 = .ok (.getfield 38, 3) := dk_180 0 38 (dk_at dksX2_add_13 0 rfl rfl)
theorem dX2_add_304 : decode cX2_add 304 = .ok (.iload 13, 2) := dk_21 13 (dk_at dksX2_add_13 3 rfl rfl)
theorem dX2_add_306 : decode cX2_add 306 = .ok (.iaload, 1) := dk_46 (dk_at dksX2_add_13 5 rfl rfl)
theorem dX2_add_307 : decode cX2_add 307 = .ok (.iload 13, 2) := dk_21 13 (dk_at dksX2_add_13 6 rfl rfl)
theorem dX2_add_309 : decode cX2_add 309 = .ok (.iload 11, 2) := dk_21 11 (dk_at dksX2_add_13 8 rfl rfl)
theorem dX2_add_311 : decode cX2_add 311 = .ok (.if_icmp .ge 14, 3) := dk_162 0 14 (dk_at dksX2_add_13 10 rfl rfl)
theorem dX2_add_314 : decode cX2_add 314 = .ok (.aload 8, 2) := dk_25 8 (dk_at dksX2_add_13 13 rfl rfl)
theorem dX2_add_316 : decode cX2_add 316 = .ok (.getfield 38, 3) := dk_180 0 38 (dk_at dksX2_add_13 15 rfl rfl)
theorem dX2_add_319 : decode cX2_add 319 = .ok (.iload 13, 2) := dk_21 13 (dk_at dksX2_add_13 18 rfl rfl)
theorem dX2_add_321 : decode cX2_add 321 = .ok (.iaload, 1) := dk_46 (dk_at dksX2_add_13 20 rfl rfl)
theorem dX2_add_322 : decode cX2_add 322 = .ok (.goto 4, 3) := dk_167 0 4 (dk_at dksX2_add_13 21 rfl rfl)
theorem dX2_add_325 : decode cX2_add 325 = .ok (.iconst 0, 1) := dk_3 (dk_at dksX2_add_14 0 rfl rfl)
theorem dX2_add_326 : decode cX2_add 326 = .ok (.isub, 1) := dk_100 (dk_at dksX2_add_14 1 rfl rfl)
theorem dX2_add_327 : decode cX2_add 327 = .ok (.iload 12, 2) := dk_21 12 (dk_at dksX2_add_14 2 rfl rfl)
theorem dX2_add_329 : decode cX2_add 329 = .ok (.isub, 1) := dk_100 (dk_at dksX2_add_14 4 rfl rfl)
theorem dX2_add_330 : decode cX2_add 330 = .ok (.istore 14, 2) := dk_54 14 (dk_at dksX2_add_14 5 rfl rfl)
theorem dX2_add_332 : decode cX2_add 332 = .ok (.iload 14, 2) := dk_21 14 (dk_at dksX2_add_14 7 rfl rfl)
theorem dX2_add_334 : decode cX2_add 334 = .ok (.ifCond .ge 7, 3) := dk_156 0 7 (dk_at dksX2_add_14 9 rfl rfl)
theorem dX2_add_337 : decode cX2_add 337 = .ok (.iconst 1, 1) := dk_4 (dk_at dksX2_add_14 12 rfl rfl)
theorem dX2_add_338 : decode cX2_add 338 = .ok (.goto 4, 3) := dk_167 0 4 (dk_at dksX2_add_14 13 rfl rfl)
theorem dX2_add_341 : decode cX2_add 341 = .ok (.iconst 0, 1) := dk_3 (dk_at dksX2_add_14 16 rfl rfl)
theorem dX2_add_342 : decode cX2_add 342 = .ok (.istore 12, 2) := dk_54 12 (dk_at dksX2_add_14 17 rfl rfl)
theorem dX2_add_344 : decode cX2_add 344 = .ok (.aload_n 1, 1) := dk_43 (dk_at dksX2_add_14 19 rfl rfl)
theorem dX2_add_345 : decode cX2_add 345 = .ok (.getfield 38, 3) := dk_180 0 38 (dk_at dksX2_add_14 20 rfl rfl)
theorem dX2_add_348 : decode cX2_add 348 = .ok (.iload 13, 2) := dk_21 13 (dk_at dksX2_add_15 0 rfl rfl)
theorem dX2_add_350 : decode cX2_add 350 = .ok (.iload 14, 2) := dk_21 14 (dk_at dksX2_add_15 2 rfl rfl)
theorem dX2_add_352 : decode cX2_add 352 = .ok (.ifCond .ge 11, 3) := dk_156 0 11 (dk_at dksX2_add_15 4 rfl rfl)
theorem dX2_add_355 : decode cX2_add 355 = .ok (.iload 14, 2) := dk_21 14 (dk_at dksX2_add_15 7 rfl rfl)
theorem dX2_add_357 : decode cX2_add 357 = .ok (.ldc 56, 2) := dk_18 56 (dk_at dksX2_add_15 9 rfl rfl)
theorem dX2_add_359 : decode cX2_add 359 = .ok (.iadd, 1) := dk_96 (dk_at dksX2_add_15 11 rfl rfl)
theorem dX2_add_360 : decode cX2_add 360 = .ok (.goto 5, 3) := dk_167 0 5 (dk_at dksX2_add_15 12 rfl rfl)
theorem dX2_add_363 : decode cX2_add 363 = .ok (.iload 14, 2) := dk_21 14 (dk_at dksX2_add_15 15 rfl rfl)
theorem dX2_add_365 : decode cX2_add 365 = .ok (.iastore, 1) := dk_79 (dk_at dksX2_add_15 17 rfl rfl)
theorem dX2_add_366 : decode cX2_add 366 = .ok (.iinc 13 1, 3) := dk_132 13 1 (dk_at dksX2_add_15 18 rfl rfl)
theorem dX2_add_369 : decode cX2_add 369 = .ok (.goto (-77), 3) := dk_167 255 179 (dk_at dksX2_add_15 21 rfl rfl)
theorem dX2_add_372 : decode cX2_add 372 = .ok (.aload_n 1, 1) := dk_43 (dk_at dksX2_add_16 0 rfl rfl)
theorem dX2_add_373 : decode cX2_add 373 = .ok (.iload 10, 2) := dk_21 10 (dk_at dksX2_add_16 1 rfl rfl)
theorem dX2_add_375 : decode cX2_add 375 = .ok (.putfield 34, 3) := dk_181 0 34 (dk_at dksX2_add_16 3 rfl rfl)
theorem dX2_add_378 : decode cX2_add 378 = .ok (.aload_n 1, 1) := dk_43 (dk_at dksX2_add_16 6 rfl rfl)
theorem dX2_add_379 : decode cX2_add 379 = .ok (.iload 9, 2) := dk_21 9 (dk_at dksX2_add_16 7 rfl rfl)
theorem dX2_add_381 : decode cX2_add 381 = .ok (.putfield 41, 3) := dk_181 0 41 (dk_at dksX2_add_16 9 rfl rfl)
theorem dX2_add_384 : decode cX2_add 384 = .ok (.aload_n 1, 1) := dk_43 (dk_at dksX2_add_16 12 rfl rfl)
theorem dX2_add_385 : decode cX2_add 385 = .ok (.invokevirtual 57, 3) := dk_182 0 57 (dk_at dksX2_add_16 13 rfl rfl)
theorem dX2_add_388 : decode cX2_add 388 = .ok (.return_, 1) := dk_177 (dk_at dksX2_add_16 16 rfl rfl)
theorem q101 : (Jvm.Cond.initialized "IdealCourt$Reckoner") ∈ lw_all := lw_g (lw_at lw_m1 3 rfl) rfl
theorem q167 : (Jvm.Cond.instantiable "IdealCourt$Reckoner" (6 : Nat)) ∈ lw_all := lw_g (lw_at lw_m1 69 rfl) rfl
theorem q169 : (Jvm.Cond.instanceMethod ({ cls := "IdealCourt$Reckoner", name := "<init>", desc := "()V" } : Jvm.MethodName)) ∈ lw_all := lw_g (lw_at lw_m1 71 rfl) rfl
theorem q170 : (Jvm.Cond.code ({ cls := "IdealCourt$Reckoner", name := "<init>", desc := "()V" } : Jvm.MethodName) prog_12_method_1_code (1 : Nat) (Option.none : Option Jvm.ClassFile.FieldType)) ∈ lw_all := lw_g (lw_at lw_m1 72 rfl) rfl
theorem q171 : (Jvm.Cond.methodLink "IdealCourt$Reckoner" (1 : Nat) ({ cls := "java/lang/Object", name := "<init>", desc := "()V" } : Jvm.MethodName)) ∈ lw_all := lw_g (lw_at lw_m1 73 rfl) rfl
theorem q172 : (Jvm.Cond.classLink "IdealCourt$Reckoner" (16 : Nat) "IdealCourt$Whole") ∈ lw_all := lw_g (lw_at lw_m1 74 rfl) rfl
theorem q174 : (Jvm.Cond.methodLink "IdealCourt$Reckoner" (18 : Nat) ({ cls := "IdealCourt$Whole", name := "<init>", desc := "(I)V" } : Jvm.MethodName)) ∈ lw_all := lw_g (lw_at lw_m1 76 rfl) rfl
theorem q179 : (Jvm.Cond.fieldLinkNest "IdealCourt$Reckoner" (38 : Nat) "IdealCourt$Whole" "digits" "[I" "IdealCourt") ∈ lw_tbl := lw_at lw_m1 81 rfl
theorem q184 : (Jvm.Cond.fieldLinkNest "IdealCourt$Reckoner" (34 : Nat) "IdealCourt$Whole" "size" "I" "IdealCourt") ∈ lw_tbl := lw_at lw_m1 86 rfl
theorem q191 : (Jvm.Cond.fieldLinkNest "IdealCourt$Reckoner" (41 : Nat) "IdealCourt$Whole" "sign" "I" "IdealCourt") ∈ lw_tbl := lw_at lw_m1 93 rfl
theorem q204 : (Jvm.Cond.fieldLink "IdealCourt$Reckoner" (9 : Nat) "IdealCourt$Reckoner" "u" "[I") ∈ lw_all := lw_g (lw_at lw_m1 106 rfl) rfl
theorem q205 : (Jvm.Cond.fieldLink "IdealCourt$Reckoner" (13 : Nat) "IdealCourt$Reckoner" "v" "[I") ∈ lw_all := lw_g (lw_at lw_m1 107 rfl) rfl
theorem q206 : (Jvm.Cond.fieldLink "IdealCourt$Reckoner" (21 : Nat) "IdealCourt$Reckoner" "quotient" "LIdealCourt$Whole;") ∈ lw_all := lw_g (lw_at lw_m1 108 rfl) rfl
theorem q207 : (Jvm.Cond.fieldLink "IdealCourt$Reckoner" (25 : Nat) "IdealCourt$Reckoner" "rest" "LIdealCourt$Whole;") ∈ lw_all := lw_g (lw_at lw_m1 109 rfl) rfl
theorem q208 : (Jvm.Cond.fieldLink "IdealCourt$Reckoner" (28 : Nat) "IdealCourt$Reckoner" "one" "LIdealCourt$Whole;") ∈ lw_all := lw_g (lw_at lw_m1 110 rfl) rfl
theorem q209 : (Jvm.Cond.fieldLink "IdealCourt$Reckoner" (31 : Nat) "IdealCourt$Reckoner" "other" "LIdealCourt$Whole;") ∈ lw_all := lw_g (lw_at lw_m1 111 rfl) rfl
theorem q210 : (Jvm.Cond.laysFinal "IdealCourt$Reckoner" "IdealCourt$Reckoner" "u" "[I") ∈ lw_all := lw_g (lw_at lw_m1 112 rfl) rfl
theorem q211 : (Jvm.Cond.soleField "IdealCourt$Reckoner" "u") ∈ lw_all := lw_g (lw_at lw_m1 113 rfl) rfl
theorem q212 : (Jvm.Cond.laysFinal "IdealCourt$Reckoner" "IdealCourt$Reckoner" "v" "[I") ∈ lw_all := lw_g (lw_at lw_m1 114 rfl) rfl
theorem q213 : (Jvm.Cond.soleField "IdealCourt$Reckoner" "v") ∈ lw_all := lw_g (lw_at lw_m1 115 rfl) rfl
theorem q214 : (Jvm.Cond.laysFinal "IdealCourt$Reckoner" "IdealCourt$Reckoner" "quotient" "LIdealCourt$Whole;") ∈ lw_all := lw_g (lw_at lw_m1 116 rfl) rfl
theorem q215 : (Jvm.Cond.soleField "IdealCourt$Reckoner" "quotient") ∈ lw_all := lw_g (lw_at lw_m1 117 rfl) rfl
theorem q216 : (Jvm.Cond.laysFinal "IdealCourt$Reckoner" "IdealCourt$Reckoner" "rest" "LIdealCourt$Whole;") ∈ lw_all := lw_g (lw_at lw_m1 118 rfl) rfl
theorem q217 : (Jvm.Cond.soleField "IdealCourt$Reckoner" "rest") ∈ lw_all := lw_g (lw_at lw_m1 119 rfl) rfl
theorem q218 : (Jvm.Cond.laysFinal "IdealCourt$Reckoner" "IdealCourt$Reckoner" "one" "LIdealCourt$Whole;") ∈ lw_all := lw_g (lw_at lw_m1 120 rfl) rfl
theorem q219 : (Jvm.Cond.soleField "IdealCourt$Reckoner" "one") ∈ lw_all := lw_g (lw_at lw_m1 121 rfl) rfl
theorem q220 : (Jvm.Cond.laysFinal "IdealCourt$Reckoner" "IdealCourt$Reckoner" "other" "LIdealCourt$Whole;") ∈ lw_all := lw_g (lw_at lw_m1 122 rfl) rfl
theorem q221 : (Jvm.Cond.soleField "IdealCourt$Reckoner" "other") ∈ lw_all := lw_g (lw_at lw_m1 123 rfl) rfl
theorem q222 : (Jvm.Cond.superclass "IdealCourt$Reckoner" "java/lang/Object") ∈ lw_all := lw_g (lw_at lw_m1 124 rfl) rfl
theorem q924 : (Jvm.Cond.instanceMethod ({ cls := "IdealCourt$Reckoner", name := "common", desc := "(LIdealCourt$Whole;LIdealCourt$Whole;LIdealCourt$Whole;)V" } : Jvm.MethodName)) ∈ lw_all := lw_g (lw_at lw_m4 106 rfl) rfl
theorem q925 : (Jvm.Cond.selects "IdealCourt$Reckoner" ({ cls := "IdealCourt$Reckoner", name := "common", desc := "(LIdealCourt$Whole;LIdealCourt$Whole;LIdealCourt$Whole;)V" } : Jvm.MethodName) ({ cls := "IdealCourt$Reckoner", name := "common", desc := "(LIdealCourt$Whole;LIdealCourt$Whole;LIdealCourt$Whole;)V" } : Jvm.MethodName)) ∈ lw_all := lw_g (lw_at lw_m4 107 rfl) rfl
theorem q926 : (Jvm.Cond.code ({ cls := "IdealCourt$Reckoner", name := "common", desc := "(LIdealCourt$Whole;LIdealCourt$Whole;LIdealCourt$Whole;)V" } : Jvm.MethodName) prog_12_method_9_code (4 : Nat) (Option.none : Option Jvm.ClassFile.FieldType)) ∈ lw_all := lw_g (lw_at lw_m4 108 rfl) rfl
theorem q927 : (Jvm.Cond.methodLink "IdealCourt$Reckoner" (60 : Nat) ({ cls := "IdealCourt$Whole", name := "be", desc := "(LIdealCourt$Whole;)V" } : Jvm.MethodName)) ∈ lw_all := lw_g (lw_at lw_m4 109 rfl) rfl
theorem q931 : (Jvm.Cond.methodLink "IdealCourt$Reckoner" (75 : Nat) ({ cls := "IdealCourt$Reckoner", name := "divide", desc := "(LIdealCourt$Whole;LIdealCourt$Whole;LIdealCourt$Whole;LIdealCourt$Whole;)V" } : Jvm.MethodName)) ∈ lw_all := lw_g (lw_at lw_m4 113 rfl) rfl
theorem q932 : (Jvm.Cond.instanceMethod ({ cls := "IdealCourt$Reckoner", name := "divide", desc := "(LIdealCourt$Whole;LIdealCourt$Whole;LIdealCourt$Whole;LIdealCourt$Whole;)V" } : Jvm.MethodName)) ∈ lw_all := lw_g (lw_at lw_m4 114 rfl) rfl
theorem q933 : (Jvm.Cond.selects "IdealCourt$Reckoner" ({ cls := "IdealCourt$Reckoner", name := "divide", desc := "(LIdealCourt$Whole;LIdealCourt$Whole;LIdealCourt$Whole;LIdealCourt$Whole;)V" } : Jvm.MethodName) ({ cls := "IdealCourt$Reckoner", name := "divide", desc := "(LIdealCourt$Whole;LIdealCourt$Whole;LIdealCourt$Whole;LIdealCourt$Whole;)V" } : Jvm.MethodName)) ∈ lw_all := lw_g (lw_at lw_m4 115 rfl) rfl
theorem q934 : (Jvm.Cond.code ({ cls := "IdealCourt$Reckoner", name := "divide", desc := "(LIdealCourt$Whole;LIdealCourt$Whole;LIdealCourt$Whole;LIdealCourt$Whole;)V" } : Jvm.MethodName) prog_12_method_5_code (14 : Nat) (Option.none : Option Jvm.ClassFile.FieldType)) ∈ lw_all := lw_g (lw_at lw_m4 116 rfl) rfl
theorem q935 : (Jvm.Cond.methodLink "IdealCourt$Reckoner" (52 : Nat) ({ cls := "IdealCourt$Reckoner", name := "against", desc := "(LIdealCourt$Whole;LIdealCourt$Whole;)I" } : Jvm.MethodName)) ∈ lw_all := lw_g (lw_at lw_m4 117 rfl) rfl
theorem q936 : (Jvm.Cond.instanceMethod ({ cls := "IdealCourt$Reckoner", name := "against", desc := "(LIdealCourt$Whole;LIdealCourt$Whole;)I" } : Jvm.MethodName)) ∈ lw_all := lw_g (lw_at lw_m4 118 rfl) rfl
theorem q937 : (Jvm.Cond.selects "IdealCourt$Reckoner" ({ cls := "IdealCourt$Reckoner", name := "against", desc := "(LIdealCourt$Whole;LIdealCourt$Whole;)I" } : Jvm.MethodName) ({ cls := "IdealCourt$Reckoner", name := "against", desc := "(LIdealCourt$Whole;LIdealCourt$Whole;)I" } : Jvm.MethodName)) ∈ lw_all := lw_g (lw_at lw_m4 119 rfl) rfl
theorem q938 : (Jvm.Cond.code ({ cls := "IdealCourt$Reckoner", name := "against", desc := "(LIdealCourt$Whole;LIdealCourt$Whole;)I" } : Jvm.MethodName) prog_12_method_2_code (4 : Nat) (Option.some Jvm.ClassFile.FieldType.int)) ∈ lw_all := lw_g (lw_at lw_m4 120 rfl) rfl
theorem q939 : (Jvm.Cond.methodLink "IdealCourt$Reckoner" (64 : Nat) ({ cls := "IdealCourt$Whole", name := "set", desc := "(J)V" } : Jvm.MethodName)) ∈ lw_all := lw_g (lw_at lw_m4 121 rfl) rfl
theorem q940 : (Jvm.Cond.constantLong "IdealCourt$Reckoner" (50 : Nat) (1000000000 : Int64)) ∈ lw_all := lw_g (lw_at lw_m4 122 rfl) rfl
theorem q941 : (Jvm.Cond.methodLink "IdealCourt$Reckoner" (68 : Nat) ({ cls := "IdealCourt$Reckoner", name := "scale", desc := "([ILIdealCourt$Whole;J)V" } : Jvm.MethodName)) ∈ lw_all := lw_g (lw_at lw_m4 123 rfl) rfl
theorem q942 : (Jvm.Cond.privateMethod ({ cls := "IdealCourt$Reckoner", name := "scale", desc := "([ILIdealCourt$Whole;J)V" } : Jvm.MethodName)) ∈ lw_tbl := lw_at lw_m4 124 rfl
theorem q943 : (Jvm.Cond.instanceMethod ({ cls := "IdealCourt$Reckoner", name := "scale", desc := "([ILIdealCourt$Whole;J)V" } : Jvm.MethodName)) ∈ lw_all := lw_g (lw_at lw_m4 125 rfl) rfl
theorem q944 : (Jvm.Cond.code ({ cls := "IdealCourt$Reckoner", name := "scale", desc := "([ILIdealCourt$Whole;J)V" } : Jvm.MethodName) prog_12_method_6_code (10 : Nat) (Option.none : Option Jvm.ClassFile.FieldType)) ∈ lw_all := lw_g (lw_at lw_m4 126 rfl) rfl
theorem q945 : (Jvm.Cond.methodLink "IdealCourt$Reckoner" (72 : Nat) ({ cls := "IdealCourt$Reckoner", name := "digit", desc := "(II)I" } : Jvm.MethodName)) ∈ lw_all := lw_g (lw_at lw_m4 127 rfl) rfl
theorem q946 : (Jvm.Cond.privateMethod ({ cls := "IdealCourt$Reckoner", name := "digit", desc := "(II)I" } : Jvm.MethodName)) ∈ lw_tbl := lw_at lw_m4 128 rfl
theorem q947 : (Jvm.Cond.instanceMethod ({ cls := "IdealCourt$Reckoner", name := "digit", desc := "(II)I" } : Jvm.MethodName)) ∈ lw_all := lw_g (lw_at lw_m4 129 rfl) rfl
theorem q948 : (Jvm.Cond.code ({ cls := "IdealCourt$Reckoner", name := "digit", desc := "(II)I" } : Jvm.MethodName) prog_12_method_7_code (16 : Nat) (Option.some Jvm.ClassFile.FieldType.int)) ∈ lw_all := lw_g (lw_at lw_m4 130 rfl) rfl
theorem q949 : (Jvm.Cond.constant "IdealCourt$Reckoner" (56 : Nat) (1000000000 : Int32)) ∈ lw_all := lw_g (lw_at lw_m4 131 rfl) rfl
theorem q950 : (Jvm.Cond.methodLink "IdealCourt$Reckoner" (57 : Nat) ({ cls := "IdealCourt$Whole", name := "trim", desc := "()V" } : Jvm.MethodName)) ∈ lw_all := lw_g (lw_at lw_m4 132 rfl) rfl
theorem q959 : (Jvm.Cond.instanceMethod ({ cls := "IdealCourt$Reckoner", name := "part", desc := "(LIdealCourt$Whole;LIdealCourt$Whole;LIdealCourt$Whole;)V" } : Jvm.MethodName)) ∈ lw_all := lw_g (lw_at lw_m4 141 rfl) rfl
theorem q960 : (Jvm.Cond.selects "IdealCourt$Reckoner" ({ cls := "IdealCourt$Reckoner", name := "part", desc := "(LIdealCourt$Whole;LIdealCourt$Whole;LIdealCourt$Whole;)V" } : Jvm.MethodName) ({ cls := "IdealCourt$Reckoner", name := "part", desc := "(LIdealCourt$Whole;LIdealCourt$Whole;LIdealCourt$Whole;)V" } : Jvm.MethodName)) ∈ lw_all := lw_g (lw_at lw_m4 142 rfl) rfl
theorem q961 : (Jvm.Cond.code ({ cls := "IdealCourt$Reckoner", name := "part", desc := "(LIdealCourt$Whole;LIdealCourt$Whole;LIdealCourt$Whole;)V" } : Jvm.MethodName) prog_12_method_8_code (4 : Nat) (Option.none : Option Jvm.ClassFile.FieldType)) ∈ lw_all := lw_g (lw_at lw_m4 143 rfl) rfl
theorem q967 : (Jvm.Cond.instanceMethod ({ cls := "IdealCourt$Reckoner", name := "times", desc := "(LIdealCourt$Whole;LIdealCourt$Whole;LIdealCourt$Whole;)V" } : Jvm.MethodName)) ∈ lw_all := lw_g (lw_at lw_m4 149 rfl) rfl
theorem q968 : (Jvm.Cond.selects "IdealCourt$Reckoner" ({ cls := "IdealCourt$Reckoner", name := "times", desc := "(LIdealCourt$Whole;LIdealCourt$Whole;LIdealCourt$Whole;)V" } : Jvm.MethodName) ({ cls := "IdealCourt$Reckoner", name := "times", desc := "(LIdealCourt$Whole;LIdealCourt$Whole;LIdealCourt$Whole;)V" } : Jvm.MethodName)) ∈ lw_all := lw_g (lw_at lw_m4 150 rfl) rfl
theorem q969 : (Jvm.Cond.code ({ cls := "IdealCourt$Reckoner", name := "times", desc := "(LIdealCourt$Whole;LIdealCourt$Whole;LIdealCourt$Whole;)V" } : Jvm.MethodName) prog_12_method_4_code (13 : Nat) (Option.none : Option Jvm.ClassFile.FieldType)) ∈ lw_all := lw_g (lw_at lw_m4 151 rfl) rfl
theorem q971 : (Jvm.Cond.instanceMethod ({ cls := "IdealCourt$Reckoner", name := "add", desc := "(LIdealCourt$Whole;LIdealCourt$Whole;LIdealCourt$Whole;I)V" } : Jvm.MethodName)) ∈ lw_all := lw_g (lw_at lw_m4 153 rfl) rfl
theorem q972 : (Jvm.Cond.selects "IdealCourt$Reckoner" ({ cls := "IdealCourt$Reckoner", name := "add", desc := "(LIdealCourt$Whole;LIdealCourt$Whole;LIdealCourt$Whole;I)V" } : Jvm.MethodName) ({ cls := "IdealCourt$Reckoner", name := "add", desc := "(LIdealCourt$Whole;LIdealCourt$Whole;LIdealCourt$Whole;I)V" } : Jvm.MethodName)) ∈ lw_all := lw_g (lw_at lw_m4 154 rfl) rfl
theorem q973 : (Jvm.Cond.code ({ cls := "IdealCourt$Reckoner", name := "add", desc := "(LIdealCourt$Whole;LIdealCourt$Whole;LIdealCourt$Whole;I)V" } : Jvm.MethodName) prog_12_method_3_code (15 : Nat) (Option.none : Option Jvm.ClassFile.FieldType)) ∈ lw_all := lw_g (lw_at lw_m4 155 rfl) rfl
theorem q974 : (Jvm.Cond.methodLink "IdealCourt$Reckoner" (44 : Nat) ({ cls := "java/lang/Math", name := "max", desc := "(II)I" } : Jvm.MethodName)) ∈ lw_all := lw_g (lw_at lw_m4 156 rfl) rfl
theorem in_X2 : ∀ w ∈ wsX20, w ∈ lw_all := lw_in wsX20 [210, 212, 214, 216, 218, 220] (by decide +kernel) (by decide +kernel)
