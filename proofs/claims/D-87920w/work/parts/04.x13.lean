/-! IdealCourt$Real -/
set_option maxRecDepth 100000
def RX13 : String := "IdealCourt$Real"
def TX13 : u_T := fun k => match k with
  | 0 => ("IdealCourt$Real", "numbers", "[I", true)
  | 1 => ("IdealCourt$Real", "degree", "I", false)
  | 2 => ("IdealCourt$Real", "halved", "I", false)
  | 3 => ("IdealCourt$Real", "since", "I", false)
  | _ => ("IdealCourt$Real", "which", "LIdealCourt$Whole;", true)
def tyX13 : Nat → FieldType := fun k => match k with
  | 0 => .array .int
  | 1 => .int
  | 2 => .int
  | 3 => .int
  | _ => .object "IdealCourt$Whole"
abbrev wsX130 : List Cond := u_ws RX13 TX13 5
theorem nmX13 : ∀ a, a < 5 → ∀ b, b < 5 → a ≠ b → (TX13 a).2.1 ≠ (TX13 b).2.1 := by decide +kernel
theorem tyX13_ok : ∀ k, k < 5 → parseFieldDescriptor (TX13 k).2.2.1 = some (tyX13 k) := by decide +kernel
abbrev cX13_init : ByteArray := prog_11_method_1_code
def yX13_init : MethodName := ⟨RX13, "<init>", "()V"⟩
def dkwX13_init_1 : List UInt8 := [181, 0, 20, 177]
abbrev dktX13_init_1 : List UInt8 := dkwX13_init_1 ++ []
def dkwX13_init_0 : List UInt8 := [42, 183, 0, 3, 42, 16, 9, 188, 10, 181, 0, 9, 42, 187, 0, 15, 89, 16, 32, 183, 0, 17]
abbrev dktX13_init_0 : List UInt8 := dkwX13_init_0 ++ dktX13_init_1
theorem dksX13_init_0 : cX13_init.data.toList.drop 0 = dktX13_init_0 := by decide +kernel
theorem dksX13_init_1 : cX13_init.data.toList.drop 22 = dktX13_init_1 := dk_seg dksX13_init_0 22 rfl rfl
theorem dX13_init_0 : decode cX13_init 0 = .ok (.aload_n 0, 1) := dk_42 (dk_at dksX13_init_0 0 rfl rfl)
theorem dX13_init_1 : decode cX13_init 1 = .ok (.invokespecial 3, 3) := dk_183 0 3 (dk_at dksX13_init_0 1 rfl rfl)
theorem dX13_init_4 : decode cX13_init 4 = .ok (.aload_n 0, 1) := dk_42 (dk_at dksX13_init_0 4 rfl rfl)
theorem dX13_init_5 : decode cX13_init 5 = .ok (.bipush 9, 2) := dk_16 9 (dk_at dksX13_init_0 5 rfl rfl)
theorem dX13_init_7 : decode cX13_init 7 = .ok (.newarray .int, 2) := dk_188_10 (dk_at dksX13_init_0 7 rfl rfl)
theorem dX13_init_9 : decode cX13_init 9 = .ok (.putfield 9, 3) := dk_181 0 9 (dk_at dksX13_init_0 9 rfl rfl)
theorem dX13_init_12 : decode cX13_init 12 = .ok (.aload_n 0, 1) := dk_42 (dk_at dksX13_init_0 12 rfl rfl)
theorem dX13_init_13 : decode cX13_init 13 = .ok (.new 15, 3) := dk_187 0 15 (dk_at dksX13_init_0 13 rfl rfl)
theorem dX13_init_16 : decode cX13_init 16 = .ok (.dup, 1) := dk_89 (dk_at dksX13_init_0 16 rfl rfl)
theorem dX13_init_17 : decode cX13_init 17 = .ok (.bipush 32, 2) := dk_16 32 (dk_at dksX13_init_0 17 rfl rfl)
theorem dX13_init_19 : decode cX13_init 19 = .ok (.invokespecial 17, 3) := dk_183 0 17 (dk_at dksX13_init_0 19 rfl rfl)
theorem dX13_init_22 : decode cX13_init 22 = .ok (.putfield 20, 3) := dk_181 0 20 (dk_at dksX13_init_1 0 rfl rfl)
theorem dX13_init_25 : decode cX13_init 25 = .ok (.return_, 1) := dk_177 (dk_at dksX13_init_1 3 rfl rfl)
abbrev cX13_kind : ByteArray := prog_11_method_2_code
def yX13_kind : MethodName := ⟨RX13, "kind", "()I"⟩
theorem dX13_kind_0 : decode cX13_kind 0 = .ok (.iconst 3, 1) := by decide +kernel
theorem dX13_kind_1 : decode cX13_kind 1 = .ok (.ireturn, 1) := by decide +kernel
abbrev cX13_end : ByteArray := prog_11_method_5_code
def yX13_end : MethodName := ⟨RX13, "end", "(ZLIdealCourt$Whole;LIdealCourt$Whole;LIdealCourt$Reckoner;)V"⟩
def dkwX13_end_3 : List UInt8 := [182, 0, 54, 132, 5, 1, 167, 255, 239, 25, 4, 44, 44, 45, 2, 182, 0, 48, 177]
abbrev dktX13_end_3 : List UInt8 := dkwX13_end_3 ++ []
def dkwX13_end_2 : List UInt8 := [167, 255, 241, 45, 20, 0, 57, 182, 0, 44, 3, 54, 5, 21, 5, 42, 182, 0, 59, 162, 0, 14, 45, 3]
abbrev dktX13_end_2 : List UInt8 := dkwX13_end_2 ++ dktX13_end_3
def dkwX13_end_1 : List UInt8 := [182, 0, 48, 42, 180, 0, 28, 54, 5, 21, 5, 16, 8, 162, 0, 14, 44, 3, 182, 0, 54, 132, 5, 1]
abbrev dktX13_end_1 : List UInt8 := dkwX13_end_1 ++ dktX13_end_2
def dkwX13_end_0 : List UInt8 := [44, 42, 180, 0, 20, 182, 0, 34, 27, 153, 0, 17, 45, 10, 182, 0, 44, 25, 4, 44, 44, 45, 4]
abbrev dktX13_end_0 : List UInt8 := dkwX13_end_0 ++ dktX13_end_1
theorem dksX13_end_0 : cX13_end.data.toList.drop 0 = dktX13_end_0 := by decide +kernel
theorem dksX13_end_1 : cX13_end.data.toList.drop 23 = dktX13_end_1 := dk_seg dksX13_end_0 23 rfl rfl
theorem dksX13_end_2 : cX13_end.data.toList.drop 47 = dktX13_end_2 := dk_seg dksX13_end_1 24 rfl rfl
theorem dksX13_end_3 : cX13_end.data.toList.drop 71 = dktX13_end_3 := dk_seg dksX13_end_2 24 rfl rfl
theorem dX13_end_0 : decode cX13_end 0 = .ok (.aload_n 2, 1) := dk_44 (dk_at dksX13_end_0 0 rfl rfl)
theorem dX13_end_1 : decode cX13_end 1 = .ok (.aload_n 0, 1) := dk_42 (dk_at dksX13_end_0 1 rfl rfl)
theorem dX13_end_2 : decode cX13_end 2 = .ok (.getfield 20, 3) := dk_180 0 20 (dk_at dksX13_end_0 2 rfl rfl)
theorem dX13_end_5 : decode cX13_end 5 = .ok (.invokevirtual 34, 3) := dk_182 0 34 (dk_at dksX13_end_0 5 rfl rfl)
theorem dX13_end_8 : decode cX13_end 8 = .ok (.iload_n 1, 1) := dk_27 (dk_at dksX13_end_0 8 rfl rfl)
theorem dX13_end_9 : decode cX13_end 9 = .ok (.ifCond .eq 17, 3) := dk_153 0 17 (dk_at dksX13_end_0 9 rfl rfl)
theorem dX13_end_12 : decode cX13_end 12 = .ok (.aload_n 3, 1) := dk_45 (dk_at dksX13_end_0 12 rfl rfl)
theorem dX13_end_13 : decode cX13_end 13 = .ok (.lconst 1, 1) := dk_10 (dk_at dksX13_end_0 13 rfl rfl)
theorem dX13_end_14 : decode cX13_end 14 = .ok (.invokevirtual 44, 3) := dk_182 0 44 (dk_at dksX13_end_0 14 rfl rfl)
theorem dX13_end_17 : decode cX13_end 17 = .ok (.aload 4, 2) := dk_25 4 (dk_at dksX13_end_0 17 rfl rfl)
theorem dX13_end_19 : decode cX13_end 19 = .ok (.aload_n 2, 1) := dk_44 (dk_at dksX13_end_0 19 rfl rfl)
theorem dX13_end_20 : decode cX13_end 20 = .ok (.aload_n 2, 1) := dk_44 (dk_at dksX13_end_0 20 rfl rfl)
theorem dX13_end_21 : decode cX13_end 21 = .ok (.aload_n 3, 1) := dk_45 (dk_at dksX13_end_0 21 rfl rfl)
theorem dX13_end_22 : decode cX13_end 22 = .ok (.iconst 1, 1) := dk_4 (dk_at dksX13_end_0 22 rfl rfl)
theorem dX13_end_23 : decode cX13_end 23 = .ok (.invokevirtual 48, 3) := dk_182 0 48 (dk_at dksX13_end_1 0 rfl rfl)
theorem dX13_end_26 : decode cX13_end 26 = .ok (.aload_n 0, 1) := dk_42 (dk_at dksX13_end_1 3 rfl rfl)
theorem dX13_end_27 : decode cX13_end 27 = .ok (.getfield 28, 3) := dk_180 0 28 (dk_at dksX13_end_1 4 rfl rfl)
theorem dX13_end_30 : decode cX13_end 30 = .ok (.istore 5, 2) := dk_54 5 (dk_at dksX13_end_1 7 rfl rfl)
theorem dX13_end_32 : decode cX13_end 32 = .ok (.iload 5, 2) := dk_21 5 (dk_at dksX13_end_1 9 rfl rfl)
theorem dX13_end_34 : decode cX13_end 34 = .ok (.bipush 8, 2) := dk_16 8 (dk_at dksX13_end_1 11 rfl rfl)
theorem dX13_end_36 : decode cX13_end 36 = .ok (.if_icmp .ge 14, 3) := dk_162 0 14 (dk_at dksX13_end_1 13 rfl rfl)
theorem dX13_end_39 : decode cX13_end 39 = .ok (.aload_n 2, 1) := dk_44 (dk_at dksX13_end_1 16 rfl rfl)
theorem dX13_end_40 : decode cX13_end 40 = .ok (.iconst 0, 1) := dk_3 (dk_at dksX13_end_1 17 rfl rfl)
theorem dX13_end_41 : decode cX13_end 41 = .ok (.invokevirtual 54, 3) := dk_182 0 54 (dk_at dksX13_end_1 18 rfl rfl)
theorem dX13_end_44 : decode cX13_end 44 = .ok (.iinc 5 1, 3) := dk_132 5 1 (dk_at dksX13_end_1 21 rfl rfl)
theorem dX13_end_47 : decode cX13_end 47 = .ok (.goto (-15), 3) := dk_167 255 241 (dk_at dksX13_end_2 0 rfl rfl)
theorem dX13_end_50 : decode cX13_end 50 = .ok (.aload_n 3, 1) := dk_45 (dk_at dksX13_end_2 3 rfl rfl)
theorem dX13_end_51 : decode cX13_end 51 = .ok (.ldc2_w 57, 3) := dk_20 0 57 (dk_at dksX13_end_2 4 rfl rfl)
theorem dX13_end_54 : decode cX13_end 54 = .ok (.invokevirtual 44, 3) := dk_182 0 44 (dk_at dksX13_end_2 7 rfl rfl)
theorem dX13_end_57 : decode cX13_end 57 = .ok (.iconst 0, 1) := dk_3 (dk_at dksX13_end_2 10 rfl rfl)
theorem dX13_end_58 : decode cX13_end 58 = .ok (.istore 5, 2) := dk_54 5 (dk_at dksX13_end_2 11 rfl rfl)
theorem dX13_end_60 : decode cX13_end 60 = .ok (.iload 5, 2) := dk_21 5 (dk_at dksX13_end_2 13 rfl rfl)
theorem dX13_end_62 : decode cX13_end 62 = .ok (.aload_n 0, 1) := dk_42 (dk_at dksX13_end_2 15 rfl rfl)
theorem dX13_end_63 : decode cX13_end 63 = .ok (.invokevirtual 59, 3) := dk_182 0 59 (dk_at dksX13_end_2 16 rfl rfl)
theorem dX13_end_66 : decode cX13_end 66 = .ok (.if_icmp .ge 14, 3) := dk_162 0 14 (dk_at dksX13_end_2 19 rfl rfl)
theorem dX13_end_69 : decode cX13_end 69 = .ok (.aload_n 3, 1) := dk_45 (dk_at dksX13_end_2 22 rfl rfl)
theorem dX13_end_70 : decode cX13_end 70 = .ok (.iconst 0, 1) := dk_3 (dk_at dksX13_end_2 23 rfl rfl)
theorem dX13_end_71 : decode cX13_end 71 = .ok (.invokevirtual 54, 3) := dk_182 0 54 (dk_at dksX13_end_3 0 rfl rfl)
theorem dX13_end_74 : decode cX13_end 74 = .ok (.iinc 5 1, 3) := dk_132 5 1 (dk_at dksX13_end_3 3 rfl rfl)
theorem dX13_end_77 : decode cX13_end 77 = .ok (.goto (-17), 3) := dk_167 255 239 (dk_at dksX13_end_3 6 rfl rfl)
theorem dX13_end_80 : decode cX13_end 80 = .ok (.aload 4, 2) := dk_25 4 (dk_at dksX13_end_3 9 rfl rfl)
theorem dX13_end_82 : decode cX13_end 82 = .ok (.aload_n 2, 1) := dk_44 (dk_at dksX13_end_3 11 rfl rfl)
theorem dX13_end_83 : decode cX13_end 83 = .ok (.aload_n 2, 1) := dk_44 (dk_at dksX13_end_3 12 rfl rfl)
theorem dX13_end_84 : decode cX13_end 84 = .ok (.aload_n 3, 1) := dk_45 (dk_at dksX13_end_3 13 rfl rfl)
theorem dX13_end_85 : decode cX13_end 85 = .ok (.iconst (-1), 1) := dk_2 (dk_at dksX13_end_3 14 rfl rfl)
theorem dX13_end_86 : decode cX13_end 86 = .ok (.invokevirtual 48, 3) := dk_182 0 48 (dk_at dksX13_end_3 15 rfl rfl)
theorem dX13_end_89 : decode cX13_end 89 = .ok (.return_, 1) := dk_177 (dk_at dksX13_end_3 18 rfl rfl)
abbrev cX13_bits : ByteArray := prog_11_method_4_code
def yX13_bits : MethodName := ⟨RX13, "bits", "()I"⟩
def dkwX13_bits_0 : List UInt8 := [3, 42, 180, 0, 28, 16, 8, 100, 184, 0, 38, 172]
abbrev dktX13_bits_0 : List UInt8 := dkwX13_bits_0 ++ []
theorem dksX13_bits_0 : cX13_bits.data.toList.drop 0 = dktX13_bits_0 := by decide +kernel
theorem dX13_bits_0 : decode cX13_bits 0 = .ok (.iconst 0, 1) := dk_3 (dk_at dksX13_bits_0 0 rfl rfl)
theorem dX13_bits_1 : decode cX13_bits 1 = .ok (.aload_n 0, 1) := dk_42 (dk_at dksX13_bits_0 1 rfl rfl)
theorem dX13_bits_2 : decode cX13_bits 2 = .ok (.getfield 28, 3) := dk_180 0 28 (dk_at dksX13_bits_0 2 rfl rfl)
theorem dX13_bits_5 : decode cX13_bits 5 = .ok (.bipush 8, 2) := dk_16 8 (dk_at dksX13_bits_0 5 rfl rfl)
theorem dX13_bits_7 : decode cX13_bits 7 = .ok (.isub, 1) := dk_100 (dk_at dksX13_bits_0 7 rfl rfl)
theorem dX13_bits_8 : decode cX13_bits 8 = .ok (.invokestatic 38, 3) := dk_184 0 38 (dk_at dksX13_bits_0 8 rfl rfl)
theorem dX13_bits_11 : decode cX13_bits 11 = .ok (.ireturn, 1) := dk_172 (dk_at dksX13_bits_0 11 rfl rfl)
abbrev cX13_half : ByteArray := prog_11_method_6_code
def yX13_half : MethodName := ⟨RX13, "half", "(I)V"⟩
def dkwX13_half_0 : List UInt8 := [42, 89, 180, 0, 28, 4, 96, 181, 0, 28, 42, 180, 0, 20, 27, 182, 0, 54, 177]
abbrev dktX13_half_0 : List UInt8 := dkwX13_half_0 ++ []
theorem dksX13_half_0 : cX13_half.data.toList.drop 0 = dktX13_half_0 := by decide +kernel
theorem dX13_half_0 : decode cX13_half 0 = .ok (.aload_n 0, 1) := dk_42 (dk_at dksX13_half_0 0 rfl rfl)
theorem dX13_half_1 : decode cX13_half 1 = .ok (.dup, 1) := dk_89 (dk_at dksX13_half_0 1 rfl rfl)
theorem dX13_half_2 : decode cX13_half 2 = .ok (.getfield 28, 3) := dk_180 0 28 (dk_at dksX13_half_0 2 rfl rfl)
theorem dX13_half_5 : decode cX13_half 5 = .ok (.iconst 1, 1) := dk_4 (dk_at dksX13_half_0 5 rfl rfl)
theorem dX13_half_6 : decode cX13_half 6 = .ok (.iadd, 1) := dk_96 (dk_at dksX13_half_0 6 rfl rfl)
theorem dX13_half_7 : decode cX13_half 7 = .ok (.putfield 28, 3) := dk_181 0 28 (dk_at dksX13_half_0 7 rfl rfl)
theorem dX13_half_10 : decode cX13_half 10 = .ok (.aload_n 0, 1) := dk_42 (dk_at dksX13_half_0 10 rfl rfl)
theorem dX13_half_11 : decode cX13_half 11 = .ok (.getfield 20, 3) := dk_180 0 20 (dk_at dksX13_half_0 11 rfl rfl)
theorem dX13_half_14 : decode cX13_half 14 = .ok (.iload_n 1, 1) := dk_27 (dk_at dksX13_half_0 14 rfl rfl)
theorem dX13_half_15 : decode cX13_half 15 = .ok (.invokevirtual 54, 3) := dk_182 0 54 (dk_at dksX13_half_0 15 rfl rfl)
theorem dX13_half_18 : decode cX13_half 18 = .ok (.return_, 1) := dk_177 (dk_at dksX13_half_0 18 rfl rfl)
abbrev cX13_be : ByteArray := prog_11_method_3_code
def yX13_be : MethodName := ⟨RX13, "be", "(LIdealCourt$Real;)V"⟩
def dkwX13_be_2 : List UInt8 := [181, 0, 31, 42, 180, 0, 20, 43, 180, 0, 20, 182, 0, 34, 177]
abbrev dktX13_be_2 : List UInt8 := dkwX13_be_2 ++ []
def dkwX13_be_1 : List UInt8 := [167, 255, 235, 42, 43, 180, 0, 24, 181, 0, 24, 42, 43, 180, 0, 28, 181, 0, 28, 42, 43, 180, 0, 31]
abbrev dktX13_be_1 : List UInt8 := dkwX13_be_1 ++ dktX13_be_2
def dkwX13_be_0 : List UInt8 := [3, 61, 28, 16, 9, 162, 0, 21, 42, 180, 0, 9, 28, 43, 180, 0, 9, 28, 46, 79, 132, 2, 1]
abbrev dktX13_be_0 : List UInt8 := dkwX13_be_0 ++ dktX13_be_1
theorem dksX13_be_0 : cX13_be.data.toList.drop 0 = dktX13_be_0 := by decide +kernel
theorem dksX13_be_1 : cX13_be.data.toList.drop 23 = dktX13_be_1 := dk_seg dksX13_be_0 23 rfl rfl
theorem dksX13_be_2 : cX13_be.data.toList.drop 47 = dktX13_be_2 := dk_seg dksX13_be_1 24 rfl rfl
theorem dX13_be_0 : decode cX13_be 0 = .ok (.iconst 0, 1) := dk_3 (dk_at dksX13_be_0 0 rfl rfl)
theorem dX13_be_1 : decode cX13_be 1 = .ok (.istore_n 2, 1) := dk_61 (dk_at dksX13_be_0 1 rfl rfl)
theorem dX13_be_2 : decode cX13_be 2 = .ok (.iload_n 2, 1) := dk_28 (dk_at dksX13_be_0 2 rfl rfl)
theorem dX13_be_3 : decode cX13_be 3 = .ok (.bipush 9, 2) := dk_16 9 (dk_at dksX13_be_0 3 rfl rfl)
theorem dX13_be_5 : decode cX13_be 5 = .ok (.if_icmp .ge 21, 3) := dk_162 0 21 (dk_at dksX13_be_0 5 rfl rfl)
theorem dX13_be_8 : decode cX13_be 8 = .ok (.aload_n 0, 1) := dk_42 (dk_at dksX13_be_0 8 rfl rfl)
theorem dX13_be_9 : decode cX13_be 9 = .ok (.getfield 9, 3) := dk_180 0 9 (dk_at dksX13_be_0 9 rfl rfl)
theorem dX13_be_12 : decode cX13_be 12 = .ok (.iload_n 2, 1) := dk_28 (dk_at dksX13_be_0 12 rfl rfl)
theorem dX13_be_13 : decode cX13_be 13 = .ok (.aload_n 1, 1) := dk_43 (dk_at dksX13_be_0 13 rfl rfl)
theorem dX13_be_14 : decode cX13_be 14 = .ok (.getfield 9, 3) := dk_180 0 9 (dk_at dksX13_be_0 14 rfl rfl)
theorem dX13_be_17 : decode cX13_be 17 = .ok (.iload_n 2, 1) := dk_28 (dk_at dksX13_be_0 17 rfl rfl)
theorem dX13_be_18 : decode cX13_be 18 = .ok (.iaload, 1) := dk_46 (dk_at dksX13_be_0 18 rfl rfl)
theorem dX13_be_19 : decode cX13_be 19 = .ok (.iastore, 1) := dk_79 (dk_at dksX13_be_0 19 rfl rfl)
theorem dX13_be_20 : decode cX13_be 20 = .ok (.iinc 2 1, 3) := dk_132 2 1 (dk_at dksX13_be_0 20 rfl rfl)
theorem dX13_be_23 : decode cX13_be 23 = .ok (.goto (-21), 3) := dk_167 255 235 (dk_at dksX13_be_1 0 rfl rfl)
theorem dX13_be_26 : decode cX13_be 26 = .ok (.aload_n 0, 1) := dk_42 (dk_at dksX13_be_1 3 rfl rfl)
theorem dX13_be_27 : decode cX13_be 27 = .ok (.aload_n 1, 1) := dk_43 (dk_at dksX13_be_1 4 rfl rfl)
theorem dX13_be_28 : decode cX13_be 28 = .ok (.getfield 24, 3) := dk_180 0 24 (dk_at dksX13_be_1 5 rfl rfl)
theorem dX13_be_31 : decode cX13_be 31 = .ok (.putfield 24, 3) := dk_181 0 24 (dk_at dksX13_be_1 8 rfl rfl)
theorem dX13_be_34 : decode cX13_be 34 = .ok (.aload_n 0, 1) := dk_42 (dk_at dksX13_be_1 11 rfl rfl)
theorem dX13_be_35 : decode cX13_be 35 = .ok (.aload_n 1, 1) := dk_43 (dk_at dksX13_be_1 12 rfl rfl)
theorem dX13_be_36 : decode cX13_be 36 = .ok (.getfield 28, 3) := dk_180 0 28 (dk_at dksX13_be_1 13 rfl rfl)
theorem dX13_be_39 : decode cX13_be 39 = .ok (.putfield 28, 3) := dk_181 0 28 (dk_at dksX13_be_1 16 rfl rfl)
theorem dX13_be_42 : decode cX13_be 42 = .ok (.aload_n 0, 1) := dk_42 (dk_at dksX13_be_1 19 rfl rfl)
theorem dX13_be_43 : decode cX13_be 43 = .ok (.aload_n 1, 1) := dk_43 (dk_at dksX13_be_1 20 rfl rfl)
theorem dX13_be_44 : decode cX13_be 44 = .ok (.getfield 31, 3) := dk_180 0 31 (dk_at dksX13_be_1 21 rfl rfl)
theorem dX13_be_47 : decode cX13_be 47 = .ok (.putfield 31, 3) := dk_181 0 31 (dk_at dksX13_be_2 0 rfl rfl)
theorem dX13_be_50 : decode cX13_be 50 = .ok (.aload_n 0, 1) := dk_42 (dk_at dksX13_be_2 3 rfl rfl)
theorem dX13_be_51 : decode cX13_be 51 = .ok (.getfield 20, 3) := dk_180 0 20 (dk_at dksX13_be_2 4 rfl rfl)
theorem dX13_be_54 : decode cX13_be 54 = .ok (.aload_n 1, 1) := dk_43 (dk_at dksX13_be_2 7 rfl rfl)
theorem dX13_be_55 : decode cX13_be 55 = .ok (.getfield 20, 3) := dk_180 0 20 (dk_at dksX13_be_2 8 rfl rfl)
theorem dX13_be_58 : decode cX13_be 58 = .ok (.invokevirtual 34, 3) := dk_182 0 34 (dk_at dksX13_be_2 11 rfl rfl)
theorem dX13_be_61 : decode cX13_be 61 = .ok (.return_, 1) := dk_177 (dk_at dksX13_be_2 14 rfl rfl)
theorem q112 : (Jvm.Cond.initialized "IdealCourt$Real") ∈ lw_all := lw_g (lw_at lw_m1 14 rfl) rfl
theorem q481 : (Jvm.Cond.instantiable "IdealCourt$Real" (5 : Nat)) ∈ lw_all := lw_g (lw_at lw_m2 143 rfl) rfl
theorem q483 : (Jvm.Cond.instanceMethod ({ cls := "IdealCourt$Real", name := "<init>", desc := "()V" } : Jvm.MethodName)) ∈ lw_all := lw_g (lw_at lw_m2 145 rfl) rfl
theorem q484 : (Jvm.Cond.code ({ cls := "IdealCourt$Real", name := "<init>", desc := "()V" } : Jvm.MethodName) prog_11_method_1_code (1 : Nat) (Option.none : Option Jvm.ClassFile.FieldType)) ∈ lw_all := lw_g (lw_at lw_m2 146 rfl) rfl
theorem q485 : (Jvm.Cond.methodLink "IdealCourt$Real" (3 : Nat) ({ cls := "java/lang/Object", name := "<init>", desc := "()V" } : Jvm.MethodName)) ∈ lw_all := lw_g (lw_at lw_m2 147 rfl) rfl
theorem q486 : (Jvm.Cond.classLink "IdealCourt$Real" (15 : Nat) "IdealCourt$Whole") ∈ lw_all := lw_g (lw_at lw_m2 148 rfl) rfl
theorem q487 : (Jvm.Cond.methodLink "IdealCourt$Real" (17 : Nat) ({ cls := "IdealCourt$Whole", name := "<init>", desc := "(I)V" } : Jvm.MethodName)) ∈ lw_all := lw_g (lw_at lw_m2 149 rfl) rfl
theorem q488 : (Jvm.Cond.fieldLink "IdealCourt$Real" (9 : Nat) "IdealCourt$Real" "numbers" "[I") ∈ lw_all := lw_g (lw_at lw_m2 150 rfl) rfl
theorem q490 : (Jvm.Cond.fieldLink "IdealCourt$Real" (24 : Nat) "IdealCourt$Real" "degree" "I") ∈ lw_all := lw_g (lw_at lw_m2 152 rfl) rfl
theorem q492 : (Jvm.Cond.fieldLink "IdealCourt$Real" (28 : Nat) "IdealCourt$Real" "halved" "I") ∈ lw_all := lw_g (lw_at lw_m2 154 rfl) rfl
theorem q494 : (Jvm.Cond.fieldLink "IdealCourt$Real" (31 : Nat) "IdealCourt$Real" "since" "I") ∈ lw_all := lw_g (lw_at lw_m2 156 rfl) rfl
theorem q496 : (Jvm.Cond.fieldLink "IdealCourt$Real" (20 : Nat) "IdealCourt$Real" "which" "LIdealCourt$Whole;") ∈ lw_all := lw_g (lw_at lw_m2 158 rfl) rfl
theorem q498 : (Jvm.Cond.laysFinal "IdealCourt$Real" "IdealCourt$Real" "numbers" "[I") ∈ lw_all := lw_g (lw_at lw_m2 160 rfl) rfl
theorem q499 : (Jvm.Cond.soleField "IdealCourt$Real" "numbers") ∈ lw_all := lw_g (lw_at lw_m2 161 rfl) rfl
theorem q500 : (Jvm.Cond.lays "IdealCourt$Real" "IdealCourt$Real" "degree" "I") ∈ lw_all := lw_g (lw_at lw_m2 162 rfl) rfl
theorem q501 : (Jvm.Cond.soleField "IdealCourt$Real" "degree") ∈ lw_all := lw_g (lw_at lw_m2 163 rfl) rfl
theorem q502 : (Jvm.Cond.lays "IdealCourt$Real" "IdealCourt$Real" "halved" "I") ∈ lw_all := lw_g (lw_at lw_m2 164 rfl) rfl
theorem q503 : (Jvm.Cond.soleField "IdealCourt$Real" "halved") ∈ lw_all := lw_g (lw_at lw_m2 165 rfl) rfl
theorem q504 : (Jvm.Cond.lays "IdealCourt$Real" "IdealCourt$Real" "since" "I") ∈ lw_all := lw_g (lw_at lw_m2 166 rfl) rfl
theorem q505 : (Jvm.Cond.soleField "IdealCourt$Real" "since") ∈ lw_all := lw_g (lw_at lw_m2 167 rfl) rfl
theorem q506 : (Jvm.Cond.laysFinal "IdealCourt$Real" "IdealCourt$Real" "which" "LIdealCourt$Whole;") ∈ lw_all := lw_g (lw_at lw_m2 168 rfl) rfl
theorem q507 : (Jvm.Cond.soleField "IdealCourt$Real" "which") ∈ lw_all := lw_g (lw_at lw_m2 169 rfl) rfl
theorem q508 : (Jvm.Cond.superclass "IdealCourt$Real" "java/lang/Object") ∈ lw_all := lw_g (lw_at lw_m2 170 rfl) rfl
theorem q872 : (Jvm.Cond.castable "IdealCourt$Real" "IdealCourt$Thing") ∈ lw_tbl := lw_at lw_m4 54 rfl
theorem q873 : (Jvm.Cond.selects "IdealCourt$Real" ({ cls := "IdealCourt$Thing", name := "kind", desc := "()I" } : Jvm.MethodName) ({ cls := "IdealCourt$Real", name := "kind", desc := "()I" } : Jvm.MethodName)) ∈ lw_all := lw_g (lw_at lw_m4 55 rfl) rfl
theorem q874 : (Jvm.Cond.unhidden "IdealCourt$Real" "kind" "()I") ∈ lw_tbl := lw_at lw_m4 56 rfl
theorem q875 : (Jvm.Cond.instanceMethod ({ cls := "IdealCourt$Real", name := "kind", desc := "()I" } : Jvm.MethodName)) ∈ lw_all := lw_g (lw_at lw_m4 57 rfl) rfl
theorem q876 : (Jvm.Cond.publicMethod ({ cls := "IdealCourt$Real", name := "kind", desc := "()I" } : Jvm.MethodName)) ∈ lw_tbl := lw_at lw_m4 58 rfl
theorem q877 : (Jvm.Cond.code ({ cls := "IdealCourt$Real", name := "kind", desc := "()I" } : Jvm.MethodName) prog_11_method_2_code (1 : Nat) (Option.some Jvm.ClassFile.FieldType.int)) ∈ lw_all := lw_g (lw_at lw_m4 59 rfl) rfl
theorem q1266 : (Jvm.Cond.instanceMethod ({ cls := "IdealCourt$Real", name := "end", desc := "(ZLIdealCourt$Whole;LIdealCourt$Whole;LIdealCourt$Reckoner;)V" } : Jvm.MethodName)) ∈ lw_all := lw_g (lw_at lw_m5 208 rfl) rfl
theorem q1267 : (Jvm.Cond.selects "IdealCourt$Real" ({ cls := "IdealCourt$Real", name := "end", desc := "(ZLIdealCourt$Whole;LIdealCourt$Whole;LIdealCourt$Reckoner;)V" } : Jvm.MethodName) ({ cls := "IdealCourt$Real", name := "end", desc := "(ZLIdealCourt$Whole;LIdealCourt$Whole;LIdealCourt$Reckoner;)V" } : Jvm.MethodName)) ∈ lw_all := lw_g (lw_at lw_m5 209 rfl) rfl
theorem q1268 : (Jvm.Cond.code ({ cls := "IdealCourt$Real", name := "end", desc := "(ZLIdealCourt$Whole;LIdealCourt$Whole;LIdealCourt$Reckoner;)V" } : Jvm.MethodName) prog_11_method_5_code (6 : Nat) (Option.none : Option Jvm.ClassFile.FieldType)) ∈ lw_all := lw_g (lw_at lw_m5 210 rfl) rfl
theorem q1269 : (Jvm.Cond.methodLink "IdealCourt$Real" (34 : Nat) ({ cls := "IdealCourt$Whole", name := "be", desc := "(LIdealCourt$Whole;)V" } : Jvm.MethodName)) ∈ lw_all := lw_g (lw_at lw_m5 211 rfl) rfl
theorem q1270 : (Jvm.Cond.methodLink "IdealCourt$Real" (44 : Nat) ({ cls := "IdealCourt$Whole", name := "set", desc := "(J)V" } : Jvm.MethodName)) ∈ lw_all := lw_g (lw_at lw_m5 212 rfl) rfl
theorem q1271 : (Jvm.Cond.methodLink "IdealCourt$Real" (48 : Nat) ({ cls := "IdealCourt$Reckoner", name := "add", desc := "(LIdealCourt$Whole;LIdealCourt$Whole;LIdealCourt$Whole;I)V" } : Jvm.MethodName)) ∈ lw_all := lw_g (lw_at lw_m5 213 rfl) rfl
theorem q1272 : (Jvm.Cond.methodLink "IdealCourt$Real" (54 : Nat) ({ cls := "IdealCourt$Whole", name := "twice", desc := "(I)V" } : Jvm.MethodName)) ∈ lw_all := lw_g (lw_at lw_m5 214 rfl) rfl
theorem q1277 : (Jvm.Cond.constantLong "IdealCourt$Real" (57 : Nat) (128 : Int64)) ∈ lw_all := lw_g (lw_at lw_m5 219 rfl) rfl
theorem q1278 : (Jvm.Cond.methodLink "IdealCourt$Real" (59 : Nat) ({ cls := "IdealCourt$Real", name := "bits", desc := "()I" } : Jvm.MethodName)) ∈ lw_all := lw_g (lw_at lw_m5 220 rfl) rfl
theorem q1279 : (Jvm.Cond.instanceMethod ({ cls := "IdealCourt$Real", name := "bits", desc := "()I" } : Jvm.MethodName)) ∈ lw_all := lw_g (lw_at lw_m5 221 rfl) rfl
theorem q1280 : (Jvm.Cond.selects "IdealCourt$Real" ({ cls := "IdealCourt$Real", name := "bits", desc := "()I" } : Jvm.MethodName) ({ cls := "IdealCourt$Real", name := "bits", desc := "()I" } : Jvm.MethodName)) ∈ lw_all := lw_g (lw_at lw_m5 222 rfl) rfl
theorem q1281 : (Jvm.Cond.code ({ cls := "IdealCourt$Real", name := "bits", desc := "()I" } : Jvm.MethodName) prog_11_method_4_code (1 : Nat) (Option.some Jvm.ClassFile.FieldType.int)) ∈ lw_all := lw_g (lw_at lw_m5 223 rfl) rfl
theorem q1282 : (Jvm.Cond.methodLink "IdealCourt$Real" (38 : Nat) ({ cls := "java/lang/Math", name := "max", desc := "(II)I" } : Jvm.MethodName)) ∈ lw_all := lw_g (lw_at lw_m5 224 rfl) rfl
theorem q1557 : (Jvm.Cond.instanceMethod ({ cls := "IdealCourt$Real", name := "half", desc := "(I)V" } : Jvm.MethodName)) ∈ lw_all := lw_g (lw_at lw_m7 19 rfl) rfl
theorem q1558 : (Jvm.Cond.selects "IdealCourt$Real" ({ cls := "IdealCourt$Real", name := "half", desc := "(I)V" } : Jvm.MethodName) ({ cls := "IdealCourt$Real", name := "half", desc := "(I)V" } : Jvm.MethodName)) ∈ lw_all := lw_g (lw_at lw_m7 20 rfl) rfl
theorem q1559 : (Jvm.Cond.code ({ cls := "IdealCourt$Real", name := "half", desc := "(I)V" } : Jvm.MethodName) prog_11_method_6_code (2 : Nat) (Option.none : Option Jvm.ClassFile.FieldType)) ∈ lw_all := lw_g (lw_at lw_m7 21 rfl) rfl
theorem q1561 : (Jvm.Cond.instanceMethod ({ cls := "IdealCourt$Real", name := "be", desc := "(LIdealCourt$Real;)V" } : Jvm.MethodName)) ∈ lw_all := lw_g (lw_at lw_m7 23 rfl) rfl
theorem q1562 : (Jvm.Cond.selects "IdealCourt$Real" ({ cls := "IdealCourt$Real", name := "be", desc := "(LIdealCourt$Real;)V" } : Jvm.MethodName) ({ cls := "IdealCourt$Real", name := "be", desc := "(LIdealCourt$Real;)V" } : Jvm.MethodName)) ∈ lw_all := lw_g (lw_at lw_m7 24 rfl) rfl
theorem q1563 : (Jvm.Cond.code ({ cls := "IdealCourt$Real", name := "be", desc := "(LIdealCourt$Real;)V" } : Jvm.MethodName) prog_11_method_3_code (3 : Nat) (Option.none : Option Jvm.ClassFile.FieldType)) ∈ lw_all := lw_g (lw_at lw_m7 25 rfl) rfl
theorem in_X13 : ∀ w ∈ wsX130, w ∈ lw_all := lw_in wsX130 [498, 500, 502, 504, 506] (by decide +kernel) (by decide +kernel)
