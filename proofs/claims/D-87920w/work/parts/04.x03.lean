/-! IdealCourt$Whole -/
set_option maxRecDepth 100000
def RX3 : String := "IdealCourt$Whole"
def TX3 : u_T := fun k => match k with
  | 0 => ("IdealCourt$Whole", "digits", "[I", true)
  | 1 => ("IdealCourt$Whole", "size", "I", false)
  | _ => ("IdealCourt$Whole", "sign", "I", false)
def tyX3 : Nat → FieldType := fun k => match k with
  | 0 => .array .int
  | 1 => .int
  | _ => .int
abbrev wsX30 : List Cond := u_ws RX3 TX3 3
theorem nmX3 : ∀ a, a < 3 → ∀ b, b < 3 → a ≠ b → (TX3 a).2.1 ≠ (TX3 b).2.1 := by decide +kernel
theorem tyX3_ok : ∀ k, k < 3 → parseFieldDescriptor (TX3 k).2.2.1 = some (tyX3 k) := by decide +kernel
abbrev cX3_init : ByteArray := prog_19_method_1_code
def yX3_init : MethodName := ⟨RX3, "<init>", "(I)V"⟩
def dkwX3_init_0 : List UInt8 := [42, 183, 0, 1, 42, 27, 188, 10, 181, 0, 7, 177]
abbrev dktX3_init_0 : List UInt8 := dkwX3_init_0 ++ []
theorem dksX3_init_0 : cX3_init.data.toList.drop 0 = dktX3_init_0 := by decide +kernel
theorem dX3_init_0 : decode cX3_init 0 = .ok (.aload_n 0, 1) := dk_42 (dk_at dksX3_init_0 0 rfl rfl)
theorem dX3_init_1 : decode cX3_init 1 = .ok (.invokespecial 1, 3) := dk_183 0 1 (dk_at dksX3_init_0 1 rfl rfl)
theorem dX3_init_4 : decode cX3_init 4 = .ok (.aload_n 0, 1) := dk_42 (dk_at dksX3_init_0 4 rfl rfl)
theorem dX3_init_5 : decode cX3_init 5 = .ok (.iload_n 1, 1) := dk_27 (dk_at dksX3_init_0 5 rfl rfl)
theorem dX3_init_6 : decode cX3_init 6 = .ok (.newarray .int, 2) := dk_188_10 (dk_at dksX3_init_0 6 rfl rfl)
theorem dX3_init_8 : decode cX3_init 8 = .ok (.putfield 7, 3) := dk_181 0 7 (dk_at dksX3_init_0 8 rfl rfl)
theorem dX3_init_11 : decode cX3_init 11 = .ok (.return_, 1) := dk_177 (dk_at dksX3_init_0 11 rfl rfl)
abbrev cX3_set : ByteArray := prog_19_method_2_code
def yX3_set : MethodName := ⟨RX3, "set", "(J)V"⟩
def dkwX3_set_3 : List UInt8 := [42, 89, 180, 0, 17, 4, 96, 181, 0, 17, 167, 255, 219, 177]
abbrev dktX3_set_3 : List UInt8 := dkwX3_set_3 ++ []
def dkwX3_set_2 : List UInt8 := [158, 0, 37, 42, 180, 0, 7, 42, 180, 0, 17, 33, 20, 0, 20, 113, 136, 79, 33, 20, 0, 20, 109, 66]
abbrev dktX3_set_2 : List UInt8 := dkwX3_set_2 ++ dktX3_set_3
def dkwX3_set_1 : List UInt8 := [31, 9, 148, 158, 0, 7, 4, 167, 0, 4, 3, 181, 0, 13, 42, 3, 181, 0, 17, 33, 9, 148]
abbrev dktX3_set_1 : List UInt8 := dkwX3_set_1 ++ dktX3_set_2
def dkwX3_set_0 : List UInt8 := [31, 9, 148, 156, 0, 8, 31, 117, 167, 0, 4, 31, 66, 42, 31, 9, 148, 156, 0, 7, 2, 167, 0, 14]
abbrev dktX3_set_0 : List UInt8 := dkwX3_set_0 ++ dktX3_set_1
theorem dksX3_set_0 : cX3_set.data.toList.drop 0 = dktX3_set_0 := by decide +kernel
theorem dksX3_set_1 : cX3_set.data.toList.drop 24 = dktX3_set_1 := dk_seg dksX3_set_0 24 rfl rfl
theorem dksX3_set_2 : cX3_set.data.toList.drop 46 = dktX3_set_2 := dk_seg dksX3_set_1 22 rfl rfl
theorem dksX3_set_3 : cX3_set.data.toList.drop 70 = dktX3_set_3 := dk_seg dksX3_set_2 24 rfl rfl
theorem dX3_set_0 : decode cX3_set 0 = .ok (.lload_n 1, 1) := dk_31 (dk_at dksX3_set_0 0 rfl rfl)
theorem dX3_set_1 : decode cX3_set 1 = .ok (.lconst 0, 1) := dk_9 (dk_at dksX3_set_0 1 rfl rfl)
theorem dX3_set_2 : decode cX3_set 2 = .ok (.lcmp, 1) := dk_148 (dk_at dksX3_set_0 2 rfl rfl)
theorem dX3_set_3 : decode cX3_set 3 = .ok (.ifCond .ge 8, 3) := dk_156 0 8 (dk_at dksX3_set_0 3 rfl rfl)
theorem dX3_set_6 : decode cX3_set 6 = .ok (.lload_n 1, 1) := dk_31 (dk_at dksX3_set_0 6 rfl rfl)
theorem dX3_set_7 : decode cX3_set 7 = .ok (.lneg, 1) := dk_117 (dk_at dksX3_set_0 7 rfl rfl)
theorem dX3_set_8 : decode cX3_set 8 = .ok (.goto 4, 3) := dk_167 0 4 (dk_at dksX3_set_0 8 rfl rfl)
theorem dX3_set_11 : decode cX3_set 11 = .ok (.lload_n 1, 1) := dk_31 (dk_at dksX3_set_0 11 rfl rfl)
theorem dX3_set_12 : decode cX3_set 12 = .ok (.lstore_n 3, 1) := dk_66 (dk_at dksX3_set_0 12 rfl rfl)
theorem dX3_set_13 : decode cX3_set 13 = .ok (.aload_n 0, 1) := dk_42 (dk_at dksX3_set_0 13 rfl rfl)
theorem dX3_set_14 : decode cX3_set 14 = .ok (.lload_n 1, 1) := dk_31 (dk_at dksX3_set_0 14 rfl rfl)
theorem dX3_set_15 : decode cX3_set 15 = .ok (.lconst 0, 1) := dk_9 (dk_at dksX3_set_0 15 rfl rfl)
theorem dX3_set_16 : decode cX3_set 16 = .ok (.lcmp, 1) := dk_148 (dk_at dksX3_set_0 16 rfl rfl)
theorem dX3_set_17 : decode cX3_set 17 = .ok (.ifCond .ge 7, 3) := dk_156 0 7 (dk_at dksX3_set_0 17 rfl rfl)
theorem dX3_set_20 : decode cX3_set 20 = .ok (.iconst (-1), 1) := dk_2 (dk_at dksX3_set_0 20 rfl rfl)
theorem dX3_set_21 : decode cX3_set 21 = .ok (.goto 14, 3) := dk_167 0 14 (dk_at dksX3_set_0 21 rfl rfl)
theorem dX3_set_24 : decode cX3_set 24 = .ok (.lload_n 1, 1) := dk_31 (dk_at dksX3_set_1 0 rfl rfl)
theorem dX3_set_25 : decode cX3_set 25 = .ok (.lconst 0, 1) := dk_9 (dk_at dksX3_set_1 1 rfl rfl)
theorem dX3_set_26 : decode cX3_set 26 = .ok (.lcmp, 1) := dk_148 (dk_at dksX3_set_1 2 rfl rfl)
theorem dX3_set_27 : decode cX3_set 27 = .ok (.ifCond .le 7, 3) := dk_158 0 7 (dk_at dksX3_set_1 3 rfl rfl)
theorem dX3_set_30 : decode cX3_set 30 = .ok (.iconst 1, 1) := dk_4 (dk_at dksX3_set_1 6 rfl rfl)
theorem dX3_set_31 : decode cX3_set 31 = .ok (.goto 4, 3) := dk_167 0 4 (dk_at dksX3_set_1 7 rfl rfl)
theorem dX3_set_34 : decode cX3_set 34 = .ok (.iconst 0, 1) := dk_3 (dk_at dksX3_set_1 10 rfl rfl)
theorem dX3_set_35 : decode cX3_set 35 = .ok (.putfield 13, 3) := dk_181 0 13 (dk_at dksX3_set_1 11 rfl rfl)
theorem dX3_set_38 : decode cX3_set 38 = .ok (.aload_n 0, 1) := dk_42 (dk_at dksX3_set_1 14 rfl rfl)
theorem dX3_set_39 : decode cX3_set 39 = .ok (.iconst 0, 1) := dk_3 (dk_at dksX3_set_1 15 rfl rfl)
theorem dX3_set_40 : decode cX3_set 40 = .ok (.putfield 17, 3) := dk_181 0 17 (dk_at dksX3_set_1 16 rfl rfl)
theorem dX3_set_43 : decode cX3_set 43 = .ok (.lload_n 3, 1) := dk_33 (dk_at dksX3_set_1 19 rfl rfl)
theorem dX3_set_44 : decode cX3_set 44 = .ok (.lconst 0, 1) := dk_9 (dk_at dksX3_set_1 20 rfl rfl)
theorem dX3_set_45 : decode cX3_set 45 = .ok (.lcmp, 1) := dk_148 (dk_at dksX3_set_1 21 rfl rfl)
theorem dX3_set_46 : decode cX3_set 46 = .ok (.ifCond .le 37, 3) := dk_158 0 37 (dk_at dksX3_set_2 0 rfl rfl)
theorem dX3_set_49 : decode cX3_set 49 = .ok (.aload_n 0, 1) := dk_42 (dk_at dksX3_set_2 3 rfl rfl)
theorem dX3_set_50 : decode cX3_set 50 = .ok (.getfield 7, 3) := dk_180 0 7 (dk_at dksX3_set_2 4 rfl rfl)
theorem dX3_set_53 : decode cX3_set 53 = .ok (.aload_n 0, 1) := dk_42 (dk_at dksX3_set_2 7 rfl rfl)
theorem dX3_set_54 : decode cX3_set 54 = .ok (.getfield 17, 3) := dk_180 0 17 (dk_at dksX3_set_2 8 rfl rfl)
theorem dX3_set_57 : decode cX3_set 57 = .ok (.lload_n 3, 1) := dk_33 (dk_at dksX3_set_2 11 rfl rfl)
theorem dX3_set_58 : decode cX3_set 58 = .ok (.ldc2_w 20, 3) := dk_20 0 20 (dk_at dksX3_set_2 12 rfl rfl)
theorem dX3_set_61 : decode cX3_set 61 = .ok (.lrem, 1) := dk_113 (dk_at dksX3_set_2 15 rfl rfl)
theorem dX3_set_62 : decode cX3_set 62 = .ok (.l2i, 1) := dk_136 (dk_at dksX3_set_2 16 rfl rfl)
theorem dX3_set_63 : decode cX3_set 63 = .ok (.iastore, 1) := dk_79 (dk_at dksX3_set_2 17 rfl rfl)
theorem dX3_set_64 : decode cX3_set 64 = .ok (.lload_n 3, 1) := dk_33 (dk_at dksX3_set_2 18 rfl rfl)
theorem dX3_set_65 : decode cX3_set 65 = .ok (.ldc2_w 20, 3) := dk_20 0 20 (dk_at dksX3_set_2 19 rfl rfl)
theorem dX3_set_68 : decode cX3_set 68 = .ok (.ldiv, 1) := dk_109 (dk_at dksX3_set_2 22 rfl rfl)
theorem dX3_set_69 : decode cX3_set 69 = .ok (.lstore_n 3, 1) := dk_66 (dk_at dksX3_set_2 23 rfl rfl)
theorem dX3_set_70 : decode cX3_set 70 = .ok (.aload_n 0, 1) := dk_42 (dk_at dksX3_set_3 0 rfl rfl)
theorem dX3_set_71 : decode cX3_set 71 = .ok (.dup, 1) := dk_89 (dk_at dksX3_set_3 1 rfl rfl)
theorem dX3_set_72 : decode cX3_set 72 = .ok (.getfield 17, 3) := dk_180 0 17 (dk_at dksX3_set_3 2 rfl rfl)
theorem dX3_set_75 : decode cX3_set 75 = .ok (.iconst 1, 1) := dk_4 (dk_at dksX3_set_3 5 rfl rfl)
theorem dX3_set_76 : decode cX3_set 76 = .ok (.iadd, 1) := dk_96 (dk_at dksX3_set_3 6 rfl rfl)
theorem dX3_set_77 : decode cX3_set 77 = .ok (.putfield 17, 3) := dk_181 0 17 (dk_at dksX3_set_3 7 rfl rfl)
theorem dX3_set_80 : decode cX3_set 80 = .ok (.goto (-37), 3) := dk_167 255 219 (dk_at dksX3_set_3 10 rfl rfl)
theorem dX3_set_83 : decode cX3_set 83 = .ok (.return_, 1) := dk_177 (dk_at dksX3_set_3 13 rfl rfl)
abbrev cX3_be : ByteArray := prog_19_method_3_code
def yX3_be : MethodName := ⟨RX3, "be", "(LIdealCourt$Whole;)V"⟩
def dkwX3_be_1 : List UInt8 := [132, 2, 1, 167, 255, 233, 42, 43, 180, 0, 17, 181, 0, 17, 42, 43, 180, 0, 13, 181, 0, 13, 177]
abbrev dktX3_be_1 : List UInt8 := dkwX3_be_1 ++ []
def dkwX3_be_0 : List UInt8 := [3, 61, 28, 43, 180, 0, 17, 162, 0, 21, 42, 180, 0, 7, 28, 43, 180, 0, 7, 28, 46, 79]
abbrev dktX3_be_0 : List UInt8 := dkwX3_be_0 ++ dktX3_be_1
theorem dksX3_be_0 : cX3_be.data.toList.drop 0 = dktX3_be_0 := by decide +kernel
theorem dksX3_be_1 : cX3_be.data.toList.drop 22 = dktX3_be_1 := dk_seg dksX3_be_0 22 rfl rfl
theorem dX3_be_0 : decode cX3_be 0 = .ok (.iconst 0, 1) := dk_3 (dk_at dksX3_be_0 0 rfl rfl)
theorem dX3_be_1 : decode cX3_be 1 = .ok (.istore_n 2, 1) := dk_61 (dk_at dksX3_be_0 1 rfl rfl)
theorem dX3_be_2 : decode cX3_be 2 = .ok (.iload_n 2, 1) := dk_28 (dk_at dksX3_be_0 2 rfl rfl)
theorem dX3_be_3 : decode cX3_be 3 = .ok (.aload_n 1, 1) := dk_43 (dk_at dksX3_be_0 3 rfl rfl)
theorem dX3_be_4 : decode cX3_be 4 = .ok (.getfield 17, 3) := dk_180 0 17 (dk_at dksX3_be_0 4 rfl rfl)
theorem dX3_be_7 : decode cX3_be 7 = .ok (.if_icmp .ge 21, 3) := dk_162 0 21 (dk_at dksX3_be_0 7 rfl rfl)
theorem dX3_be_10 : decode cX3_be 10 = .ok (.aload_n 0, 1) := dk_42 (dk_at dksX3_be_0 10 rfl rfl)
theorem dX3_be_11 : decode cX3_be 11 = .ok (.getfield 7, 3) := dk_180 0 7 (dk_at dksX3_be_0 11 rfl rfl)
theorem dX3_be_14 : decode cX3_be 14 = .ok (.iload_n 2, 1) := dk_28 (dk_at dksX3_be_0 14 rfl rfl)
theorem dX3_be_15 : decode cX3_be 15 = .ok (.aload_n 1, 1) := dk_43 (dk_at dksX3_be_0 15 rfl rfl)
theorem dX3_be_16 : decode cX3_be 16 = .ok (.getfield 7, 3) := dk_180 0 7 (dk_at dksX3_be_0 16 rfl rfl)
theorem dX3_be_19 : decode cX3_be 19 = .ok (.iload_n 2, 1) := dk_28 (dk_at dksX3_be_0 19 rfl rfl)
theorem dX3_be_20 : decode cX3_be 20 = .ok (.iaload, 1) := dk_46 (dk_at dksX3_be_0 20 rfl rfl)
theorem dX3_be_21 : decode cX3_be 21 = .ok (.iastore, 1) := dk_79 (dk_at dksX3_be_0 21 rfl rfl)
theorem dX3_be_22 : decode cX3_be 22 = .ok (.iinc 2 1, 3) := dk_132 2 1 (dk_at dksX3_be_1 0 rfl rfl)
theorem dX3_be_25 : decode cX3_be 25 = .ok (.goto (-23), 3) := dk_167 255 233 (dk_at dksX3_be_1 3 rfl rfl)
theorem dX3_be_28 : decode cX3_be 28 = .ok (.aload_n 0, 1) := dk_42 (dk_at dksX3_be_1 6 rfl rfl)
theorem dX3_be_29 : decode cX3_be 29 = .ok (.aload_n 1, 1) := dk_43 (dk_at dksX3_be_1 7 rfl rfl)
theorem dX3_be_30 : decode cX3_be 30 = .ok (.getfield 17, 3) := dk_180 0 17 (dk_at dksX3_be_1 8 rfl rfl)
theorem dX3_be_33 : decode cX3_be 33 = .ok (.putfield 17, 3) := dk_181 0 17 (dk_at dksX3_be_1 11 rfl rfl)
theorem dX3_be_36 : decode cX3_be 36 = .ok (.aload_n 0, 1) := dk_42 (dk_at dksX3_be_1 14 rfl rfl)
theorem dX3_be_37 : decode cX3_be 37 = .ok (.aload_n 1, 1) := dk_43 (dk_at dksX3_be_1 15 rfl rfl)
theorem dX3_be_38 : decode cX3_be 38 = .ok (.getfield 13, 3) := dk_180 0 13 (dk_at dksX3_be_1 16 rfl rfl)
theorem dX3_be_41 : decode cX3_be 41 = .ok (.putfield 13, 3) := dk_181 0 13 (dk_at dksX3_be_1 19 rfl rfl)
theorem dX3_be_44 : decode cX3_be 44 = .ok (.return_, 1) := dk_177 (dk_at dksX3_be_1 22 rfl rfl)
abbrev cX3_trim : ByteArray := prog_19_method_6_code
def yX3_trim : MethodName := ⟨RX3, "trim", "()V"⟩
def dkwX3_trim_1 : List UInt8 := [180, 0, 17, 4, 100, 181, 0, 17, 167, 255, 225, 42, 180, 0, 17, 154, 0, 8, 42, 3, 181, 0, 13, 177]
abbrev dktX3_trim_1 : List UInt8 := dkwX3_trim_1 ++ []
def dkwX3_trim_0 : List UInt8 := [42, 180, 0, 17, 158, 0, 30, 42, 180, 0, 7, 42, 180, 0, 17, 4, 100, 46, 154, 0, 16, 42, 89]
abbrev dktX3_trim_0 : List UInt8 := dkwX3_trim_0 ++ dktX3_trim_1
theorem dksX3_trim_0 : cX3_trim.data.toList.drop 0 = dktX3_trim_0 := by decide +kernel
theorem dksX3_trim_1 : cX3_trim.data.toList.drop 23 = dktX3_trim_1 := dk_seg dksX3_trim_0 23 rfl rfl
theorem dX3_trim_0 : decode cX3_trim 0 = .ok (.aload_n 0, 1) := dk_42 (dk_at dksX3_trim_0 0 rfl rfl)
theorem dX3_trim_1 : decode cX3_trim 1 = .ok (.getfield 17, 3) := dk_180 0 17 (dk_at dksX3_trim_0 1 rfl rfl)
theorem dX3_trim_4 : decode cX3_trim 4 = .ok (.ifCond .le 30, 3) := dk_158 0 30 (dk_at dksX3_trim_0 4 rfl rfl)
theorem dX3_trim_7 : decode cX3_trim 7 = .ok (.aload_n 0, 1) := dk_42 (dk_at dksX3_trim_0 7 rfl rfl)
theorem dX3_trim_8 : decode cX3_trim 8 = .ok (.getfield 7, 3) := dk_180 0 7 (dk_at dksX3_trim_0 8 rfl rfl)
theorem dX3_trim_11 : decode cX3_trim 11 = .ok (.aload_n 0, 1) := dk_42 (dk_at dksX3_trim_0 11 rfl rfl)
theorem dX3_trim_12 : decode cX3_trim 12 = .ok (.getfield 17, 3) := dk_180 0 17 (dk_at dksX3_trim_0 12 rfl rfl)
theorem dX3_trim_15 : decode cX3_trim 15 = .ok (.iconst 1, 1) := dk_4 (dk_at dksX3_trim_0 15 rfl rfl)
theorem dX3_trim_16 : decode cX3_trim 16 = .ok (.isub, 1) := dk_100 (dk_at dksX3_trim_0 16 rfl rfl)
theorem dX3_trim_17 : decode cX3_trim 17 = .ok (.iaload, 1) := dk_46 (dk_at dksX3_trim_0 17 rfl rfl)
theorem dX3_trim_18 : decode cX3_trim 18 = .ok (.ifCond .ne 16, 3) := dk_154 0 16 (dk_at dksX3_trim_0 18 rfl rfl)
theorem dX3_trim_21 : decode cX3_trim 21 = .ok (.aload_n 0, 1) := dk_42 (dk_at dksX3_trim_0 21 rfl rfl)
theorem dX3_trim_22 : decode cX3_trim 22 = .ok (.dup, 1) := dk_89 (dk_at dksX3_trim_0 22 rfl rfl)
theorem dX3_trim_23 : decode cX3_trim 23 = .ok (.getfield 17, 3) := dk_180 0 17 (dk_at dksX3_trim_1 0 rfl rfl)
theorem dX3_trim_26 : decode cX3_trim 26 = .ok (.iconst 1, 1) := dk_4 (dk_at dksX3_trim_1 3 rfl rfl)
theorem dX3_trim_27 : decode cX3_trim 27 = .ok (.isub, 1) := dk_100 (dk_at dksX3_trim_1 4 rfl rfl)
theorem dX3_trim_28 : decode cX3_trim 28 = .ok (.putfield 17, 3) := dk_181 0 17 (dk_at dksX3_trim_1 5 rfl rfl)
theorem dX3_trim_31 : decode cX3_trim 31 = .ok (.goto (-31), 3) := dk_167 255 225 (dk_at dksX3_trim_1 8 rfl rfl)
theorem dX3_trim_34 : decode cX3_trim 34 = .ok (.aload_n 0, 1) := dk_42 (dk_at dksX3_trim_1 11 rfl rfl)
theorem dX3_trim_35 : decode cX3_trim 35 = .ok (.getfield 17, 3) := dk_180 0 17 (dk_at dksX3_trim_1 12 rfl rfl)
theorem dX3_trim_38 : decode cX3_trim 38 = .ok (.ifCond .ne 8, 3) := dk_154 0 8 (dk_at dksX3_trim_1 15 rfl rfl)
theorem dX3_trim_41 : decode cX3_trim 41 = .ok (.aload_n 0, 1) := dk_42 (dk_at dksX3_trim_1 18 rfl rfl)
theorem dX3_trim_42 : decode cX3_trim 42 = .ok (.iconst 0, 1) := dk_3 (dk_at dksX3_trim_1 19 rfl rfl)
theorem dX3_trim_43 : decode cX3_trim 43 = .ok (.putfield 13, 3) := dk_181 0 13 (dk_at dksX3_trim_1 20 rfl rfl)
theorem dX3_trim_46 : decode cX3_trim 46 = .ok (.return_, 1) := dk_177 (dk_at dksX3_trim_1 23 rfl rfl)
abbrev cX3_isOne : ByteArray := prog_19_method_4_code
def yX3_isOne : MethodName := ⟨RX3, "isOne", "()Z"⟩
def dkwX3_isOne_1 : List UInt8 := [160, 0, 7, 4, 167, 0, 4, 3, 172]
abbrev dktX3_isOne_1 : List UInt8 := dkwX3_isOne_1 ++ []
def dkwX3_isOne_0 : List UInt8 := [42, 180, 0, 13, 4, 160, 0, 25, 42, 180, 0, 17, 4, 160, 0, 17, 42, 180, 0, 7, 3, 46, 4]
abbrev dktX3_isOne_0 : List UInt8 := dkwX3_isOne_0 ++ dktX3_isOne_1
theorem dksX3_isOne_0 : cX3_isOne.data.toList.drop 0 = dktX3_isOne_0 := by decide +kernel
theorem dksX3_isOne_1 : cX3_isOne.data.toList.drop 23 = dktX3_isOne_1 := dk_seg dksX3_isOne_0 23 rfl rfl
theorem dX3_isOne_0 : decode cX3_isOne 0 = .ok (.aload_n 0, 1) := dk_42 (dk_at dksX3_isOne_0 0 rfl rfl)
theorem dX3_isOne_1 : decode cX3_isOne 1 = .ok (.getfield 13, 3) := dk_180 0 13 (dk_at dksX3_isOne_0 1 rfl rfl)
theorem dX3_isOne_4 : decode cX3_isOne 4 = .ok (.iconst 1, 1) := dk_4 (dk_at dksX3_isOne_0 4 rfl rfl)
theorem dX3_isOne_5 : decode cX3_isOne 5 = .ok (.if_icmp .ne 25, 3) := dk_160 0 25 (dk_at dksX3_isOne_0 5 rfl rfl)
theorem dX3_isOne_8 : decode cX3_isOne 8 = .ok (.aload_n 0, 1) := dk_42 (dk_at dksX3_isOne_0 8 rfl rfl)
theorem dX3_isOne_9 : decode cX3_isOne 9 = .ok (.getfield 17, 3) := dk_180 0 17 (dk_at dksX3_isOne_0 9 rfl rfl)
theorem dX3_isOne_12 : decode cX3_isOne 12 = .ok (.iconst 1, 1) := dk_4 (dk_at dksX3_isOne_0 12 rfl rfl)
theorem dX3_isOne_13 : decode cX3_isOne 13 = .ok (.if_icmp .ne 17, 3) := dk_160 0 17 (dk_at dksX3_isOne_0 13 rfl rfl)
theorem dX3_isOne_16 : decode cX3_isOne 16 = .ok (.aload_n 0, 1) := dk_42 (dk_at dksX3_isOne_0 16 rfl rfl)
theorem dX3_isOne_17 : decode cX3_isOne 17 = .ok (.getfield 7, 3) := dk_180 0 7 (dk_at dksX3_isOne_0 17 rfl rfl)
theorem dX3_isOne_20 : decode cX3_isOne 20 = .ok (.iconst 0, 1) := dk_3 (dk_at dksX3_isOne_0 20 rfl rfl)
theorem dX3_isOne_21 : decode cX3_isOne 21 = .ok (.iaload, 1) := dk_46 (dk_at dksX3_isOne_0 21 rfl rfl)
theorem dX3_isOne_22 : decode cX3_isOne 22 = .ok (.iconst 1, 1) := dk_4 (dk_at dksX3_isOne_0 22 rfl rfl)
theorem dX3_isOne_23 : decode cX3_isOne 23 = .ok (.if_icmp .ne 7, 3) := dk_160 0 7 (dk_at dksX3_isOne_1 0 rfl rfl)
theorem dX3_isOne_26 : decode cX3_isOne 26 = .ok (.iconst 1, 1) := dk_4 (dk_at dksX3_isOne_1 3 rfl rfl)
theorem dX3_isOne_27 : decode cX3_isOne 27 = .ok (.goto 4, 3) := dk_167 0 4 (dk_at dksX3_isOne_1 4 rfl rfl)
theorem dX3_isOne_30 : decode cX3_isOne 30 = .ok (.iconst 0, 1) := dk_3 (dk_at dksX3_isOne_1 7 rfl rfl)
theorem dX3_isOne_31 : decode cX3_isOne 31 = .ok (.ireturn, 1) := dk_172 (dk_at dksX3_isOne_1 8 rfl rfl)
abbrev cX3_fits : ByteArray := prog_19_method_9_code
def yX3_fits : MethodName := ⟨RX3, "fits", "()Z"⟩
def dkwX3_fits_1 : List UInt8 := [46, 17, 3, 232, 162, 0, 7, 4, 167, 0, 4, 3, 172]
abbrev dktX3_fits_1 : List UInt8 := dkwX3_fits_1 ++ []
def dkwX3_fits_0 : List UInt8 := [42, 180, 0, 17, 16, 14, 161, 0, 25, 42, 180, 0, 17, 16, 14, 160, 0, 20, 42, 180, 0, 7, 16, 13]
abbrev dktX3_fits_0 : List UInt8 := dkwX3_fits_0 ++ dktX3_fits_1
theorem dksX3_fits_0 : cX3_fits.data.toList.drop 0 = dktX3_fits_0 := by decide +kernel
theorem dksX3_fits_1 : cX3_fits.data.toList.drop 24 = dktX3_fits_1 := dk_seg dksX3_fits_0 24 rfl rfl
theorem dX3_fits_0 : decode cX3_fits 0 = .ok (.aload_n 0, 1) := dk_42 (dk_at dksX3_fits_0 0 rfl rfl)
theorem dX3_fits_1 : decode cX3_fits 1 = .ok (.getfield 17, 3) := dk_180 0 17 (dk_at dksX3_fits_0 1 rfl rfl)
theorem dX3_fits_4 : decode cX3_fits 4 = .ok (.bipush 14, 2) := dk_16 14 (dk_at dksX3_fits_0 4 rfl rfl)
theorem dX3_fits_6 : decode cX3_fits 6 = .ok (.if_icmp .lt 25, 3) := dk_161 0 25 (dk_at dksX3_fits_0 6 rfl rfl)
theorem dX3_fits_9 : decode cX3_fits 9 = .ok (.aload_n 0, 1) := dk_42 (dk_at dksX3_fits_0 9 rfl rfl)
theorem dX3_fits_10 : decode cX3_fits 10 = .ok (.getfield 17, 3) := dk_180 0 17 (dk_at dksX3_fits_0 10 rfl rfl)
theorem dX3_fits_13 : decode cX3_fits 13 = .ok (.bipush 14, 2) := dk_16 14 (dk_at dksX3_fits_0 13 rfl rfl)
theorem dX3_fits_15 : decode cX3_fits 15 = .ok (.if_icmp .ne 20, 3) := dk_160 0 20 (dk_at dksX3_fits_0 15 rfl rfl)
theorem dX3_fits_18 : decode cX3_fits 18 = .ok (.aload_n 0, 1) := dk_42 (dk_at dksX3_fits_0 18 rfl rfl)
theorem dX3_fits_19 : decode cX3_fits 19 = .ok (.getfield 7, 3) := dk_180 0 7 (dk_at dksX3_fits_0 19 rfl rfl)
theorem dX3_fits_22 : decode cX3_fits 22 = .ok (.bipush 13, 2) := dk_16 13 (dk_at dksX3_fits_0 22 rfl rfl)
theorem dX3_fits_24 : decode cX3_fits 24 = .ok (.iaload, 1) := dk_46 (dk_at dksX3_fits_1 0 rfl rfl)
theorem dX3_fits_25 : decode cX3_fits 25 = .ok (.sipush 1000, 3) := dk_17 3 232 (dk_at dksX3_fits_1 1 rfl rfl)
theorem dX3_fits_28 : decode cX3_fits 28 = .ok (.if_icmp .ge 7, 3) := dk_162 0 7 (dk_at dksX3_fits_1 4 rfl rfl)
theorem dX3_fits_31 : decode cX3_fits 31 = .ok (.iconst 1, 1) := dk_4 (dk_at dksX3_fits_1 7 rfl rfl)
theorem dX3_fits_32 : decode cX3_fits 32 = .ok (.goto 4, 3) := dk_167 0 4 (dk_at dksX3_fits_1 8 rfl rfl)
theorem dX3_fits_35 : decode cX3_fits 35 = .ok (.iconst 0, 1) := dk_3 (dk_at dksX3_fits_1 11 rfl rfl)
theorem dX3_fits_36 : decode cX3_fits 36 = .ok (.ireturn, 1) := dk_172 (dk_at dksX3_fits_1 12 rfl rfl)
abbrev cX3_twice : ByteArray := prog_19_method_7_code
def yX3_twice : MethodName := ⟨RX3, "twice", "(I)V"⟩
def dkwX3_twice_4 : List UInt8 := [167, 0, 8, 4, 167, 0, 4, 3, 181, 0, 13, 177]
abbrev dktX3_twice_4 : List UInt8 := dkwX3_twice_4 ++ []
def dkwX3_twice_3 : List UInt8 := [180, 0, 17, 4, 96, 181, 0, 17, 42, 42, 180, 0, 17, 158, 0, 18, 42, 180, 0, 13, 156, 0, 7, 2]
abbrev dktX3_twice_3 : List UInt8 := dkwX3_twice_3 ++ dktX3_twice_4
def dkwX3_twice_2 : List UInt8 := [100, 79, 132, 3, 1, 167, 255, 207, 28, 158, 0, 23, 42, 180, 0, 7, 42, 180, 0, 17, 28, 79, 42, 89]
abbrev dktX3_twice_2 : List UInt8 := dkwX3_twice_2 ++ dktX3_twice_3
def dkwX3_twice_1 : List UInt8 := [21, 4, 18, 22, 161, 0, 7, 4, 167, 0, 4, 3, 61, 42, 180, 0, 7, 29, 21, 4, 18, 22, 28, 104]
abbrev dktX3_twice_1 : List UInt8 := dkwX3_twice_1 ++ dktX3_twice_2
def dkwX3_twice_0 : List UInt8 := [27, 61, 3, 62, 29, 42, 180, 0, 17, 162, 0, 47, 5, 42, 180, 0, 7, 29, 46, 104, 28, 96, 54, 4]
abbrev dktX3_twice_0 : List UInt8 := dkwX3_twice_0 ++ dktX3_twice_1
theorem dksX3_twice_0 : cX3_twice.data.toList.drop 0 = dktX3_twice_0 := by decide +kernel
theorem dksX3_twice_1 : cX3_twice.data.toList.drop 24 = dktX3_twice_1 := dk_seg dksX3_twice_0 24 rfl rfl
theorem dksX3_twice_2 : cX3_twice.data.toList.drop 48 = dktX3_twice_2 := dk_seg dksX3_twice_1 24 rfl rfl
theorem dksX3_twice_3 : cX3_twice.data.toList.drop 72 = dktX3_twice_3 := dk_seg dksX3_twice_2 24 rfl rfl
theorem dksX3_twice_4 : cX3_twice.data.toList.drop 96 = dktX3_twice_4 := dk_seg dksX3_twice_3 24 rfl rfl
theorem dX3_twice_0 : decode cX3_twice 0 = .ok (.iload_n 1, 1) := dk_27 (dk_at dksX3_twice_0 0 rfl rfl)
theorem dX3_twice_1 : decode cX3_twice 1 = .ok (.istore_n 2, 1) := dk_61 (dk_at dksX3_twice_0 1 rfl rfl)
theorem dX3_twice_2 : decode cX3_twice 2 = .ok (.iconst 0, 1) := dk_3 (dk_at dksX3_twice_0 2 rfl rfl)
theorem dX3_twice_3 : decode cX3_twice 3 = .ok (.istore_n 3, 1) := dk_62 (dk_at dksX3_twice_0 3 rfl rfl)
theorem dX3_twice_4 : decode cX3_twice 4 = .ok (.iload_n 3, 1) := dk_29 (dk_at dksX3_twice_0 4 rfl rfl)
theorem dX3_twice_5 : decode cX3_twice 5 = .ok (.aload_n 0, 1) := dk_42 (dk_at dksX3_twice_0 5 rfl rfl)
theorem dX3_twice_6 : decode cX3_twice 6 = .ok (.getfield 17, 3) := dk_180 0 17 (dk_at dksX3_twice_0 6 rfl rfl)
theorem dX3_twice_9 : decode cX3_twice 9 = .ok (.if_icmp .ge 47, 3) := dk_162 0 47 (dk_at dksX3_twice_0 9 rfl rfl)
theorem dX3_twice_12 : decode cX3_twice 12 = .ok (.iconst 2, 1) := dk_5 (dk_at dksX3_twice_0 12 rfl rfl)
theorem dX3_twice_13 : decode cX3_twice 13 = .ok (.aload_n 0, 1) := dk_42 (dk_at dksX3_twice_0 13 rfl rfl)
theorem dX3_twice_14 : decode cX3_twice 14 = .ok (.getfield 7, 3) := dk_180 0 7 (dk_at dksX3_twice_0 14 rfl rfl)
theorem dX3_twice_17 : decode cX3_twice 17 = .ok (.iload_n 3, 1) := dk_29 (dk_at dksX3_twice_0 17 rfl rfl)
theorem dX3_twice_18 : decode cX3_twice 18 = .ok (.iaload, 1) := dk_46 (dk_at dksX3_twice_0 18 rfl rfl)
theorem dX3_twice_19 : decode cX3_twice 19 = .ok (.imul, 1) := dk_104 (dk_at dksX3_twice_0 19 rfl rfl)
theorem dX3_twice_20 : decode cX3_twice 20 = .ok (.iload_n 2, 1) := dk_28 (dk_at dksX3_twice_0 20 rfl rfl)
theorem dX3_twice_21 : decode cX3_twice 21 = .ok (.iadd, 1) := dk_96 (dk_at dksX3_twice_0 21 rfl rfl)
theorem dX3_twice_22 : decode cX3_twice 22 = .ok (.istore 4, 2) := dk_54 4 (dk_at dksX3_twice_0 22 rfl rfl)
theorem dX3_twice_24 : decode cX3_twice 24 = .ok (.iload 4, 2) := dk_21 4 (dk_at dksX3_twice_1 0 rfl rfl)
theorem dX3_twice_26 : decode cX3_twice 26 = .ok (.ldc 22, 2) := dk_18 22 (dk_at dksX3_twice_1 2 rfl rfl)
theorem dX3_twice_28 : decode cX3_twice 28 = .ok (.if_icmp .lt 7, 3) := dk_161 0 7 (dk_at dksX3_twice_1 4 rfl rfl)
theorem dX3_twice_31 : decode cX3_twice 31 = .ok (.iconst 1, 1) := dk_4 (dk_at dksX3_twice_1 7 rfl rfl)
theorem dX3_twice_32 : decode cX3_twice 32 = .ok (.goto 4, 3) := dk_167 0 4 (dk_at dksX3_twice_1 8 rfl rfl)
theorem dX3_twice_35 : decode cX3_twice 35 = .ok (.iconst 0, 1) := dk_3 (dk_at dksX3_twice_1 11 rfl rfl)
theorem dX3_twice_36 : decode cX3_twice 36 = .ok (.istore_n 2, 1) := dk_61 (dk_at dksX3_twice_1 12 rfl rfl)
theorem dX3_twice_37 : decode cX3_twice 37 = .ok (.aload_n 0, 1) := dk_42 (dk_at dksX3_twice_1 13 rfl rfl)
theorem dX3_twice_38 : decode cX3_twice 38 = .ok (.getfield 7, 3) := dk_180 0 7 (dk_at dksX3_twice_1 14 rfl rfl)
theorem dX3_twice_41 : decode cX3_twice 41 = .ok (.iload_n 3, 1) := dk_29 (dk_at dksX3_twice_1 17 rfl rfl)
theorem dX3_twice_42 : decode cX3_twice 42 = .ok (.iload 4, 2) := dk_21 4 (dk_at dksX3_twice_1 18 rfl rfl)
theorem dX3_twice_44 : decode cX3_twice 44 = .ok (.ldc 22, 2) := dk_18 22 (dk_at dksX3_twice_1 20 rfl rfl)
theorem dX3_twice_46 : decode cX3_twice 46 = .ok (.iload_n 2, 1) := dk_28 (dk_at dksX3_twice_1 22 rfl rfl)
theorem dX3_twice_47 : decode cX3_twice 47 = .ok (.imul, 1) := dk_104 (dk_at dksX3_twice_1 23 rfl rfl)
theorem dX3_twice_48 : decode cX3_twice 48 = .ok (.isub, 1) := dk_100 (dk_at dksX3_twice_2 0 rfl rfl)
theorem dX3_twice_49 : decode cX3_twice 49 = .ok (.iastore, 1) := dk_79 (dk_at dksX3_twice_2 1 rfl rfl)
theorem dX3_twice_50 : decode cX3_twice 50 = .ok (.iinc 3 1, 3) := dk_132 3 1 (dk_at dksX3_twice_2 2 rfl rfl)
theorem dX3_twice_53 : decode cX3_twice 53 = .ok (.goto (-49), 3) := dk_167 255 207 (dk_at dksX3_twice_2 5 rfl rfl)
theorem dX3_twice_56 : decode cX3_twice 56 = .ok (.iload_n 2, 1) := dk_28 (dk_at dksX3_twice_2 8 rfl rfl)
theorem dX3_twice_57 : decode cX3_twice 57 = .ok (.ifCond .le 23, 3) := dk_158 0 23 (dk_at dksX3_twice_2 9 rfl rfl)
theorem dX3_twice_60 : decode cX3_twice 60 = .ok (.aload_n 0, 1) := dk_42 (dk_at dksX3_twice_2 12 rfl rfl)
theorem dX3_twice_61 : decode cX3_twice 61 = .ok (.getfield 7, 3) := dk_180 0 7 (dk_at dksX3_twice_2 13 rfl rfl)
theorem dX3_twice_64 : decode cX3_twice 64 = .ok (.aload_n 0, 1) := dk_42 (dk_at dksX3_twice_2 16 rfl rfl)
theorem dX3_twice_65 : decode cX3_twice 65 = .ok (.getfield 17, 3) := dk_180 0 17 (dk_at dksX3_twice_2 17 rfl rfl)
theorem dX3_twice_68 : decode cX3_twice 68 = .ok (.iload_n 2, 1) := dk_28 (dk_at dksX3_twice_2 20 rfl rfl)
theorem dX3_twice_69 : decode cX3_twice 69 = .ok (.iastore, 1) := dk_79 (dk_at dksX3_twice_2 21 rfl rfl)
theorem dX3_twice_70 : decode cX3_twice 70 = .ok (.aload_n 0, 1) := dk_42 (dk_at dksX3_twice_2 22 rfl rfl)
theorem dX3_twice_71 : decode cX3_twice 71 = .ok (.dup, 1) := dk_89 (dk_at dksX3_twice_2 23 rfl rfl)
theorem dX3_twice_72 : decode cX3_twice 72 = .ok (.getfield 17, 3) := dk_180 0 17 (dk_at dksX3_twice_3 0 rfl rfl)
theorem dX3_twice_75 : decode cX3_twice 75 = .ok (.iconst 1, 1) := dk_4 (dk_at dksX3_twice_3 3 rfl rfl)
theorem dX3_twice_76 : decode cX3_twice 76 = .ok (.iadd, 1) := dk_96 (dk_at dksX3_twice_3 4 rfl rfl)
theorem dX3_twice_77 : decode cX3_twice 77 = .ok (.putfield 17, 3) := dk_181 0 17 (dk_at dksX3_twice_3 5 rfl rfl)
theorem dX3_twice_80 : decode cX3_twice 80 = .ok (.aload_n 0, 1) := dk_42 (dk_at dksX3_twice_3 8 rfl rfl)
theorem dX3_twice_81 : decode cX3_twice 81 = .ok (.aload_n 0, 1) := dk_42 (dk_at dksX3_twice_3 9 rfl rfl)
theorem dX3_twice_82 : decode cX3_twice 82 = .ok (.getfield 17, 3) := dk_180 0 17 (dk_at dksX3_twice_3 10 rfl rfl)
theorem dX3_twice_85 : decode cX3_twice 85 = .ok (.ifCond .le 18, 3) := dk_158 0 18 (dk_at dksX3_twice_3 13 rfl rfl)
theorem dX3_twice_88 : decode cX3_twice 88 = .ok (.aload_n 0, 1) := dk_42 (dk_at dksX3_twice_3 16 rfl rfl)
theorem dX3_twice_89 : decode cX3_twice 89 = .ok (.getfield 13, 3) := dk_180 0 13 (dk_at dksX3_twice_3 17 rfl rfl)
theorem dX3_twice_92 : decode cX3_twice 92 = .ok (.ifCond .ge 7, 3) := dk_156 0 7 (dk_at dksX3_twice_3 20 rfl rfl)
theorem dX3_twice_95 : decode cX3_twice 95 = .ok (.iconst (-1), 1) := dk_2 (dk_at dksX3_twice_3 23 rfl rfl)
theorem dX3_twice_96 : decode cX3_twice 96 = .ok (.goto 8, 3) := dk_167 0 8 (dk_at dksX3_twice_4 0 rfl rfl)
theorem dX3_twice_99 : decode cX3_twice 99 = .ok (.iconst 1, 1) := dk_4 (dk_at dksX3_twice_4 3 rfl rfl)
theorem dX3_twice_100 : decode cX3_twice 100 = .ok (.goto 4, 3) := dk_167 0 4 (dk_at dksX3_twice_4 4 rfl rfl)
theorem dX3_twice_103 : decode cX3_twice 103 = .ok (.iconst 0, 1) := dk_3 (dk_at dksX3_twice_4 7 rfl rfl)
theorem dX3_twice_104 : decode cX3_twice 104 = .ok (.putfield 13, 3) := dk_181 0 13 (dk_at dksX3_twice_4 8 rfl rfl)
theorem dX3_twice_107 : decode cX3_twice 107 = .ok (.return_, 1) := dk_177 (dk_at dksX3_twice_4 11 rfl rfl)
abbrev cX3_isOdd : ByteArray := prog_19_method_5_code
def yX3_isOdd : MethodName := ⟨RX3, "isOdd", "()Z"⟩
def dkwX3_isOdd_1 : List UInt8 := [172]
abbrev dktX3_isOdd_1 : List UInt8 := dkwX3_isOdd_1 ++ []
def dkwX3_isOdd_0 : List UInt8 := [42, 180, 0, 17, 158, 0, 19, 42, 180, 0, 7, 3, 46, 4, 126, 4, 160, 0, 7, 4, 167, 0, 4, 3]
abbrev dktX3_isOdd_0 : List UInt8 := dkwX3_isOdd_0 ++ dktX3_isOdd_1
theorem dksX3_isOdd_0 : cX3_isOdd.data.toList.drop 0 = dktX3_isOdd_0 := by decide +kernel
theorem dksX3_isOdd_1 : cX3_isOdd.data.toList.drop 24 = dktX3_isOdd_1 := dk_seg dksX3_isOdd_0 24 rfl rfl
theorem dX3_isOdd_0 : decode cX3_isOdd 0 = .ok (.aload_n 0, 1) := dk_42 (dk_at dksX3_isOdd_0 0 rfl rfl)
theorem dX3_isOdd_1 : decode cX3_isOdd 1 = .ok (.getfield 17, 3) := dk_180 0 17 (dk_at dksX3_isOdd_0 1 rfl rfl)
theorem dX3_isOdd_4 : decode cX3_isOdd 4 = .ok (.ifCond .le 19, 3) := dk_158 0 19 (dk_at dksX3_isOdd_0 4 rfl rfl)
theorem dX3_isOdd_7 : decode cX3_isOdd 7 = .ok (.aload_n 0, 1) := dk_42 (dk_at dksX3_isOdd_0 7 rfl rfl)
theorem dX3_isOdd_8 : decode cX3_isOdd 8 = .ok (.getfield 7, 3) := dk_180 0 7 (dk_at dksX3_isOdd_0 8 rfl rfl)
theorem dX3_isOdd_11 : decode cX3_isOdd 11 = .ok (.iconst 0, 1) := dk_3 (dk_at dksX3_isOdd_0 11 rfl rfl)
theorem dX3_isOdd_12 : decode cX3_isOdd 12 = .ok (.iaload, 1) := dk_46 (dk_at dksX3_isOdd_0 12 rfl rfl)
theorem dX3_isOdd_13 : decode cX3_isOdd 13 = .ok (.iconst 1, 1) := dk_4 (dk_at dksX3_isOdd_0 13 rfl rfl)
theorem dX3_isOdd_14 : decode cX3_isOdd 14 = .ok (.iand, 1) := dk_126 (dk_at dksX3_isOdd_0 14 rfl rfl)
theorem dX3_isOdd_15 : decode cX3_isOdd 15 = .ok (.iconst 1, 1) := dk_4 (dk_at dksX3_isOdd_0 15 rfl rfl)
theorem dX3_isOdd_16 : decode cX3_isOdd 16 = .ok (.if_icmp .ne 7, 3) := dk_160 0 7 (dk_at dksX3_isOdd_0 16 rfl rfl)
theorem dX3_isOdd_19 : decode cX3_isOdd 19 = .ok (.iconst 1, 1) := dk_4 (dk_at dksX3_isOdd_0 19 rfl rfl)
theorem dX3_isOdd_20 : decode cX3_isOdd 20 = .ok (.goto 4, 3) := dk_167 0 4 (dk_at dksX3_isOdd_0 20 rfl rfl)
theorem dX3_isOdd_23 : decode cX3_isOdd 23 = .ok (.iconst 0, 1) := dk_3 (dk_at dksX3_isOdd_0 23 rfl rfl)
theorem dX3_isOdd_24 : decode cX3_isOdd 24 = .ok (.ireturn, 1) := dk_172 (dk_at dksX3_isOdd_1 0 rfl rfl)
abbrev cX3_halve : ByteArray := prog_19_method_8_code
def yX3_halve : MethodName := ⟨RX3, "halve", "()V"⟩
def dkwX3_halve_2 : List UInt8 := [177]
abbrev dktX3_halve_2 : List UInt8 := dkwX3_halve_2 ++ []
def dkwX3_halve_1 : List UInt8 := [62, 42, 180, 0, 7, 28, 29, 4, 122, 79, 29, 4, 126, 60, 132, 2, 255, 167, 255, 224, 42, 182, 0, 23]
abbrev dktX3_halve_1 : List UInt8 := dkwX3_halve_1 ++ dktX3_halve_2
def dkwX3_halve_0 : List UInt8 := [3, 60, 42, 180, 0, 17, 4, 100, 61, 28, 155, 0, 34, 27, 18, 22, 104, 42, 180, 0, 7, 28, 46, 96]
abbrev dktX3_halve_0 : List UInt8 := dkwX3_halve_0 ++ dktX3_halve_1
theorem dksX3_halve_0 : cX3_halve.data.toList.drop 0 = dktX3_halve_0 := by decide +kernel
theorem dksX3_halve_1 : cX3_halve.data.toList.drop 24 = dktX3_halve_1 := dk_seg dksX3_halve_0 24 rfl rfl
theorem dksX3_halve_2 : cX3_halve.data.toList.drop 48 = dktX3_halve_2 := dk_seg dksX3_halve_1 24 rfl rfl
theorem dX3_halve_0 : decode cX3_halve 0 = .ok (.iconst 0, 1) := dk_3 (dk_at dksX3_halve_0 0 rfl rfl)
theorem dX3_halve_1 : decode cX3_halve 1 = .ok (.istore_n 1, 1) := dk_60 (dk_at dksX3_halve_0 1 rfl rfl)
theorem dX3_halve_2 : decode cX3_halve 2 = .ok (.aload_n 0, 1) := dk_42 (dk_at dksX3_halve_0 2 rfl rfl)
theorem dX3_halve_3 : decode cX3_halve 3 = .ok (.getfield 17, 3) := dk_180 0 17 (dk_at dksX3_halve_0 3 rfl rfl)
theorem dX3_halve_6 : decode cX3_halve 6 = .ok (.iconst 1, 1) := dk_4 (dk_at dksX3_halve_0 6 rfl rfl)
theorem dX3_halve_7 : decode cX3_halve 7 = .ok (.isub, 1) := dk_100 (dk_at dksX3_halve_0 7 rfl rfl)
theorem dX3_halve_8 : decode cX3_halve 8 = .ok (.istore_n 2, 1) := dk_61 (dk_at dksX3_halve_0 8 rfl rfl)
theorem dX3_halve_9 : decode cX3_halve 9 = .ok (.iload_n 2, 1) := dk_28 (dk_at dksX3_halve_0 9 rfl rfl)
theorem dX3_halve_10 : decode cX3_halve 10 = .ok (.ifCond .lt 34, 3) := dk_155 0 34 (dk_at dksX3_halve_0 10 rfl rfl)
theorem dX3_halve_13 : decode cX3_halve 13 = .ok (.iload_n 1, 1) := dk_27 (dk_at dksX3_halve_0 13 rfl rfl)
theorem dX3_halve_14 : decode cX3_halve 14 = .ok (.ldc 22, 2) := dk_18 22 (dk_at dksX3_halve_0 14 rfl rfl)
theorem dX3_halve_16 : decode cX3_halve 16 = .ok (.imul, 1) := dk_104 (dk_at dksX3_halve_0 16 rfl rfl)
theorem dX3_halve_17 : decode cX3_halve 17 = .ok (.aload_n 0, 1) := dk_42 (dk_at dksX3_halve_0 17 rfl rfl)
theorem dX3_halve_18 : decode cX3_halve 18 = .ok (.getfield 7, 3) := dk_180 0 7 (dk_at dksX3_halve_0 18 rfl rfl)
theorem dX3_halve_21 : decode cX3_halve 21 = .ok (.iload_n 2, 1) := dk_28 (dk_at dksX3_halve_0 21 rfl rfl)
theorem dX3_halve_22 : decode cX3_halve 22 = .ok (.iaload, 1) := dk_46 (dk_at dksX3_halve_0 22 rfl rfl)
theorem dX3_halve_23 : decode cX3_halve 23 = .ok (.iadd, 1) := dk_96 (dk_at dksX3_halve_0 23 rfl rfl)
theorem dX3_halve_24 : decode cX3_halve 24 = .ok (.istore_n 3, 1) := dk_62 (dk_at dksX3_halve_1 0 rfl rfl)
theorem dX3_halve_25 : decode cX3_halve 25 = .ok (.aload_n 0, 1) := dk_42 (dk_at dksX3_halve_1 1 rfl rfl)
theorem dX3_halve_26 : decode cX3_halve 26 = .ok (.getfield 7, 3) := dk_180 0 7 (dk_at dksX3_halve_1 2 rfl rfl)
theorem dX3_halve_29 : decode cX3_halve 29 = .ok (.iload_n 2, 1) := dk_28 (dk_at dksX3_halve_1 5 rfl rfl)
theorem dX3_halve_30 : decode cX3_halve 30 = .ok (.iload_n 3, 1) := dk_29 (dk_at dksX3_halve_1 6 rfl rfl)
theorem dX3_halve_31 : decode cX3_halve 31 = .ok (.iconst 1, 1) := dk_4 (dk_at dksX3_halve_1 7 rfl rfl)
theorem dX3_halve_32 : decode cX3_halve 32 = .ok (.ishr, 1) := dk_122 (dk_at dksX3_halve_1 8 rfl rfl)
theorem dX3_halve_33 : decode cX3_halve 33 = .ok (.iastore, 1) := dk_79 (dk_at dksX3_halve_1 9 rfl rfl)
theorem dX3_halve_34 : decode cX3_halve 34 = .ok (.iload_n 3, 1) := dk_29 (dk_at dksX3_halve_1 10 rfl rfl)
theorem dX3_halve_35 : decode cX3_halve 35 = .ok (.iconst 1, 1) := dk_4 (dk_at dksX3_halve_1 11 rfl rfl)
theorem dX3_halve_36 : decode cX3_halve 36 = .ok (.iand, 1) := dk_126 (dk_at dksX3_halve_1 12 rfl rfl)
theorem dX3_halve_37 : decode cX3_halve 37 = .ok (.istore_n 1, 1) := dk_60 (dk_at dksX3_halve_1 13 rfl rfl)
theorem dX3_halve_38 : decode cX3_halve 38 = .ok (.iinc 2 (-1), 3) := dk_132 2 255 (dk_at dksX3_halve_1 14 rfl rfl)
theorem dX3_halve_41 : decode cX3_halve 41 = .ok (.goto (-32), 3) := dk_167 255 224 (dk_at dksX3_halve_1 17 rfl rfl)
theorem dX3_halve_44 : decode cX3_halve 44 = .ok (.aload_n 0, 1) := dk_42 (dk_at dksX3_halve_1 20 rfl rfl)
theorem dX3_halve_45 : decode cX3_halve 45 = .ok (.invokevirtual 23, 3) := dk_182 0 23 (dk_at dksX3_halve_1 21 rfl rfl)
theorem dX3_halve_48 : decode cX3_halve 48 = .ok (.return_, 1) := dk_177 (dk_at dksX3_halve_2 0 rfl rfl)
theorem q102 : (Jvm.Cond.initialized "IdealCourt$Whole") ∈ lw_all := lw_g (lw_at lw_m1 4 rfl) rfl
theorem q173 : (Jvm.Cond.instantiable "IdealCourt$Whole" (3 : Nat)) ∈ lw_all := lw_g (lw_at lw_m1 75 rfl) rfl
theorem q175 : (Jvm.Cond.instanceMethod ({ cls := "IdealCourt$Whole", name := "<init>", desc := "(I)V" } : Jvm.MethodName)) ∈ lw_all := lw_g (lw_at lw_m1 77 rfl) rfl
theorem q176 : (Jvm.Cond.code ({ cls := "IdealCourt$Whole", name := "<init>", desc := "(I)V" } : Jvm.MethodName) prog_19_method_1_code (2 : Nat) (Option.none : Option Jvm.ClassFile.FieldType)) ∈ lw_all := lw_g (lw_at lw_m1 78 rfl) rfl
theorem q177 : (Jvm.Cond.methodLink "IdealCourt$Whole" (1 : Nat) ({ cls := "java/lang/Object", name := "<init>", desc := "()V" } : Jvm.MethodName)) ∈ lw_all := lw_g (lw_at lw_m1 79 rfl) rfl
theorem q178 : (Jvm.Cond.fieldLink "IdealCourt$Whole" (7 : Nat) "IdealCourt$Whole" "digits" "[I") ∈ lw_all := lw_g (lw_at lw_m1 80 rfl) rfl
theorem q185 : (Jvm.Cond.fieldLink "IdealCourt$Whole" (17 : Nat) "IdealCourt$Whole" "size" "I") ∈ lw_all := lw_g (lw_at lw_m1 87 rfl) rfl
theorem q190 : (Jvm.Cond.fieldLink "IdealCourt$Whole" (13 : Nat) "IdealCourt$Whole" "sign" "I") ∈ lw_all := lw_g (lw_at lw_m1 92 rfl) rfl
theorem q197 : (Jvm.Cond.laysFinal "IdealCourt$Whole" "IdealCourt$Whole" "digits" "[I") ∈ lw_all := lw_g (lw_at lw_m1 99 rfl) rfl
theorem q198 : (Jvm.Cond.soleField "IdealCourt$Whole" "digits") ∈ lw_all := lw_g (lw_at lw_m1 100 rfl) rfl
theorem q199 : (Jvm.Cond.lays "IdealCourt$Whole" "IdealCourt$Whole" "size" "I") ∈ lw_all := lw_g (lw_at lw_m1 101 rfl) rfl
theorem q200 : (Jvm.Cond.soleField "IdealCourt$Whole" "size") ∈ lw_all := lw_g (lw_at lw_m1 102 rfl) rfl
theorem q201 : (Jvm.Cond.lays "IdealCourt$Whole" "IdealCourt$Whole" "sign" "I") ∈ lw_all := lw_g (lw_at lw_m1 103 rfl) rfl
theorem q202 : (Jvm.Cond.soleField "IdealCourt$Whole" "sign") ∈ lw_all := lw_g (lw_at lw_m1 104 rfl) rfl
theorem q203 : (Jvm.Cond.superclass "IdealCourt$Whole" "java/lang/Object") ∈ lw_all := lw_g (lw_at lw_m1 105 rfl) rfl
theorem q254 : (Jvm.Cond.instanceMethod ({ cls := "IdealCourt$Whole", name := "set", desc := "(J)V" } : Jvm.MethodName)) ∈ lw_all := lw_g (lw_at lw_m1 156 rfl) rfl
theorem q255 : (Jvm.Cond.selects "IdealCourt$Whole" ({ cls := "IdealCourt$Whole", name := "set", desc := "(J)V" } : Jvm.MethodName) ({ cls := "IdealCourt$Whole", name := "set", desc := "(J)V" } : Jvm.MethodName)) ∈ lw_all := lw_g (lw_at lw_m1 157 rfl) rfl
theorem q256 : (Jvm.Cond.code ({ cls := "IdealCourt$Whole", name := "set", desc := "(J)V" } : Jvm.MethodName) prog_19_method_2_code (5 : Nat) (Option.none : Option Jvm.ClassFile.FieldType)) ∈ lw_all := lw_g (lw_at lw_m1 158 rfl) rfl
theorem q257 : (Jvm.Cond.constantLong "IdealCourt$Whole" (20 : Nat) (1000000000 : Int64)) ∈ lw_all := lw_g (lw_at lw_m1 159 rfl) rfl
theorem q928 : (Jvm.Cond.instanceMethod ({ cls := "IdealCourt$Whole", name := "be", desc := "(LIdealCourt$Whole;)V" } : Jvm.MethodName)) ∈ lw_all := lw_g (lw_at lw_m4 110 rfl) rfl
theorem q929 : (Jvm.Cond.selects "IdealCourt$Whole" ({ cls := "IdealCourt$Whole", name := "be", desc := "(LIdealCourt$Whole;)V" } : Jvm.MethodName) ({ cls := "IdealCourt$Whole", name := "be", desc := "(LIdealCourt$Whole;)V" } : Jvm.MethodName)) ∈ lw_all := lw_g (lw_at lw_m4 111 rfl) rfl
theorem q930 : (Jvm.Cond.code ({ cls := "IdealCourt$Whole", name := "be", desc := "(LIdealCourt$Whole;)V" } : Jvm.MethodName) prog_19_method_3_code (3 : Nat) (Option.none : Option Jvm.ClassFile.FieldType)) ∈ lw_all := lw_g (lw_at lw_m4 112 rfl) rfl
theorem q951 : (Jvm.Cond.instanceMethod ({ cls := "IdealCourt$Whole", name := "trim", desc := "()V" } : Jvm.MethodName)) ∈ lw_all := lw_g (lw_at lw_m4 133 rfl) rfl
theorem q952 : (Jvm.Cond.selects "IdealCourt$Whole" ({ cls := "IdealCourt$Whole", name := "trim", desc := "()V" } : Jvm.MethodName) ({ cls := "IdealCourt$Whole", name := "trim", desc := "()V" } : Jvm.MethodName)) ∈ lw_all := lw_g (lw_at lw_m4 134 rfl) rfl
theorem q953 : (Jvm.Cond.code ({ cls := "IdealCourt$Whole", name := "trim", desc := "()V" } : Jvm.MethodName) prog_19_method_6_code (1 : Nat) (Option.none : Option Jvm.ClassFile.FieldType)) ∈ lw_all := lw_g (lw_at lw_m4 135 rfl) rfl
theorem q955 : (Jvm.Cond.instanceMethod ({ cls := "IdealCourt$Whole", name := "isOne", desc := "()Z" } : Jvm.MethodName)) ∈ lw_all := lw_g (lw_at lw_m4 137 rfl) rfl
theorem q956 : (Jvm.Cond.selects "IdealCourt$Whole" ({ cls := "IdealCourt$Whole", name := "isOne", desc := "()Z" } : Jvm.MethodName) ({ cls := "IdealCourt$Whole", name := "isOne", desc := "()Z" } : Jvm.MethodName)) ∈ lw_all := lw_g (lw_at lw_m4 138 rfl) rfl
theorem q957 : (Jvm.Cond.code ({ cls := "IdealCourt$Whole", name := "isOne", desc := "()Z" } : Jvm.MethodName) prog_19_method_4_code (1 : Nat) (Option.some Jvm.ClassFile.FieldType.boolean)) ∈ lw_all := lw_g (lw_at lw_m4 139 rfl) rfl
theorem q983 : (Jvm.Cond.instanceMethod ({ cls := "IdealCourt$Whole", name := "fits", desc := "()Z" } : Jvm.MethodName)) ∈ lw_all := lw_g (lw_at lw_m4 165 rfl) rfl
theorem q984 : (Jvm.Cond.selects "IdealCourt$Whole" ({ cls := "IdealCourt$Whole", name := "fits", desc := "()Z" } : Jvm.MethodName) ({ cls := "IdealCourt$Whole", name := "fits", desc := "()Z" } : Jvm.MethodName)) ∈ lw_all := lw_g (lw_at lw_m4 166 rfl) rfl
theorem q985 : (Jvm.Cond.code ({ cls := "IdealCourt$Whole", name := "fits", desc := "()Z" } : Jvm.MethodName) prog_19_method_9_code (1 : Nat) (Option.some Jvm.ClassFile.FieldType.boolean)) ∈ lw_all := lw_g (lw_at lw_m4 167 rfl) rfl
theorem q1273 : (Jvm.Cond.instanceMethod ({ cls := "IdealCourt$Whole", name := "twice", desc := "(I)V" } : Jvm.MethodName)) ∈ lw_all := lw_g (lw_at lw_m5 215 rfl) rfl
theorem q1274 : (Jvm.Cond.selects "IdealCourt$Whole" ({ cls := "IdealCourt$Whole", name := "twice", desc := "(I)V" } : Jvm.MethodName) ({ cls := "IdealCourt$Whole", name := "twice", desc := "(I)V" } : Jvm.MethodName)) ∈ lw_all := lw_g (lw_at lw_m5 216 rfl) rfl
theorem q1275 : (Jvm.Cond.code ({ cls := "IdealCourt$Whole", name := "twice", desc := "(I)V" } : Jvm.MethodName) prog_19_method_7_code (5 : Nat) (Option.none : Option Jvm.ClassFile.FieldType)) ∈ lw_all := lw_g (lw_at lw_m5 217 rfl) rfl
theorem q1276 : (Jvm.Cond.constant "IdealCourt$Whole" (22 : Nat) (1000000000 : Int32)) ∈ lw_all := lw_g (lw_at lw_m5 218 rfl) rfl
theorem q1285 : (Jvm.Cond.instanceMethod ({ cls := "IdealCourt$Whole", name := "isOdd", desc := "()Z" } : Jvm.MethodName)) ∈ lw_all := lw_g (lw_at lw_m5 227 rfl) rfl
theorem q1286 : (Jvm.Cond.selects "IdealCourt$Whole" ({ cls := "IdealCourt$Whole", name := "isOdd", desc := "()Z" } : Jvm.MethodName) ({ cls := "IdealCourt$Whole", name := "isOdd", desc := "()Z" } : Jvm.MethodName)) ∈ lw_all := lw_g (lw_at lw_m5 228 rfl) rfl
theorem q1287 : (Jvm.Cond.code ({ cls := "IdealCourt$Whole", name := "isOdd", desc := "()Z" } : Jvm.MethodName) prog_19_method_5_code (1 : Nat) (Option.some Jvm.ClassFile.FieldType.boolean)) ∈ lw_all := lw_g (lw_at lw_m5 229 rfl) rfl
theorem q1289 : (Jvm.Cond.instanceMethod ({ cls := "IdealCourt$Whole", name := "halve", desc := "()V" } : Jvm.MethodName)) ∈ lw_all := lw_g (lw_at lw_m5 231 rfl) rfl
theorem q1290 : (Jvm.Cond.selects "IdealCourt$Whole" ({ cls := "IdealCourt$Whole", name := "halve", desc := "()V" } : Jvm.MethodName) ({ cls := "IdealCourt$Whole", name := "halve", desc := "()V" } : Jvm.MethodName)) ∈ lw_all := lw_g (lw_at lw_m5 232 rfl) rfl
theorem q1291 : (Jvm.Cond.code ({ cls := "IdealCourt$Whole", name := "halve", desc := "()V" } : Jvm.MethodName) prog_19_method_8_code (4 : Nat) (Option.none : Option Jvm.ClassFile.FieldType)) ∈ lw_all := lw_g (lw_at lw_m5 233 rfl) rfl
theorem q1292 : (Jvm.Cond.methodLink "IdealCourt$Whole" (23 : Nat) ({ cls := "IdealCourt$Whole", name := "trim", desc := "()V" } : Jvm.MethodName)) ∈ lw_all := lw_g (lw_at lw_m5 234 rfl) rfl
theorem in_X3 : ∀ w ∈ wsX30, w ∈ lw_all := lw_in wsX30 [197, 199, 201] (by decide +kernel) (by decide +kernel)
