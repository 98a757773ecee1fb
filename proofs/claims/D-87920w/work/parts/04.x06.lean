/-! IdealCourt$Ratio -/
set_option maxRecDepth 100000
def RX6 : String := "IdealCourt$Ratio"
def TX6 : u_T := fun k => match k with
  | 0 => ("IdealCourt$Ratio", "by", "LIdealCourt$Reckoner;", true)
  | 1 => ("IdealCourt$Ratio", "top", "LIdealCourt$Whole;", true)
  | 2 => ("IdealCourt$Ratio", "under", "LIdealCourt$Whole;", true)
  | 3 => ("IdealCourt$Ratio", "help", "LIdealCourt$Whole;", true)
  | _ => ("IdealCourt$Ratio", "more", "LIdealCourt$Whole;", true)
def tyX6 : Nat → FieldType := fun k => match k with
  | 0 => .object "IdealCourt$Reckoner"
  | 1 => .object "IdealCourt$Whole"
  | 2 => .object "IdealCourt$Whole"
  | 3 => .object "IdealCourt$Whole"
  | _ => .object "IdealCourt$Whole"
abbrev wsX60 : List Cond := u_ws RX6 TX6 5
theorem nmX6 : ∀ a, a < 5 → ∀ b, b < 5 → a ≠ b → (TX6 a).2.1 ≠ (TX6 b).2.1 := by decide +kernel
theorem tyX6_ok : ∀ k, k < 5 → parseFieldDescriptor (TX6 k).2.2.1 = some (tyX6 k) := by decide +kernel
abbrev cX6_init : ByteArray := prog_10_method_1_code
def yX6_init : MethodName := ⟨RX6, "<init>", "(LIdealCourt$Reckoner;)V"⟩
def dkwX6_init_3 : List UInt8 := [182, 0, 33, 177]
abbrev dktX6_init_3 : List UInt8 := dkwX6_init_3 ++ []
def dkwX6_init_2 : List UInt8 := [187, 0, 7, 89, 17, 0, 160, 183, 0, 11, 181, 0, 26, 42, 43, 181, 0, 29, 42, 180, 0, 20, 10]
abbrev dktX6_init_2 : List UInt8 := dkwX6_init_2 ++ dktX6_init_3
def dkwX6_init_1 : List UInt8 := [17, 0, 160, 183, 0, 11, 181, 0, 20, 42, 187, 0, 7, 89, 17, 0, 160, 183, 0, 11, 181, 0, 23, 42]
abbrev dktX6_init_1 : List UInt8 := dkwX6_init_1 ++ dktX6_init_2
def dkwX6_init_0 : List UInt8 := [42, 183, 0, 1, 42, 187, 0, 7, 89, 17, 0, 160, 183, 0, 11, 181, 0, 14, 42, 187, 0, 7, 89]
abbrev dktX6_init_0 : List UInt8 := dkwX6_init_0 ++ dktX6_init_1
theorem dksX6_init_0 : cX6_init.data.toList.drop 0 = dktX6_init_0 := by decide +kernel
theorem dksX6_init_1 : cX6_init.data.toList.drop 23 = dktX6_init_1 := dk_seg dksX6_init_0 23 rfl rfl
theorem dksX6_init_2 : cX6_init.data.toList.drop 47 = dktX6_init_2 := dk_seg dksX6_init_1 24 rfl rfl
theorem dksX6_init_3 : cX6_init.data.toList.drop 70 = dktX6_init_3 := dk_seg dksX6_init_2 23 rfl rfl
theorem dX6_init_0 : decode cX6_init 0 = .ok (.aload_n 0, 1) := dk_42 (dk_at dksX6_init_0 0 rfl rfl)
theorem dX6_init_1 : decode cX6_init 1 = .ok (.invokespecial 1, 3) := dk_183 0 1 (dk_at dksX6_init_0 1 rfl rfl)
theorem dX6_init_4 : decode cX6_init 4 = .ok (.aload_n 0, 1) := dk_42 (dk_at dksX6_init_0 4 rfl rfl)
theorem dX6_init_5 : decode cX6_init 5 = .ok (.new 7, 3) := dk_187 0 7 (dk_at dksX6_init_0 5 rfl rfl)
theorem dX6_init_8 : decode cX6_init 8 = .ok (.dup, 1) := dk_89 (dk_at dksX6_init_0 8 rfl rfl)
theorem dX6_init_9 : decode cX6_init 9 = .ok (.sipush 160, 3) := dk_17 0 160 (dk_at dksX6_init_0 9 rfl rfl)
theorem dX6_init_12 : decode cX6_init 12 = .ok (.invokespecial 11, 3) := dk_183 0 11 (dk_at dksX6_init_0 12 rfl rfl)
theorem dX6_init_15 : decode cX6_init 15 = .ok (.putfield 14, 3) := dk_181 0 14 (dk_at dksX6_init_0 15 rfl rfl)
theorem dX6_init_18 : decode cX6_init 18 = .ok (.aload_n 0, 1) := dk_42 (dk_at dksX6_init_0 18 rfl rfl)
theorem dX6_init_19 : decode cX6_init 19 = .ok (.new 7, 3) := dk_187 0 7 (dk_at dksX6_init_0 19 rfl rfl)
theorem dX6_init_22 : decode cX6_init 22 = .ok (.dup, 1) := dk_89 (dk_at dksX6_init_0 22 rfl rfl)
theorem dX6_init_23 : decode cX6_init 23 = .ok (.sipush 160, 3) := dk_17 0 160 (dk_at dksX6_init_1 0 rfl rfl)
theorem dX6_init_26 : decode cX6_init 26 = .ok (.invokespecial 11, 3) := dk_183 0 11 (dk_at dksX6_init_1 3 rfl rfl)
theorem dX6_init_29 : decode cX6_init 29 = .ok (.putfield 20, 3) := dk_181 0 20 (dk_at dksX6_init_1 6 rfl rfl)
theorem dX6_init_32 : decode cX6_init 32 = .ok (.aload_n 0, 1) := dk_42 (dk_at dksX6_init_1 9 rfl rfl)
theorem dX6_init_33 : decode cX6_init 33 = .ok (.new 7, 3) := dk_187 0 7 (dk_at dksX6_init_1 10 rfl rfl)
theorem dX6_init_36 : decode cX6_init 36 = .ok (.dup, 1) := dk_89 (dk_at dksX6_init_1 13 rfl rfl)
theorem dX6_init_37 : decode cX6_init 37 = .ok (.sipush 160, 3) := dk_17 0 160 (dk_at dksX6_init_1 14 rfl rfl)
theorem dX6_init_40 : decode cX6_init 40 = .ok (.invokespecial 11, 3) := dk_183 0 11 (dk_at dksX6_init_1 17 rfl rfl)
theorem dX6_init_43 : decode cX6_init 43 = .ok (.putfield 23, 3) := dk_181 0 23 (dk_at dksX6_init_1 20 rfl rfl)
theorem dX6_init_46 : decode cX6_init 46 = .ok (.aload_n 0, 1) := dk_42 (dk_at dksX6_init_1 23 rfl rfl)
theorem dX6_init_47 : decode cX6_init 47 = .ok (.new 7, 3) := dk_187 0 7 (dk_at dksX6_init_2 0 rfl rfl)
theorem dX6_init_50 : decode cX6_init 50 = .ok (.dup, 1) := dk_89 (dk_at dksX6_init_2 3 rfl rfl)
theorem dX6_init_51 : decode cX6_init 51 = .ok (.sipush 160, 3) := dk_17 0 160 (dk_at dksX6_init_2 4 rfl rfl)
theorem dX6_init_54 : decode cX6_init 54 = .ok (.invokespecial 11, 3) := dk_183 0 11 (dk_at dksX6_init_2 7 rfl rfl)
theorem dX6_init_57 : decode cX6_init 57 = .ok (.putfield 26, 3) := dk_181 0 26 (dk_at dksX6_init_2 10 rfl rfl)
theorem dX6_init_60 : decode cX6_init 60 = .ok (.aload_n 0, 1) := dk_42 (dk_at dksX6_init_2 13 rfl rfl)
theorem dX6_init_61 : decode cX6_init 61 = .ok (.aload_n 1, 1) := dk_43 (dk_at dksX6_init_2 14 rfl rfl)
theorem dX6_init_62 : decode cX6_init 62 = .ok (.putfield 29, 3) := dk_181 0 29 (dk_at dksX6_init_2 15 rfl rfl)
theorem dX6_init_65 : decode cX6_init 65 = .ok (.aload_n 0, 1) := dk_42 (dk_at dksX6_init_2 18 rfl rfl)
theorem dX6_init_66 : decode cX6_init 66 = .ok (.getfield 20, 3) := dk_180 0 20 (dk_at dksX6_init_2 19 rfl rfl)
theorem dX6_init_69 : decode cX6_init 69 = .ok (.lconst 1, 1) := dk_10 (dk_at dksX6_init_2 22 rfl rfl)
theorem dX6_init_70 : decode cX6_init 70 = .ok (.invokevirtual 33, 3) := dk_182 0 33 (dk_at dksX6_init_3 0 rfl rfl)
theorem dX6_init_73 : decode cX6_init 73 = .ok (.return_, 1) := dk_177 (dk_at dksX6_init_3 3 rfl rfl)
abbrev cX6_set : ByteArray := prog_10_method_2_code
def yX6_set : MethodName := ⟨RX6, "set", "(JJ)V"⟩
def dkwX6_set_0 : List UInt8 := [42, 180, 0, 14, 31, 182, 0, 33, 42, 180, 0, 20, 33, 182, 0, 33, 42, 182, 0, 37, 177]
abbrev dktX6_set_0 : List UInt8 := dkwX6_set_0 ++ []
theorem dksX6_set_0 : cX6_set.data.toList.drop 0 = dktX6_set_0 := by decide +kernel
theorem dX6_set_0 : decode cX6_set 0 = .ok (.aload_n 0, 1) := dk_42 (dk_at dksX6_set_0 0 rfl rfl)
theorem dX6_set_1 : decode cX6_set 1 = .ok (.getfield 14, 3) := dk_180 0 14 (dk_at dksX6_set_0 1 rfl rfl)
theorem dX6_set_4 : decode cX6_set 4 = .ok (.lload_n 1, 1) := dk_31 (dk_at dksX6_set_0 4 rfl rfl)
theorem dX6_set_5 : decode cX6_set 5 = .ok (.invokevirtual 33, 3) := dk_182 0 33 (dk_at dksX6_set_0 5 rfl rfl)
theorem dX6_set_8 : decode cX6_set 8 = .ok (.aload_n 0, 1) := dk_42 (dk_at dksX6_set_0 8 rfl rfl)
theorem dX6_set_9 : decode cX6_set 9 = .ok (.getfield 20, 3) := dk_180 0 20 (dk_at dksX6_set_0 9 rfl rfl)
theorem dX6_set_12 : decode cX6_set 12 = .ok (.lload_n 3, 1) := dk_33 (dk_at dksX6_set_0 12 rfl rfl)
theorem dX6_set_13 : decode cX6_set 13 = .ok (.invokevirtual 33, 3) := dk_182 0 33 (dk_at dksX6_set_0 13 rfl rfl)
theorem dX6_set_16 : decode cX6_set 16 = .ok (.aload_n 0, 1) := dk_42 (dk_at dksX6_set_0 16 rfl rfl)
theorem dX6_set_17 : decode cX6_set 17 = .ok (.invokevirtual 37, 3) := dk_182 0 37 (dk_at dksX6_set_0 17 rfl rfl)
theorem dX6_set_20 : decode cX6_set 20 = .ok (.return_, 1) := dk_177 (dk_at dksX6_set_0 20 rfl rfl)
abbrev cX6_shorten : ByteArray := prog_10_method_4_code
def yX6_shorten : MethodName := ⟨RX6, "shorten", "()V"⟩
def dkwX6_shorten_4 : List UInt8 := [180, 0, 20, 42, 180, 0, 23, 182, 0, 56, 177]
abbrev dktX6_shorten_4 : List UInt8 := dkwX6_shorten_4 ++ []
def dkwX6_shorten_3 : List UInt8 := [180, 0, 14, 42, 180, 0, 14, 42, 180, 0, 23, 182, 0, 56, 42, 180, 0, 29, 42, 180, 0, 20, 42]
abbrev dktX6_shorten_3 : List UInt8 := dkwX6_shorten_3 ++ dktX6_shorten_4
def dkwX6_shorten_2 : List UInt8 := [180, 0, 20, 182, 0, 48, 42, 180, 0, 23, 182, 0, 52, 153, 0, 4, 177, 42, 180, 0, 29, 42]
abbrev dktX6_shorten_2 : List UInt8 := dkwX6_shorten_2 ++ dktX6_shorten_3
def dkwX6_shorten_1 : List UInt8 := [180, 0, 14, 180, 0, 44, 116, 181, 0, 44, 42, 180, 0, 29, 42, 180, 0, 23, 42, 180, 0, 14, 42]
abbrev dktX6_shorten_1 : List UInt8 := dkwX6_shorten_1 ++ dktX6_shorten_2
def dkwX6_shorten_0 : List UInt8 := [42, 180, 0, 20, 180, 0, 44, 156, 0, 26, 42, 180, 0, 20, 4, 181, 0, 44, 42, 180, 0, 14, 42]
abbrev dktX6_shorten_0 : List UInt8 := dkwX6_shorten_0 ++ dktX6_shorten_1
theorem dksX6_shorten_0 : cX6_shorten.data.toList.drop 0 = dktX6_shorten_0 := by decide +kernel
theorem dksX6_shorten_1 : cX6_shorten.data.toList.drop 23 = dktX6_shorten_1 := dk_seg dksX6_shorten_0 23 rfl rfl
theorem dksX6_shorten_2 : cX6_shorten.data.toList.drop 46 = dktX6_shorten_2 := dk_seg dksX6_shorten_1 23 rfl rfl
theorem dksX6_shorten_3 : cX6_shorten.data.toList.drop 68 = dktX6_shorten_3 := dk_seg dksX6_shorten_2 22 rfl rfl
theorem dksX6_shorten_4 : cX6_shorten.data.toList.drop 91 = dktX6_shorten_4 := dk_seg dksX6_shorten_3 23 rfl rfl
theorem dX6_shorten_0 : decode cX6_shorten 0 = .ok (.aload_n 0, 1) := dk_42 (dk_at dksX6_shorten_0 0 rfl rfl)
theorem dX6_shorten_1 : decode cX6_shorten 1 = .ok (.getfield 20, 3) := dk_180 0 20 (dk_at dksX6_shorten_0 1 rfl rfl)
theorem dX6_shorten_4 : decode cX6_shorten 4 = .ok (.getfield 44, 3) := dk_180 0 44 (dk_at dksX6_shorten_0 4 rfl rfl)
theorem dX6_shorten_7 : decode cX6_shorten 7 = .ok (.ifCond .ge 26, 3) := dk_156 0 26 (dk_at dksX6_shorten_0 7 rfl rfl)
theorem dX6_shorten_10 : decode cX6_shorten 10 = .ok (.aload_n 0, 1) := dk_42 (dk_at dksX6_shorten_0 10 rfl rfl)
theorem dX6_shorten_11 : decode cX6_shorten 11 = .ok (.getfield 20, 3) := dk_180 0 20 (dk_at dksX6_shorten_0 11 rfl rfl)
theorem dX6_shorten_14 : decode cX6_shorten 14 = .ok (.iconst 1, 1) := dk_4 (dk_at dksX6_shorten_0 14 rfl rfl)
theorem dX6_shorten_15 : decode cX6_shorten 15 = .ok (.putfield 44, 3) := dk_181 0 44 (dk_at dksX6_shorten_0 15 rfl rfl)
theorem dX6_shorten_18 : decode cX6_shorten 18 = .ok (.aload_n 0, 1) := dk_42 (dk_at dksX6_shorten_0 18 rfl rfl)
theorem dX6_shorten_19 : decode cX6_shorten 19 = .ok (.getfield 14, 3) := dk_180 0 14 (dk_at dksX6_shorten_0 19 rfl rfl)
theorem dX6_shorten_22 : decode cX6_shorten 22 = .ok (.aload_n 0, 1) := dk_42 (dk_at dksX6_shorten_0 22 rfl rfl)
theorem dX6_shorten_23 : decode cX6_shorten 23 = .ok (.getfield 14, 3) := dk_180 0 14 (dk_at dksX6_shorten_1 0 rfl rfl)
theorem dX6_shorten_26 : decode cX6_shorten 26 = .ok (.getfield 44, 3) := dk_180 0 44 (dk_at dksX6_shorten_1 3 rfl rfl)
theorem dX6_shorten_29 : decode cX6_shorten 29 = .ok (.ineg, 1) := dk_116 (dk_at dksX6_shorten_1 6 rfl rfl)
theorem dX6_shorten_30 : decode cX6_shorten 30 = .ok (.putfield 44, 3) := dk_181 0 44 (dk_at dksX6_shorten_1 7 rfl rfl)
theorem dX6_shorten_33 : decode cX6_shorten 33 = .ok (.aload_n 0, 1) := dk_42 (dk_at dksX6_shorten_1 10 rfl rfl)
theorem dX6_shorten_34 : decode cX6_shorten 34 = .ok (.getfield 29, 3) := dk_180 0 29 (dk_at dksX6_shorten_1 11 rfl rfl)
theorem dX6_shorten_37 : decode cX6_shorten 37 = .ok (.aload_n 0, 1) := dk_42 (dk_at dksX6_shorten_1 14 rfl rfl)
theorem dX6_shorten_38 : decode cX6_shorten 38 = .ok (.getfield 23, 3) := dk_180 0 23 (dk_at dksX6_shorten_1 15 rfl rfl)
theorem dX6_shorten_41 : decode cX6_shorten 41 = .ok (.aload_n 0, 1) := dk_42 (dk_at dksX6_shorten_1 18 rfl rfl)
theorem dX6_shorten_42 : decode cX6_shorten 42 = .ok (.getfield 14, 3) := dk_180 0 14 (dk_at dksX6_shorten_1 19 rfl rfl)
theorem dX6_shorten_45 : decode cX6_shorten 45 = .ok (.aload_n 0, 1) := dk_42 (dk_at dksX6_shorten_1 22 rfl rfl)
theorem dX6_shorten_46 : decode cX6_shorten 46 = .ok (.getfield 20, 3) := dk_180 0 20 (dk_at dksX6_shorten_2 0 rfl rfl)
theorem dX6_shorten_49 : decode cX6_shorten 49 = .ok (.invokevirtual 48, 3) := dk_182 0 48 (dk_at dksX6_shorten_2 3 rfl rfl)
theorem dX6_shorten_52 : decode cX6_shorten 52 = .ok (.aload_n 0, 1) := dk_42 (dk_at dksX6_shorten_2 6 rfl rfl)
theorem dX6_shorten_53 : decode cX6_shorten 53 = .ok (.getfield 23, 3) := dk_180 0 23 (dk_at dksX6_shorten_2 7 rfl rfl)
theorem dX6_shorten_56 : decode cX6_shorten 56 = .ok (.invokevirtual 52, 3) := dk_182 0 52 (dk_at dksX6_shorten_2 10 rfl rfl)
theorem dX6_shorten_59 : decode cX6_shorten 59 = .ok (.ifCond .eq 4, 3) := dk_153 0 4 (dk_at dksX6_shorten_2 13 rfl rfl)
theorem dX6_shorten_62 : decode cX6_shorten 62 = .ok (.return_, 1) := dk_177 (dk_at dksX6_shorten_2 16 rfl rfl)
theorem dX6_shorten_63 : decode cX6_shorten 63 = .ok (.aload_n 0, 1) := dk_42 (dk_at dksX6_shorten_2 17 rfl rfl)
theorem dX6_shorten_64 : decode cX6_shorten 64 = .ok (.getfield 29, 3) := dk_180 0 29 (dk_at dksX6_shorten_2 18 rfl rfl)
theorem dX6_shorten_67 : decode cX6_shorten 67 = .ok (.aload_n 0, 1) := dk_42 (dk_at dksX6_shorten_2 21 rfl rfl)
theorem dX6_shorten_68 : decode cX6_shorten 68 = .ok (.getfield 14, 3) := dk_180 0 14 (dk_at dksX6_shorten_3 0 rfl rfl)
theorem dX6_shorten_71 : decode cX6_shorten 71 = .ok (.aload_n 0, 1) := dk_42 (dk_at dksX6_shorten_3 3 rfl rfl)
theorem dX6_shorten_72 : decode cX6_shorten 72 = .ok (.getfield 14, 3) := dk_180 0 14 (dk_at dksX6_shorten_3 4 rfl rfl)
theorem dX6_shorten_75 : decode cX6_shorten 75 = .ok (.aload_n 0, 1) := dk_42 (dk_at dksX6_shorten_3 7 rfl rfl)
theorem dX6_shorten_76 : decode cX6_shorten 76 = .ok (.getfield 23, 3) := dk_180 0 23 (dk_at dksX6_shorten_3 8 rfl rfl)
theorem dX6_shorten_79 : decode cX6_shorten 79 = .ok (.invokevirtual 56, 3) := dk_182 0 56 (dk_at dksX6_shorten_3 11 rfl rfl)
theorem dX6_shorten_82 : decode cX6_shorten 82 = .ok (.aload_n 0, 1) := dk_42 (dk_at dksX6_shorten_3 14 rfl rfl)
theorem dX6_shorten_83 : decode cX6_shorten 83 = .ok (.getfield 29, 3) := dk_180 0 29 (dk_at dksX6_shorten_3 15 rfl rfl)
theorem dX6_shorten_86 : decode cX6_shorten 86 = .ok (.aload_n 0, 1) := dk_42 (dk_at dksX6_shorten_3 18 rfl rfl)
theorem dX6_shorten_87 : decode cX6_shorten 87 = .ok (.getfield 20, 3) := dk_180 0 20 (dk_at dksX6_shorten_3 19 rfl rfl)
theorem dX6_shorten_90 : decode cX6_shorten 90 = .ok (.aload_n 0, 1) := dk_42 (dk_at dksX6_shorten_3 22 rfl rfl)
theorem dX6_shorten_91 : decode cX6_shorten 91 = .ok (.getfield 20, 3) := dk_180 0 20 (dk_at dksX6_shorten_4 0 rfl rfl)
theorem dX6_shorten_94 : decode cX6_shorten 94 = .ok (.aload_n 0, 1) := dk_42 (dk_at dksX6_shorten_4 3 rfl rfl)
theorem dX6_shorten_95 : decode cX6_shorten 95 = .ok (.getfield 23, 3) := dk_180 0 23 (dk_at dksX6_shorten_4 4 rfl rfl)
theorem dX6_shorten_98 : decode cX6_shorten 98 = .ok (.invokevirtual 56, 3) := dk_182 0 56 (dk_at dksX6_shorten_4 7 rfl rfl)
theorem dX6_shorten_101 : decode cX6_shorten 101 = .ok (.return_, 1) := dk_177 (dk_at dksX6_shorten_4 10 rfl rfl)
abbrev cX6_add : ByteArray := prog_10_method_5_code
def yX6_add : MethodName := ⟨RX6, "add", "(LIdealCourt$Ratio;I)V"⟩
def dkwX6_add_3 : List UInt8 := [180, 0, 20, 182, 0, 59, 42, 180, 0, 20, 42, 180, 0, 23, 182, 0, 40, 42, 182, 0, 37, 177]
abbrev dktX6_add_3 : List UInt8 := dkwX6_add_3 ++ []
def dkwX6_add_2 : List UInt8 := [180, 0, 23, 42, 180, 0, 26, 28, 182, 0, 62, 42, 180, 0, 29, 42, 180, 0, 23, 42, 180, 0, 20, 43]
abbrev dktX6_add_2 : List UInt8 := dkwX6_add_2 ++ dktX6_add_3
def dkwX6_add_1 : List UInt8 := [180, 0, 26, 43, 180, 0, 14, 42, 180, 0, 20, 182, 0, 59, 42, 180, 0, 29, 42, 180, 0, 14, 42]
abbrev dktX6_add_1 : List UInt8 := dkwX6_add_1 ++ dktX6_add_2
def dkwX6_add_0 : List UInt8 := [42, 180, 0, 29, 42, 180, 0, 23, 42, 180, 0, 14, 43, 180, 0, 20, 182, 0, 59, 42, 180, 0, 29, 42]
abbrev dktX6_add_0 : List UInt8 := dkwX6_add_0 ++ dktX6_add_1
theorem dksX6_add_0 : cX6_add.data.toList.drop 0 = dktX6_add_0 := by decide +kernel
theorem dksX6_add_1 : cX6_add.data.toList.drop 24 = dktX6_add_1 := dk_seg dksX6_add_0 24 rfl rfl
theorem dksX6_add_2 : cX6_add.data.toList.drop 47 = dktX6_add_2 := dk_seg dksX6_add_1 23 rfl rfl
theorem dksX6_add_3 : cX6_add.data.toList.drop 71 = dktX6_add_3 := dk_seg dksX6_add_2 24 rfl rfl
theorem dX6_add_0 : decode cX6_add 0 = .ok (.aload_n 0, 1) := dk_42 (dk_at dksX6_add_0 0 rfl rfl)
theorem dX6_add_1 : decode cX6_add 1 = .ok (.getfield 29, 3) := dk_180 0 29 (dk_at dksX6_add_0 1 rfl rfl)
theorem dX6_add_4 : decode cX6_add 4 = .ok (.aload_n 0, 1) := dk_42 (dk_at dksX6_add_0 4 rfl rfl)
theorem dX6_add_5 : decode cX6_add 5 = .ok (.getfield 23, 3) := dk_180 0 23 (dk_at dksX6_add_0 5 rfl rfl)
theorem dX6_add_8 : decode cX6_add 8 = .ok (.aload_n 0, 1) := dk_42 (dk_at dksX6_add_0 8 rfl rfl)
theorem dX6_add_9 : decode cX6_add 9 = .ok (.getfield 14, 3) := dk_180 0 14 (dk_at dksX6_add_0 9 rfl rfl)
theorem dX6_add_12 : decode cX6_add 12 = .ok (.aload_n 1, 1) := dk_43 (dk_at dksX6_add_0 12 rfl rfl)
theorem dX6_add_13 : decode cX6_add 13 = .ok (.getfield 20, 3) := dk_180 0 20 (dk_at dksX6_add_0 13 rfl rfl)
theorem dX6_add_16 : decode cX6_add 16 = .ok (.invokevirtual 59, 3) := dk_182 0 59 (dk_at dksX6_add_0 16 rfl rfl)
theorem dX6_add_19 : decode cX6_add 19 = .ok (.aload_n 0, 1) := dk_42 (dk_at dksX6_add_0 19 rfl rfl)
theorem dX6_add_20 : decode cX6_add 20 = .ok (.getfield 29, 3) := dk_180 0 29 (dk_at dksX6_add_0 20 rfl rfl)
theorem dX6_add_23 : decode cX6_add 23 = .ok (.aload_n 0, 1) := dk_42 (dk_at dksX6_add_0 23 rfl rfl)
theorem dX6_add_24 : decode cX6_add 24 = .ok (.getfield 26, 3) := dk_180 0 26 (dk_at dksX6_add_1 0 rfl rfl)
theorem dX6_add_27 : decode cX6_add 27 = .ok (.aload_n 1, 1) := dk_43 (dk_at dksX6_add_1 3 rfl rfl)
theorem dX6_add_28 : decode cX6_add 28 = .ok (.getfield 14, 3) := dk_180 0 14 (dk_at dksX6_add_1 4 rfl rfl)
theorem dX6_add_31 : decode cX6_add 31 = .ok (.aload_n 0, 1) := dk_42 (dk_at dksX6_add_1 7 rfl rfl)
theorem dX6_add_32 : decode cX6_add 32 = .ok (.getfield 20, 3) := dk_180 0 20 (dk_at dksX6_add_1 8 rfl rfl)
theorem dX6_add_35 : decode cX6_add 35 = .ok (.invokevirtual 59, 3) := dk_182 0 59 (dk_at dksX6_add_1 11 rfl rfl)
theorem dX6_add_38 : decode cX6_add 38 = .ok (.aload_n 0, 1) := dk_42 (dk_at dksX6_add_1 14 rfl rfl)
theorem dX6_add_39 : decode cX6_add 39 = .ok (.getfield 29, 3) := dk_180 0 29 (dk_at dksX6_add_1 15 rfl rfl)
theorem dX6_add_42 : decode cX6_add 42 = .ok (.aload_n 0, 1) := dk_42 (dk_at dksX6_add_1 18 rfl rfl)
theorem dX6_add_43 : decode cX6_add 43 = .ok (.getfield 14, 3) := dk_180 0 14 (dk_at dksX6_add_1 19 rfl rfl)
theorem dX6_add_46 : decode cX6_add 46 = .ok (.aload_n 0, 1) := dk_42 (dk_at dksX6_add_1 22 rfl rfl)
theorem dX6_add_47 : decode cX6_add 47 = .ok (.getfield 23, 3) := dk_180 0 23 (dk_at dksX6_add_2 0 rfl rfl)
theorem dX6_add_50 : decode cX6_add 50 = .ok (.aload_n 0, 1) := dk_42 (dk_at dksX6_add_2 3 rfl rfl)
theorem dX6_add_51 : decode cX6_add 51 = .ok (.getfield 26, 3) := dk_180 0 26 (dk_at dksX6_add_2 4 rfl rfl)
theorem dX6_add_54 : decode cX6_add 54 = .ok (.iload_n 2, 1) := dk_28 (dk_at dksX6_add_2 7 rfl rfl)
theorem dX6_add_55 : decode cX6_add 55 = .ok (.invokevirtual 62, 3) := dk_182 0 62 (dk_at dksX6_add_2 8 rfl rfl)
theorem dX6_add_58 : decode cX6_add 58 = .ok (.aload_n 0, 1) := dk_42 (dk_at dksX6_add_2 11 rfl rfl)
theorem dX6_add_59 : decode cX6_add 59 = .ok (.getfield 29, 3) := dk_180 0 29 (dk_at dksX6_add_2 12 rfl rfl)
theorem dX6_add_62 : decode cX6_add 62 = .ok (.aload_n 0, 1) := dk_42 (dk_at dksX6_add_2 15 rfl rfl)
theorem dX6_add_63 : decode cX6_add 63 = .ok (.getfield 23, 3) := dk_180 0 23 (dk_at dksX6_add_2 16 rfl rfl)
theorem dX6_add_66 : decode cX6_add 66 = .ok (.aload_n 0, 1) := dk_42 (dk_at dksX6_add_2 19 rfl rfl)
theorem dX6_add_67 : decode cX6_add 67 = .ok (.getfield 20, 3) := dk_180 0 20 (dk_at dksX6_add_2 20 rfl rfl)
theorem dX6_add_70 : decode cX6_add 70 = .ok (.aload_n 1, 1) := dk_43 (dk_at dksX6_add_2 23 rfl rfl)
theorem dX6_add_71 : decode cX6_add 71 = .ok (.getfield 20, 3) := dk_180 0 20 (dk_at dksX6_add_3 0 rfl rfl)
theorem dX6_add_74 : decode cX6_add 74 = .ok (.invokevirtual 59, 3) := dk_182 0 59 (dk_at dksX6_add_3 3 rfl rfl)
theorem dX6_add_77 : decode cX6_add 77 = .ok (.aload_n 0, 1) := dk_42 (dk_at dksX6_add_3 6 rfl rfl)
theorem dX6_add_78 : decode cX6_add 78 = .ok (.getfield 20, 3) := dk_180 0 20 (dk_at dksX6_add_3 7 rfl rfl)
theorem dX6_add_81 : decode cX6_add 81 = .ok (.aload_n 0, 1) := dk_42 (dk_at dksX6_add_3 10 rfl rfl)
theorem dX6_add_82 : decode cX6_add 82 = .ok (.getfield 23, 3) := dk_180 0 23 (dk_at dksX6_add_3 11 rfl rfl)
theorem dX6_add_85 : decode cX6_add 85 = .ok (.invokevirtual 40, 3) := dk_182 0 40 (dk_at dksX6_add_3 14 rfl rfl)
theorem dX6_add_88 : decode cX6_add 88 = .ok (.aload_n 0, 1) := dk_42 (dk_at dksX6_add_3 17 rfl rfl)
theorem dX6_add_89 : decode cX6_add 89 = .ok (.invokevirtual 37, 3) := dk_182 0 37 (dk_at dksX6_add_3 18 rfl rfl)
theorem dX6_add_92 : decode cX6_add 92 = .ok (.return_, 1) := dk_177 (dk_at dksX6_add_3 21 rfl rfl)
abbrev cX6_fits : ByteArray := prog_10_method_8_code
def yX6_fits : MethodName := ⟨RX6, "fits", "()Z"⟩
def dkwX6_fits_1 : List UInt8 := [3, 172]
abbrev dktX6_fits_1 : List UInt8 := dkwX6_fits_1 ++ []
def dkwX6_fits_0 : List UInt8 := [42, 180, 0, 14, 182, 0, 66, 153, 0, 17, 42, 180, 0, 20, 182, 0, 66, 153, 0, 7, 4, 167, 0, 4]
abbrev dktX6_fits_0 : List UInt8 := dkwX6_fits_0 ++ dktX6_fits_1
theorem dksX6_fits_0 : cX6_fits.data.toList.drop 0 = dktX6_fits_0 := by decide +kernel
theorem dksX6_fits_1 : cX6_fits.data.toList.drop 24 = dktX6_fits_1 := dk_seg dksX6_fits_0 24 rfl rfl
theorem dX6_fits_0 : decode cX6_fits 0 = .ok (.aload_n 0, 1) := dk_42 (dk_at dksX6_fits_0 0 rfl rfl)
theorem dX6_fits_1 : decode cX6_fits 1 = .ok (.getfield 14, 3) := dk_180 0 14 (dk_at dksX6_fits_0 1 rfl rfl)
theorem dX6_fits_4 : decode cX6_fits 4 = .ok (.invokevirtual 66, 3) := dk_182 0 66 (dk_at dksX6_fits_0 4 rfl rfl)
theorem dX6_fits_7 : decode cX6_fits 7 = .ok (.ifCond .eq 17, 3) := dk_153 0 17 (dk_at dksX6_fits_0 7 rfl rfl)
theorem dX6_fits_10 : decode cX6_fits 10 = .ok (.aload_n 0, 1) := dk_42 (dk_at dksX6_fits_0 10 rfl rfl)
theorem dX6_fits_11 : decode cX6_fits 11 = .ok (.getfield 20, 3) := dk_180 0 20 (dk_at dksX6_fits_0 11 rfl rfl)
theorem dX6_fits_14 : decode cX6_fits 14 = .ok (.invokevirtual 66, 3) := dk_182 0 66 (dk_at dksX6_fits_0 14 rfl rfl)
theorem dX6_fits_17 : decode cX6_fits 17 = .ok (.ifCond .eq 7, 3) := dk_153 0 7 (dk_at dksX6_fits_0 17 rfl rfl)
theorem dX6_fits_20 : decode cX6_fits 20 = .ok (.iconst 1, 1) := dk_4 (dk_at dksX6_fits_0 20 rfl rfl)
theorem dX6_fits_21 : decode cX6_fits 21 = .ok (.goto 4, 3) := dk_167 0 4 (dk_at dksX6_fits_0 21 rfl rfl)
theorem dX6_fits_24 : decode cX6_fits 24 = .ok (.iconst 0, 1) := dk_3 (dk_at dksX6_fits_1 0 rfl rfl)
theorem dX6_fits_25 : decode cX6_fits 25 = .ok (.ireturn, 1) := dk_172 (dk_at dksX6_fits_1 1 rfl rfl)
abbrev cX6_times : ByteArray := prog_10_method_6_code
def yX6_times : MethodName := ⟨RX6, "times", "(LIdealCourt$Ratio;)V"⟩
def dkwX6_times_2 : List UInt8 := [182, 0, 59, 42, 180, 0, 20, 42, 180, 0, 23, 182, 0, 40, 42, 182, 0, 37, 177]
abbrev dktX6_times_2 : List UInt8 := dkwX6_times_2 ++ []
def dkwX6_times_1 : List UInt8 := [180, 0, 23, 182, 0, 40, 42, 180, 0, 29, 42, 180, 0, 23, 42, 180, 0, 20, 43, 180, 0, 20]
abbrev dktX6_times_1 : List UInt8 := dkwX6_times_1 ++ dktX6_times_2
def dkwX6_times_0 : List UInt8 := [42, 180, 0, 29, 42, 180, 0, 23, 42, 180, 0, 14, 43, 180, 0, 14, 182, 0, 59, 42, 180, 0, 14, 42]
abbrev dktX6_times_0 : List UInt8 := dkwX6_times_0 ++ dktX6_times_1
theorem dksX6_times_0 : cX6_times.data.toList.drop 0 = dktX6_times_0 := by decide +kernel
theorem dksX6_times_1 : cX6_times.data.toList.drop 24 = dktX6_times_1 := dk_seg dksX6_times_0 24 rfl rfl
theorem dksX6_times_2 : cX6_times.data.toList.drop 46 = dktX6_times_2 := dk_seg dksX6_times_1 22 rfl rfl
theorem dX6_times_0 : decode cX6_times 0 = .ok (.aload_n 0, 1) := dk_42 (dk_at dksX6_times_0 0 rfl rfl)
theorem dX6_times_1 : decode cX6_times 1 = .ok (.getfield 29, 3) := dk_180 0 29 (dk_at dksX6_times_0 1 rfl rfl)
theorem dX6_times_4 : decode cX6_times 4 = .ok (.aload_n 0, 1) := dk_42 (dk_at dksX6_times_0 4 rfl rfl)
theorem dX6_times_5 : decode cX6_times 5 = .ok (.getfield 23, 3) := dk_180 0 23 (dk_at dksX6_times_0 5 rfl rfl)
theorem dX6_times_8 : decode cX6_times 8 = .ok (.aload_n 0, 1) := dk_42 (dk_at dksX6_times_0 8 rfl rfl)
theorem dX6_times_9 : decode cX6_times 9 = .ok (.getfield 14, 3) := dk_180 0 14 (dk_at dksX6_times_0 9 rfl rfl)
theorem dX6_times_12 : decode cX6_times 12 = .ok (.aload_n 1, 1) := dk_43 (dk_at dksX6_times_0 12 rfl rfl)
theorem dX6_times_13 : decode cX6_times 13 = .ok (.getfield 14, 3) := dk_180 0 14 (dk_at dksX6_times_0 13 rfl rfl)
theorem dX6_times_16 : decode cX6_times 16 = .ok (.invokevirtual 59, 3) := dk_182 0 59 (dk_at dksX6_times_0 16 rfl rfl)
theorem dX6_times_19 : decode cX6_times 19 = .ok (.aload_n 0, 1) := dk_42 (dk_at dksX6_times_0 19 rfl rfl)
theorem dX6_times_20 : decode cX6_times 20 = .ok (.getfield 14, 3) := dk_180 0 14 (dk_at dksX6_times_0 20 rfl rfl)
theorem dX6_times_23 : decode cX6_times 23 = .ok (.aload_n 0, 1) := dk_42 (dk_at dksX6_times_0 23 rfl rfl)
theorem dX6_times_24 : decode cX6_times 24 = .ok (.getfield 23, 3) := dk_180 0 23 (dk_at dksX6_times_1 0 rfl rfl)
theorem dX6_times_27 : decode cX6_times 27 = .ok (.invokevirtual 40, 3) := dk_182 0 40 (dk_at dksX6_times_1 3 rfl rfl)
theorem dX6_times_30 : decode cX6_times 30 = .ok (.aload_n 0, 1) := dk_42 (dk_at dksX6_times_1 6 rfl rfl)
theorem dX6_times_31 : decode cX6_times 31 = .ok (.getfield 29, 3) := dk_180 0 29 (dk_at dksX6_times_1 7 rfl rfl)
theorem dX6_times_34 : decode cX6_times 34 = .ok (.aload_n 0, 1) := dk_42 (dk_at dksX6_times_1 10 rfl rfl)
theorem dX6_times_35 : decode cX6_times 35 = .ok (.getfield 23, 3) := dk_180 0 23 (dk_at dksX6_times_1 11 rfl rfl)
theorem dX6_times_38 : decode cX6_times 38 = .ok (.aload_n 0, 1) := dk_42 (dk_at dksX6_times_1 14 rfl rfl)
theorem dX6_times_39 : decode cX6_times 39 = .ok (.getfield 20, 3) := dk_180 0 20 (dk_at dksX6_times_1 15 rfl rfl)
theorem dX6_times_42 : decode cX6_times 42 = .ok (.aload_n 1, 1) := dk_43 (dk_at dksX6_times_1 18 rfl rfl)
theorem dX6_times_43 : decode cX6_times 43 = .ok (.getfield 20, 3) := dk_180 0 20 (dk_at dksX6_times_1 19 rfl rfl)
theorem dX6_times_46 : decode cX6_times 46 = .ok (.invokevirtual 59, 3) := dk_182 0 59 (dk_at dksX6_times_2 0 rfl rfl)
theorem dX6_times_49 : decode cX6_times 49 = .ok (.aload_n 0, 1) := dk_42 (dk_at dksX6_times_2 3 rfl rfl)
theorem dX6_times_50 : decode cX6_times 50 = .ok (.getfield 20, 3) := dk_180 0 20 (dk_at dksX6_times_2 4 rfl rfl)
theorem dX6_times_53 : decode cX6_times 53 = .ok (.aload_n 0, 1) := dk_42 (dk_at dksX6_times_2 7 rfl rfl)
theorem dX6_times_54 : decode cX6_times 54 = .ok (.getfield 23, 3) := dk_180 0 23 (dk_at dksX6_times_2 8 rfl rfl)
theorem dX6_times_57 : decode cX6_times 57 = .ok (.invokevirtual 40, 3) := dk_182 0 40 (dk_at dksX6_times_2 11 rfl rfl)
theorem dX6_times_60 : decode cX6_times 60 = .ok (.aload_n 0, 1) := dk_42 (dk_at dksX6_times_2 14 rfl rfl)
theorem dX6_times_61 : decode cX6_times 61 = .ok (.invokevirtual 37, 3) := dk_182 0 37 (dk_at dksX6_times_2 15 rfl rfl)
theorem dX6_times_64 : decode cX6_times 64 = .ok (.return_, 1) := dk_177 (dk_at dksX6_times_2 18 rfl rfl)
abbrev cX6_over : ByteArray := prog_10_method_7_code
def yX6_over : MethodName := ⟨RX6, "over", "(LIdealCourt$Ratio;)V"⟩
def dkwX6_over_2 : List UInt8 := [182, 0, 40, 42, 180, 0, 20, 42, 180, 0, 26, 182, 0, 40, 42, 182, 0, 37, 177]
abbrev dktX6_over_2 : List UInt8 := dkwX6_over_2 ++ []
def dkwX6_over_1 : List UInt8 := [180, 0, 26, 42, 180, 0, 20, 43, 180, 0, 14, 182, 0, 59, 42, 180, 0, 14, 42, 180, 0, 23]
abbrev dktX6_over_1 : List UInt8 := dkwX6_over_1 ++ dktX6_over_2
def dkwX6_over_0 : List UInt8 := [42, 180, 0, 29, 42, 180, 0, 23, 42, 180, 0, 14, 43, 180, 0, 20, 182, 0, 59, 42, 180, 0, 29, 42]
abbrev dktX6_over_0 : List UInt8 := dkwX6_over_0 ++ dktX6_over_1
theorem dksX6_over_0 : cX6_over.data.toList.drop 0 = dktX6_over_0 := by decide +kernel
theorem dksX6_over_1 : cX6_over.data.toList.drop 24 = dktX6_over_1 := dk_seg dksX6_over_0 24 rfl rfl
theorem dksX6_over_2 : cX6_over.data.toList.drop 46 = dktX6_over_2 := dk_seg dksX6_over_1 22 rfl rfl
theorem dX6_over_0 : decode cX6_over 0 = .ok (.aload_n 0, 1) := dk_42 (dk_at dksX6_over_0 0 rfl rfl)
theorem dX6_over_1 : decode cX6_over 1 = .ok (.getfield 29, 3) := dk_180 0 29 (dk_at dksX6_over_0 1 rfl rfl)
theorem dX6_over_4 : decode cX6_over 4 = .ok (.aload_n 0, 1) := dk_42 (dk_at dksX6_over_0 4 rfl rfl)
theorem dX6_over_5 : decode cX6_over 5 = .ok (.getfield 23, 3) := dk_180 0 23 (dk_at dksX6_over_0 5 rfl rfl)
theorem dX6_over_8 : decode cX6_over 8 = .ok (.aload_n 0, 1) := dk_42 (dk_at dksX6_over_0 8 rfl rfl)
theorem dX6_over_9 : decode cX6_over 9 = .ok (.getfield 14, 3) := dk_180 0 14 (dk_at dksX6_over_0 9 rfl rfl)
theorem dX6_over_12 : decode cX6_over 12 = .ok (.aload_n 1, 1) := dk_43 (dk_at dksX6_over_0 12 rfl rfl)
theorem dX6_over_13 : decode cX6_over 13 = .ok (.getfield 20, 3) := dk_180 0 20 (dk_at dksX6_over_0 13 rfl rfl)
theorem dX6_over_16 : decode cX6_over 16 = .ok (.invokevirtual 59, 3) := dk_182 0 59 (dk_at dksX6_over_0 16 rfl rfl)
theorem dX6_over_19 : decode cX6_over 19 = .ok (.aload_n 0, 1) := dk_42 (dk_at dksX6_over_0 19 rfl rfl)
theorem dX6_over_20 : decode cX6_over 20 = .ok (.getfield 29, 3) := dk_180 0 29 (dk_at dksX6_over_0 20 rfl rfl)
theorem dX6_over_23 : decode cX6_over 23 = .ok (.aload_n 0, 1) := dk_42 (dk_at dksX6_over_0 23 rfl rfl)
theorem dX6_over_24 : decode cX6_over 24 = .ok (.getfield 26, 3) := dk_180 0 26 (dk_at dksX6_over_1 0 rfl rfl)
theorem dX6_over_27 : decode cX6_over 27 = .ok (.aload_n 0, 1) := dk_42 (dk_at dksX6_over_1 3 rfl rfl)
theorem dX6_over_28 : decode cX6_over 28 = .ok (.getfield 20, 3) := dk_180 0 20 (dk_at dksX6_over_1 4 rfl rfl)
theorem dX6_over_31 : decode cX6_over 31 = .ok (.aload_n 1, 1) := dk_43 (dk_at dksX6_over_1 7 rfl rfl)
theorem dX6_over_32 : decode cX6_over 32 = .ok (.getfield 14, 3) := dk_180 0 14 (dk_at dksX6_over_1 8 rfl rfl)
theorem dX6_over_35 : decode cX6_over 35 = .ok (.invokevirtual 59, 3) := dk_182 0 59 (dk_at dksX6_over_1 11 rfl rfl)
theorem dX6_over_38 : decode cX6_over 38 = .ok (.aload_n 0, 1) := dk_42 (dk_at dksX6_over_1 14 rfl rfl)
theorem dX6_over_39 : decode cX6_over 39 = .ok (.getfield 14, 3) := dk_180 0 14 (dk_at dksX6_over_1 15 rfl rfl)
theorem dX6_over_42 : decode cX6_over 42 = .ok (.aload_n 0, 1) := dk_42 (dk_at dksX6_over_1 18 rfl rfl)
theorem dX6_over_43 : decode cX6_over 43 = .ok (.getfield 23, 3) := dk_180 0 23 (dk_at dksX6_over_1 19 rfl rfl)
theorem dX6_over_46 : decode cX6_over 46 = .ok (.invokevirtual 40, 3) := dk_182 0 40 (dk_at dksX6_over_2 0 rfl rfl)
theorem dX6_over_49 : decode cX6_over 49 = .ok (.aload_n 0, 1) := dk_42 (dk_at dksX6_over_2 3 rfl rfl)
theorem dX6_over_50 : decode cX6_over 50 = .ok (.getfield 20, 3) := dk_180 0 20 (dk_at dksX6_over_2 4 rfl rfl)
theorem dX6_over_53 : decode cX6_over 53 = .ok (.aload_n 0, 1) := dk_42 (dk_at dksX6_over_2 7 rfl rfl)
theorem dX6_over_54 : decode cX6_over 54 = .ok (.getfield 26, 3) := dk_180 0 26 (dk_at dksX6_over_2 8 rfl rfl)
theorem dX6_over_57 : decode cX6_over 57 = .ok (.invokevirtual 40, 3) := dk_182 0 40 (dk_at dksX6_over_2 11 rfl rfl)
theorem dX6_over_60 : decode cX6_over 60 = .ok (.aload_n 0, 1) := dk_42 (dk_at dksX6_over_2 14 rfl rfl)
theorem dX6_over_61 : decode cX6_over 61 = .ok (.invokevirtual 37, 3) := dk_182 0 37 (dk_at dksX6_over_2 15 rfl rfl)
theorem dX6_over_64 : decode cX6_over 64 = .ok (.return_, 1) := dk_177 (dk_at dksX6_over_2 18 rfl rfl)
abbrev cX6_isWhole : ByteArray := prog_10_method_9_code
def yX6_isWhole : MethodName := ⟨RX6, "isWhole", "(I)Z"⟩
def dkwX6_isWhole_2 : List UInt8 := [167, 0, 4, 3, 172]
abbrev dktX6_isWhole_2 : List UInt8 := dkwX6_isWhole_2 ++ []
def dkwX6_isWhole_1 : List UInt8 := [180, 0, 14, 180, 0, 69, 153, 0, 16, 42, 180, 0, 14, 180, 0, 72, 3, 46, 27, 163, 0, 7, 4]
abbrev dktX6_isWhole_1 : List UInt8 := dkwX6_isWhole_1 ++ dktX6_isWhole_2
def dkwX6_isWhole_0 : List UInt8 := [42, 180, 0, 20, 182, 0, 52, 153, 0, 41, 42, 180, 0, 14, 180, 0, 69, 4, 163, 0, 30, 42]
abbrev dktX6_isWhole_0 : List UInt8 := dkwX6_isWhole_0 ++ dktX6_isWhole_1
theorem dksX6_isWhole_0 : cX6_isWhole.data.toList.drop 0 = dktX6_isWhole_0 := by decide +kernel
theorem dksX6_isWhole_1 : cX6_isWhole.data.toList.drop 22 = dktX6_isWhole_1 := dk_seg dksX6_isWhole_0 22 rfl rfl
theorem dksX6_isWhole_2 : cX6_isWhole.data.toList.drop 45 = dktX6_isWhole_2 := dk_seg dksX6_isWhole_1 23 rfl rfl
theorem dX6_isWhole_0 : decode cX6_isWhole 0 = .ok (.aload_n 0, 1) := dk_42 (dk_at dksX6_isWhole_0 0 rfl rfl)
theorem dX6_isWhole_1 : decode cX6_isWhole 1 = .ok (.getfield 20, 3) := dk_180 0 20 (dk_at dksX6_isWhole_0 1 rfl rfl)
theorem dX6_isWhole_4 : decode cX6_isWhole 4 = .ok (.invokevirtual 52, 3) := dk_182 0 52 (dk_at dksX6_isWhole_0 4 rfl rfl)
theorem dX6_isWhole_7 : decode cX6_isWhole 7 = .ok (.ifCond .eq 41, 3) := dk_153 0 41 (dk_at dksX6_isWhole_0 7 rfl rfl)
theorem dX6_isWhole_10 : decode cX6_isWhole 10 = .ok (.aload_n 0, 1) := dk_42 (dk_at dksX6_isWhole_0 10 rfl rfl)
theorem dX6_isWhole_11 : decode cX6_isWhole 11 = .ok (.getfield 14, 3) := dk_180 0 14 (dk_at dksX6_isWhole_0 11 rfl rfl)
theorem dX6_isWhole_14 : decode cX6_isWhole 14 = .ok (.getfield 69, 3) := dk_180 0 69 (dk_at dksX6_isWhole_0 14 rfl rfl)
theorem dX6_isWhole_17 : decode cX6_isWhole 17 = .ok (.iconst 1, 1) := dk_4 (dk_at dksX6_isWhole_0 17 rfl rfl)
theorem dX6_isWhole_18 : decode cX6_isWhole 18 = .ok (.if_icmp .gt 30, 3) := dk_163 0 30 (dk_at dksX6_isWhole_0 18 rfl rfl)
theorem dX6_isWhole_21 : decode cX6_isWhole 21 = .ok (.aload_n 0, 1) := dk_42 (dk_at dksX6_isWhole_0 21 rfl rfl)
theorem dX6_isWhole_22 : decode cX6_isWhole 22 = .ok (.getfield 14, 3) := dk_180 0 14 (dk_at dksX6_isWhole_1 0 rfl rfl)
theorem dX6_isWhole_25 : decode cX6_isWhole 25 = .ok (.getfield 69, 3) := dk_180 0 69 (dk_at dksX6_isWhole_1 3 rfl rfl)
theorem dX6_isWhole_28 : decode cX6_isWhole 28 = .ok (.ifCond .eq 16, 3) := dk_153 0 16 (dk_at dksX6_isWhole_1 6 rfl rfl)
theorem dX6_isWhole_31 : decode cX6_isWhole 31 = .ok (.aload_n 0, 1) := dk_42 (dk_at dksX6_isWhole_1 9 rfl rfl)
theorem dX6_isWhole_32 : decode cX6_isWhole 32 = .ok (.getfield 14, 3) := dk_180 0 14 (dk_at dksX6_isWhole_1 10 rfl rfl)
theorem dX6_isWhole_35 : decode cX6_isWhole 35 = .ok (.getfield 72, 3) := dk_180 0 72 (dk_at dksX6_isWhole_1 13 rfl rfl)
theorem dX6_isWhole_38 : decode cX6_isWhole 38 = .ok (.iconst 0, 1) := dk_3 (dk_at dksX6_isWhole_1 16 rfl rfl)
theorem dX6_isWhole_39 : decode cX6_isWhole 39 = .ok (.iaload, 1) := dk_46 (dk_at dksX6_isWhole_1 17 rfl rfl)
theorem dX6_isWhole_40 : decode cX6_isWhole 40 = .ok (.iload_n 1, 1) := dk_27 (dk_at dksX6_isWhole_1 18 rfl rfl)
theorem dX6_isWhole_41 : decode cX6_isWhole 41 = .ok (.if_icmp .gt 7, 3) := dk_163 0 7 (dk_at dksX6_isWhole_1 19 rfl rfl)
theorem dX6_isWhole_44 : decode cX6_isWhole 44 = .ok (.iconst 1, 1) := dk_4 (dk_at dksX6_isWhole_1 22 rfl rfl)
theorem dX6_isWhole_45 : decode cX6_isWhole 45 = .ok (.goto 4, 3) := dk_167 0 4 (dk_at dksX6_isWhole_2 0 rfl rfl)
theorem dX6_isWhole_48 : decode cX6_isWhole 48 = .ok (.iconst 0, 1) := dk_3 (dk_at dksX6_isWhole_2 3 rfl rfl)
theorem dX6_isWhole_49 : decode cX6_isWhole 49 = .ok (.ireturn, 1) := dk_172 (dk_at dksX6_isWhole_2 4 rfl rfl)
abbrev cX6_whole : ByteArray := prog_10_method_10_code
def yX6_whole : MethodName := ⟨RX6, "whole", "()I"⟩
def dkwX6_whole_1 : List UInt8 := [180, 0, 14, 180, 0, 72, 3, 46, 104, 172]
abbrev dktX6_whole_1 : List UInt8 := dkwX6_whole_1 ++ []
def dkwX6_whole_0 : List UInt8 := [42, 180, 0, 14, 180, 0, 69, 154, 0, 7, 3, 167, 0, 20, 42, 180, 0, 14, 180, 0, 44, 42]
abbrev dktX6_whole_0 : List UInt8 := dkwX6_whole_0 ++ dktX6_whole_1
theorem dksX6_whole_0 : cX6_whole.data.toList.drop 0 = dktX6_whole_0 := by decide +kernel
theorem dksX6_whole_1 : cX6_whole.data.toList.drop 22 = dktX6_whole_1 := dk_seg dksX6_whole_0 22 rfl rfl
theorem dX6_whole_0 : decode cX6_whole 0 = .ok (.aload_n 0, 1) := dk_42 (dk_at dksX6_whole_0 0 rfl rfl)
theorem dX6_whole_1 : decode cX6_whole 1 = .ok (.getfield 14, 3) := dk_180 0 14 (dk_at dksX6_whole_0 1 rfl rfl)
theorem dX6_whole_4 : decode cX6_whole 4 = .ok (.getfield 69, 3) := dk_180 0 69 (dk_at dksX6_whole_0 4 rfl rfl)
theorem dX6_whole_7 : decode cX6_whole 7 = .ok (.ifCond .ne 7, 3) := dk_154 0 7 (dk_at dksX6_whole_0 7 rfl rfl)
theorem dX6_whole_10 : decode cX6_whole 10 = .ok (.iconst 0, 1) := dk_3 (dk_at dksX6_whole_0 10 rfl rfl)
theorem dX6_whole_11 : decode cX6_whole 11 = .ok (.goto 20, 3) := dk_167 0 20 (dk_at dksX6_whole_0 11 rfl rfl)
theorem dX6_whole_14 : decode cX6_whole 14 = .ok (.aload_n 0, 1) := dk_42 (dk_at dksX6_whole_0 14 rfl rfl)
theorem dX6_whole_15 : decode cX6_whole 15 = .ok (.getfield 14, 3) := dk_180 0 14 (dk_at dksX6_whole_0 15 rfl rfl)
theorem dX6_whole_18 : decode cX6_whole 18 = .ok (.getfield 44, 3) := dk_180 0 44 (dk_at dksX6_whole_0 18 rfl rfl)
theorem dX6_whole_21 : decode cX6_whole 21 = .ok (.aload_n 0, 1) := dk_42 (dk_at dksX6_whole_0 21 rfl rfl)
theorem dX6_whole_22 : decode cX6_whole 22 = .ok (.getfield 14, 3) := dk_180 0 14 (dk_at dksX6_whole_1 0 rfl rfl)
theorem dX6_whole_25 : decode cX6_whole 25 = .ok (.getfield 72, 3) := dk_180 0 72 (dk_at dksX6_whole_1 3 rfl rfl)
theorem dX6_whole_28 : decode cX6_whole 28 = .ok (.iconst 0, 1) := dk_3 (dk_at dksX6_whole_1 6 rfl rfl)
theorem dX6_whole_29 : decode cX6_whole 29 = .ok (.iaload, 1) := dk_46 (dk_at dksX6_whole_1 7 rfl rfl)
theorem dX6_whole_30 : decode cX6_whole 30 = .ok (.imul, 1) := dk_104 (dk_at dksX6_whole_1 8 rfl rfl)
theorem dX6_whole_31 : decode cX6_whole 31 = .ok (.ireturn, 1) := dk_172 (dk_at dksX6_whole_1 9 rfl rfl)
theorem q105 : (Jvm.Cond.initialized "IdealCourt$Ratio") ∈ lw_all := lw_g (lw_at lw_m1 7 rfl) rfl
theorem q182 : (Jvm.Cond.fieldLinkNest "IdealCourt$Ratio" (72 : Nat) "IdealCourt$Whole" "digits" "[I" "IdealCourt") ∈ lw_tbl := lw_at lw_m1 84 rfl
theorem q188 : (Jvm.Cond.fieldLinkNest "IdealCourt$Ratio" (69 : Nat) "IdealCourt$Whole" "size" "I" "IdealCourt") ∈ lw_tbl := lw_at lw_m1 90 rfl
theorem q193 : (Jvm.Cond.fieldLinkNest "IdealCourt$Ratio" (44 : Nat) "IdealCourt$Whole" "sign" "I" "IdealCourt") ∈ lw_tbl := lw_at lw_m1 95 rfl
theorem q246 : (Jvm.Cond.instantiable "IdealCourt$Ratio" (5 : Nat)) ∈ lw_all := lw_g (lw_at lw_m1 148 rfl) rfl
theorem q248 : (Jvm.Cond.instanceMethod ({ cls := "IdealCourt$Ratio", name := "<init>", desc := "(LIdealCourt$Reckoner;)V" } : Jvm.MethodName)) ∈ lw_all := lw_g (lw_at lw_m1 150 rfl) rfl
theorem q249 : (Jvm.Cond.code ({ cls := "IdealCourt$Ratio", name := "<init>", desc := "(LIdealCourt$Reckoner;)V" } : Jvm.MethodName) prog_10_method_1_code (2 : Nat) (Option.none : Option Jvm.ClassFile.FieldType)) ∈ lw_all := lw_g (lw_at lw_m1 151 rfl) rfl
theorem q250 : (Jvm.Cond.methodLink "IdealCourt$Ratio" (1 : Nat) ({ cls := "java/lang/Object", name := "<init>", desc := "()V" } : Jvm.MethodName)) ∈ lw_all := lw_g (lw_at lw_m1 152 rfl) rfl
theorem q251 : (Jvm.Cond.classLink "IdealCourt$Ratio" (7 : Nat) "IdealCourt$Whole") ∈ lw_all := lw_g (lw_at lw_m1 153 rfl) rfl
theorem q252 : (Jvm.Cond.methodLink "IdealCourt$Ratio" (11 : Nat) ({ cls := "IdealCourt$Whole", name := "<init>", desc := "(I)V" } : Jvm.MethodName)) ∈ lw_all := lw_g (lw_at lw_m1 154 rfl) rfl
theorem q253 : (Jvm.Cond.methodLink "IdealCourt$Ratio" (33 : Nat) ({ cls := "IdealCourt$Whole", name := "set", desc := "(J)V" } : Jvm.MethodName)) ∈ lw_all := lw_g (lw_at lw_m1 155 rfl) rfl
theorem q258 : (Jvm.Cond.fieldLink "IdealCourt$Ratio" (29 : Nat) "IdealCourt$Ratio" "by" "LIdealCourt$Reckoner;") ∈ lw_all := lw_g (lw_at lw_m1 160 rfl) rfl
theorem q259 : (Jvm.Cond.fieldLink "IdealCourt$Ratio" (14 : Nat) "IdealCourt$Ratio" "top" "LIdealCourt$Whole;") ∈ lw_all := lw_g (lw_at lw_m1 161 rfl) rfl
theorem q263 : (Jvm.Cond.fieldLink "IdealCourt$Ratio" (20 : Nat) "IdealCourt$Ratio" "under" "LIdealCourt$Whole;") ∈ lw_all := lw_g (lw_at lw_m1 165 rfl) rfl
theorem q267 : (Jvm.Cond.fieldLink "IdealCourt$Ratio" (23 : Nat) "IdealCourt$Ratio" "help" "LIdealCourt$Whole;") ∈ lw_all := lw_g (lw_at lw_m1 169 rfl) rfl
theorem q268 : (Jvm.Cond.fieldLink "IdealCourt$Ratio" (26 : Nat) "IdealCourt$Ratio" "more" "LIdealCourt$Whole;") ∈ lw_all := lw_g (lw_at lw_m1 170 rfl) rfl
theorem q269 : (Jvm.Cond.laysFinal "IdealCourt$Ratio" "IdealCourt$Ratio" "by" "LIdealCourt$Reckoner;") ∈ lw_all := lw_g (lw_at lw_m1 171 rfl) rfl
theorem q270 : (Jvm.Cond.soleField "IdealCourt$Ratio" "by") ∈ lw_all := lw_g (lw_at lw_m1 172 rfl) rfl
theorem q271 : (Jvm.Cond.laysFinal "IdealCourt$Ratio" "IdealCourt$Ratio" "top" "LIdealCourt$Whole;") ∈ lw_all := lw_g (lw_at lw_m1 173 rfl) rfl
theorem q272 : (Jvm.Cond.soleField "IdealCourt$Ratio" "top") ∈ lw_all := lw_g (lw_at lw_m1 174 rfl) rfl
theorem q273 : (Jvm.Cond.laysFinal "IdealCourt$Ratio" "IdealCourt$Ratio" "under" "LIdealCourt$Whole;") ∈ lw_all := lw_g (lw_at lw_m1 175 rfl) rfl
theorem q274 : (Jvm.Cond.soleField "IdealCourt$Ratio" "under") ∈ lw_all := lw_g (lw_at lw_m1 176 rfl) rfl
theorem q275 : (Jvm.Cond.laysFinal "IdealCourt$Ratio" "IdealCourt$Ratio" "help" "LIdealCourt$Whole;") ∈ lw_all := lw_g (lw_at lw_m1 177 rfl) rfl
theorem q276 : (Jvm.Cond.soleField "IdealCourt$Ratio" "help") ∈ lw_all := lw_g (lw_at lw_m1 178 rfl) rfl
theorem q277 : (Jvm.Cond.laysFinal "IdealCourt$Ratio" "IdealCourt$Ratio" "more" "LIdealCourt$Whole;") ∈ lw_all := lw_g (lw_at lw_m1 179 rfl) rfl
theorem q278 : (Jvm.Cond.soleField "IdealCourt$Ratio" "more") ∈ lw_all := lw_g (lw_at lw_m1 180 rfl) rfl
theorem q279 : (Jvm.Cond.superclass "IdealCourt$Ratio" "java/lang/Object") ∈ lw_all := lw_g (lw_at lw_m1 181 rfl) rfl
theorem q916 : (Jvm.Cond.instanceMethod ({ cls := "IdealCourt$Ratio", name := "set", desc := "(JJ)V" } : Jvm.MethodName)) ∈ lw_all := lw_g (lw_at lw_m4 98 rfl) rfl
theorem q917 : (Jvm.Cond.selects "IdealCourt$Ratio" ({ cls := "IdealCourt$Ratio", name := "set", desc := "(JJ)V" } : Jvm.MethodName) ({ cls := "IdealCourt$Ratio", name := "set", desc := "(JJ)V" } : Jvm.MethodName)) ∈ lw_all := lw_g (lw_at lw_m4 99 rfl) rfl
theorem q918 : (Jvm.Cond.code ({ cls := "IdealCourt$Ratio", name := "set", desc := "(JJ)V" } : Jvm.MethodName) prog_10_method_2_code (5 : Nat) (Option.none : Option Jvm.ClassFile.FieldType)) ∈ lw_all := lw_g (lw_at lw_m4 100 rfl) rfl
theorem q919 : (Jvm.Cond.methodLink "IdealCourt$Ratio" (37 : Nat) ({ cls := "IdealCourt$Ratio", name := "shorten", desc := "()V" } : Jvm.MethodName)) ∈ lw_all := lw_g (lw_at lw_m4 101 rfl) rfl
theorem q920 : (Jvm.Cond.instanceMethod ({ cls := "IdealCourt$Ratio", name := "shorten", desc := "()V" } : Jvm.MethodName)) ∈ lw_all := lw_g (lw_at lw_m4 102 rfl) rfl
theorem q921 : (Jvm.Cond.selects "IdealCourt$Ratio" ({ cls := "IdealCourt$Ratio", name := "shorten", desc := "()V" } : Jvm.MethodName) ({ cls := "IdealCourt$Ratio", name := "shorten", desc := "()V" } : Jvm.MethodName)) ∈ lw_all := lw_g (lw_at lw_m4 103 rfl) rfl
theorem q922 : (Jvm.Cond.code ({ cls := "IdealCourt$Ratio", name := "shorten", desc := "()V" } : Jvm.MethodName) prog_10_method_4_code (1 : Nat) (Option.none : Option Jvm.ClassFile.FieldType)) ∈ lw_all := lw_g (lw_at lw_m4 104 rfl) rfl
theorem q923 : (Jvm.Cond.methodLink "IdealCourt$Ratio" (48 : Nat) ({ cls := "IdealCourt$Reckoner", name := "common", desc := "(LIdealCourt$Whole;LIdealCourt$Whole;LIdealCourt$Whole;)V" } : Jvm.MethodName)) ∈ lw_all := lw_g (lw_at lw_m4 105 rfl) rfl
theorem q954 : (Jvm.Cond.methodLink "IdealCourt$Ratio" (52 : Nat) ({ cls := "IdealCourt$Whole", name := "isOne", desc := "()Z" } : Jvm.MethodName)) ∈ lw_all := lw_g (lw_at lw_m4 136 rfl) rfl
theorem q958 : (Jvm.Cond.methodLink "IdealCourt$Ratio" (56 : Nat) ({ cls := "IdealCourt$Reckoner", name := "part", desc := "(LIdealCourt$Whole;LIdealCourt$Whole;LIdealCourt$Whole;)V" } : Jvm.MethodName)) ∈ lw_all := lw_g (lw_at lw_m4 140 rfl) rfl
theorem q963 : (Jvm.Cond.instanceMethod ({ cls := "IdealCourt$Ratio", name := "add", desc := "(LIdealCourt$Ratio;I)V" } : Jvm.MethodName)) ∈ lw_all := lw_g (lw_at lw_m4 145 rfl) rfl
theorem q964 : (Jvm.Cond.selects "IdealCourt$Ratio" ({ cls := "IdealCourt$Ratio", name := "add", desc := "(LIdealCourt$Ratio;I)V" } : Jvm.MethodName) ({ cls := "IdealCourt$Ratio", name := "add", desc := "(LIdealCourt$Ratio;I)V" } : Jvm.MethodName)) ∈ lw_all := lw_g (lw_at lw_m4 146 rfl) rfl
theorem q965 : (Jvm.Cond.code ({ cls := "IdealCourt$Ratio", name := "add", desc := "(LIdealCourt$Ratio;I)V" } : Jvm.MethodName) prog_10_method_5_code (3 : Nat) (Option.none : Option Jvm.ClassFile.FieldType)) ∈ lw_all := lw_g (lw_at lw_m4 147 rfl) rfl
theorem q966 : (Jvm.Cond.methodLink "IdealCourt$Ratio" (59 : Nat) ({ cls := "IdealCourt$Reckoner", name := "times", desc := "(LIdealCourt$Whole;LIdealCourt$Whole;LIdealCourt$Whole;)V" } : Jvm.MethodName)) ∈ lw_all := lw_g (lw_at lw_m4 148 rfl) rfl
theorem q970 : (Jvm.Cond.methodLink "IdealCourt$Ratio" (62 : Nat) ({ cls := "IdealCourt$Reckoner", name := "add", desc := "(LIdealCourt$Whole;LIdealCourt$Whole;LIdealCourt$Whole;I)V" } : Jvm.MethodName)) ∈ lw_all := lw_g (lw_at lw_m4 152 rfl) rfl
theorem q977 : (Jvm.Cond.methodLink "IdealCourt$Ratio" (40 : Nat) ({ cls := "IdealCourt$Whole", name := "be", desc := "(LIdealCourt$Whole;)V" } : Jvm.MethodName)) ∈ lw_all := lw_g (lw_at lw_m4 159 rfl) rfl
theorem q979 : (Jvm.Cond.instanceMethod ({ cls := "IdealCourt$Ratio", name := "fits", desc := "()Z" } : Jvm.MethodName)) ∈ lw_all := lw_g (lw_at lw_m4 161 rfl) rfl
theorem q980 : (Jvm.Cond.selects "IdealCourt$Ratio" ({ cls := "IdealCourt$Ratio", name := "fits", desc := "()Z" } : Jvm.MethodName) ({ cls := "IdealCourt$Ratio", name := "fits", desc := "()Z" } : Jvm.MethodName)) ∈ lw_all := lw_g (lw_at lw_m4 162 rfl) rfl
theorem q981 : (Jvm.Cond.code ({ cls := "IdealCourt$Ratio", name := "fits", desc := "()Z" } : Jvm.MethodName) prog_10_method_8_code (1 : Nat) (Option.some Jvm.ClassFile.FieldType.boolean)) ∈ lw_all := lw_g (lw_at lw_m4 163 rfl) rfl
theorem q982 : (Jvm.Cond.methodLink "IdealCourt$Ratio" (66 : Nat) ({ cls := "IdealCourt$Whole", name := "fits", desc := "()Z" } : Jvm.MethodName)) ∈ lw_all := lw_g (lw_at lw_m4 164 rfl) rfl
theorem q1046 : (Jvm.Cond.instanceMethod ({ cls := "IdealCourt$Ratio", name := "times", desc := "(LIdealCourt$Ratio;)V" } : Jvm.MethodName)) ∈ lw_all := lw_g (lw_at lw_m4 228 rfl) rfl
theorem q1047 : (Jvm.Cond.selects "IdealCourt$Ratio" ({ cls := "IdealCourt$Ratio", name := "times", desc := "(LIdealCourt$Ratio;)V" } : Jvm.MethodName) ({ cls := "IdealCourt$Ratio", name := "times", desc := "(LIdealCourt$Ratio;)V" } : Jvm.MethodName)) ∈ lw_all := lw_g (lw_at lw_m4 229 rfl) rfl
theorem q1048 : (Jvm.Cond.code ({ cls := "IdealCourt$Ratio", name := "times", desc := "(LIdealCourt$Ratio;)V" } : Jvm.MethodName) prog_10_method_6_code (2 : Nat) (Option.none : Option Jvm.ClassFile.FieldType)) ∈ lw_all := lw_g (lw_at lw_m4 230 rfl) rfl
theorem q1331 : (Jvm.Cond.instanceMethod ({ cls := "IdealCourt$Ratio", name := "over", desc := "(LIdealCourt$Ratio;)V" } : Jvm.MethodName)) ∈ lw_all := lw_g (lw_at lw_m6 33 rfl) rfl
theorem q1332 : (Jvm.Cond.selects "IdealCourt$Ratio" ({ cls := "IdealCourt$Ratio", name := "over", desc := "(LIdealCourt$Ratio;)V" } : Jvm.MethodName) ({ cls := "IdealCourt$Ratio", name := "over", desc := "(LIdealCourt$Ratio;)V" } : Jvm.MethodName)) ∈ lw_all := lw_g (lw_at lw_m6 34 rfl) rfl
theorem q1333 : (Jvm.Cond.code ({ cls := "IdealCourt$Ratio", name := "over", desc := "(LIdealCourt$Ratio;)V" } : Jvm.MethodName) prog_10_method_7_code (2 : Nat) (Option.none : Option Jvm.ClassFile.FieldType)) ∈ lw_all := lw_g (lw_at lw_m6 35 rfl) rfl
theorem q1360 : (Jvm.Cond.instanceMethod ({ cls := "IdealCourt$Ratio", name := "isWhole", desc := "(I)Z" } : Jvm.MethodName)) ∈ lw_all := lw_g (lw_at lw_m6 62 rfl) rfl
theorem q1361 : (Jvm.Cond.selects "IdealCourt$Ratio" ({ cls := "IdealCourt$Ratio", name := "isWhole", desc := "(I)Z" } : Jvm.MethodName) ({ cls := "IdealCourt$Ratio", name := "isWhole", desc := "(I)Z" } : Jvm.MethodName)) ∈ lw_all := lw_g (lw_at lw_m6 63 rfl) rfl
theorem q1362 : (Jvm.Cond.code ({ cls := "IdealCourt$Ratio", name := "isWhole", desc := "(I)Z" } : Jvm.MethodName) prog_10_method_9_code (2 : Nat) (Option.some Jvm.ClassFile.FieldType.boolean)) ∈ lw_all := lw_g (lw_at lw_m6 64 rfl) rfl
theorem q1364 : (Jvm.Cond.instanceMethod ({ cls := "IdealCourt$Ratio", name := "whole", desc := "()I" } : Jvm.MethodName)) ∈ lw_all := lw_g (lw_at lw_m6 66 rfl) rfl
theorem q1365 : (Jvm.Cond.selects "IdealCourt$Ratio" ({ cls := "IdealCourt$Ratio", name := "whole", desc := "()I" } : Jvm.MethodName) ({ cls := "IdealCourt$Ratio", name := "whole", desc := "()I" } : Jvm.MethodName)) ∈ lw_all := lw_g (lw_at lw_m6 67 rfl) rfl
theorem q1366 : (Jvm.Cond.code ({ cls := "IdealCourt$Ratio", name := "whole", desc := "()I" } : Jvm.MethodName) prog_10_method_10_code (1 : Nat) (Option.some Jvm.ClassFile.FieldType.int)) ∈ lw_all := lw_g (lw_at lw_m6 68 rfl) rfl
theorem in_X6 : ∀ w ∈ wsX60, w ∈ lw_all := lw_in wsX60 [269, 271, 273, 275, 277] (by decide +kernel) (by decide +kernel)
