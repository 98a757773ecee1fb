/-! IdealCourt$Divider -/
set_option maxRecDepth 100000
def RX4 : String := "IdealCourt$Divider"
def TX4 : u_T := fun k => match k with
  | 0 => ("IdealCourt$Divider", "terms", "LIdealCourt$Terms;", true)
  | 1 => ("IdealCourt$Divider", "f", "LIdealCourt$Poly;", true)
  | 2 => ("IdealCourt$Divider", "a", "LIdealCourt$Ratio;", true)
  | 3 => ("IdealCourt$Divider", "b", "LIdealCourt$Ratio;", true)
  | 4 => ("IdealCourt$Divider", "c", "LIdealCourt$Ratio;", true)
  | 5 => ("IdealCourt$Divider", "leads", "[I", true)
  | 6 => ("IdealCourt$Divider", "counts", "[I", true)
  | 7 => ("IdealCourt$Divider", "list", "[LIdealCourt$Poly;", false)
  | 8 => ("IdealCourt$Divider", "quotients", "[LIdealCourt$Poly;", false)
  | 9 => ("IdealCourt$Divider", "rest", "LIdealCourt$Poly;", false)
  | _ => ("IdealCourt$Divider", "order", "LIdealCourt$Ranks;", false)
def tyX4 : Nat → FieldType := fun k => match k with
  | 0 => .object "IdealCourt$Terms"
  | 1 => .object "IdealCourt$Poly"
  | 2 => .object "IdealCourt$Ratio"
  | 3 => .object "IdealCourt$Ratio"
  | 4 => .object "IdealCourt$Ratio"
  | 5 => .array .int
  | 6 => .array .int
  | 7 => .array (.object "IdealCourt$Poly")
  | 8 => .array (.object "IdealCourt$Poly")
  | 9 => .object "IdealCourt$Poly"
  | _ => .object "IdealCourt$Ranks"
abbrev wsX40 : List Cond := u_ws RX4 TX4 11
theorem nmX4 : ∀ a, a < 11 → ∀ b, b < 11 → a ≠ b → (TX4 a).2.1 ≠ (TX4 b).2.1 := by decide +kernel
theorem tyX4_ok : ∀ k, k < 11 → parseFieldDescriptor (TX4 k).2.2.1 = some (tyX4 k) := by decide +kernel
abbrev cX4_init : ByteArray := prog_5_method_1_code
def yX4_init : MethodName := ⟨RX4, "<init>", "(LIdealCourt$Terms;LIdealCourt$Reckoner;)V"⟩
def dkwX4_init_3 : List UInt8 := [177]
abbrev dktX4_init_3 : List UInt8 := dkwX4_init_3 ++ []
def dkwX4_init_2 : List UInt8 := [42, 187, 0, 29, 89, 44, 183, 0, 31, 181, 0, 38, 42, 187, 0, 29, 89, 44, 183, 0, 31, 181, 0, 41]
abbrev dktX4_init_2 : List UInt8 := dkwX4_init_2 ++ dktX4_init_3
def dkwX4_init_1 : List UInt8 := [16, 16, 188, 10, 181, 0, 22, 42, 43, 181, 0, 25, 42, 187, 0, 29, 89, 44, 183, 0, 31, 181, 0, 34]
abbrev dktX4_init_1 : List UInt8 := dkwX4_init_1 ++ dktX4_init_2
def dkwX4_init_0 : List UInt8 := [42, 183, 0, 3, 42, 187, 0, 9, 89, 183, 0, 11, 181, 0, 12, 42, 16, 16, 188, 10, 181, 0, 18, 42]
abbrev dktX4_init_0 : List UInt8 := dkwX4_init_0 ++ dktX4_init_1
theorem dksX4_init_0 : cX4_init.data.toList.drop 0 = dktX4_init_0 := by decide +kernel
theorem dksX4_init_1 : cX4_init.data.toList.drop 24 = dktX4_init_1 := dk_seg dksX4_init_0 24 rfl rfl
theorem dksX4_init_2 : cX4_init.data.toList.drop 48 = dktX4_init_2 := dk_seg dksX4_init_1 24 rfl rfl
theorem dksX4_init_3 : cX4_init.data.toList.drop 72 = dktX4_init_3 := dk_seg dksX4_init_2 24 rfl rfl
theorem dX4_init_0 : decode cX4_init 0 = .ok (.aload_n 0, 1) := dk_42 (dk_at dksX4_init_0 0 rfl rfl)
theorem dX4_init_1 : decode cX4_init 1 = .ok (.invokespecial 3, 3) := dk_183 0 3 (dk_at dksX4_init_0 1 rfl rfl)
theorem dX4_init_4 : decode cX4_init 4 = .ok (.aload_n 0, 1) := dk_42 (dk_at dksX4_init_0 4 rfl rfl)
theorem dX4_init_5 : decode cX4_init 5 = .ok (.new 9, 3) := dk_187 0 9 (dk_at dksX4_init_0 5 rfl rfl)
theorem dX4_init_8 : decode cX4_init 8 = .ok (.dup, 1) := dk_89 (dk_at dksX4_init_0 8 rfl rfl)
theorem dX4_init_9 : decode cX4_init 9 = .ok (.invokespecial 11, 3) := dk_183 0 11 (dk_at dksX4_init_0 9 rfl rfl)
theorem dX4_init_12 : decode cX4_init 12 = .ok (.putfield 12, 3) := dk_181 0 12 (dk_at dksX4_init_0 12 rfl rfl)
theorem dX4_init_15 : decode cX4_init 15 = .ok (.aload_n 0, 1) := dk_42 (dk_at dksX4_init_0 15 rfl rfl)
theorem dX4_init_16 : decode cX4_init 16 = .ok (.bipush 16, 2) := dk_16 16 (dk_at dksX4_init_0 16 rfl rfl)
theorem dX4_init_18 : decode cX4_init 18 = .ok (.newarray .int, 2) := dk_188_10 (dk_at dksX4_init_0 18 rfl rfl)
theorem dX4_init_20 : decode cX4_init 20 = .ok (.putfield 18, 3) := dk_181 0 18 (dk_at dksX4_init_0 20 rfl rfl)
theorem dX4_init_23 : decode cX4_init 23 = .ok (.aload_n 0, 1) := dk_42 (dk_at dksX4_init_0 23 rfl rfl)
theorem dX4_init_24 : decode cX4_init 24 = .ok (.bipush 16, 2) := dk_16 16 (dk_at dksX4_init_1 0 rfl rfl)
theorem dX4_init_26 : decode cX4_init 26 = .ok (.newarray .int, 2) := dk_188_10 (dk_at dksX4_init_1 2 rfl rfl)
theorem dX4_init_28 : decode cX4_init 28 = .ok (.putfield 22, 3) := dk_181 0 22 (dk_at dksX4_init_1 4 rfl rfl)
theorem dX4_init_31 : decode cX4_init 31 = .ok (.aload_n 0, 1) := dk_42 (dk_at dksX4_init_1 7 rfl rfl)
theorem dX4_init_32 : decode cX4_init 32 = .ok (.aload_n 1, 1) := dk_43 (dk_at dksX4_init_1 8 rfl rfl)
theorem dX4_init_33 : decode cX4_init 33 = .ok (.putfield 25, 3) := dk_181 0 25 (dk_at dksX4_init_1 9 rfl rfl)
theorem dX4_init_36 : decode cX4_init 36 = .ok (.aload_n 0, 1) := dk_42 (dk_at dksX4_init_1 12 rfl rfl)
theorem dX4_init_37 : decode cX4_init 37 = .ok (.new 29, 3) := dk_187 0 29 (dk_at dksX4_init_1 13 rfl rfl)
theorem dX4_init_40 : decode cX4_init 40 = .ok (.dup, 1) := dk_89 (dk_at dksX4_init_1 16 rfl rfl)
theorem dX4_init_41 : decode cX4_init 41 = .ok (.aload_n 2, 1) := dk_44 (dk_at dksX4_init_1 17 rfl rfl)
theorem dX4_init_42 : decode cX4_init 42 = .ok (.invokespecial 31, 3) := dk_183 0 31 (dk_at dksX4_init_1 18 rfl rfl)
theorem dX4_init_45 : decode cX4_init 45 = .ok (.putfield 34, 3) := dk_181 0 34 (dk_at dksX4_init_1 21 rfl rfl)
theorem dX4_init_48 : decode cX4_init 48 = .ok (.aload_n 0, 1) := dk_42 (dk_at dksX4_init_2 0 rfl rfl)
theorem dX4_init_49 : decode cX4_init 49 = .ok (.new 29, 3) := dk_187 0 29 (dk_at dksX4_init_2 1 rfl rfl)
theorem dX4_init_52 : decode cX4_init 52 = .ok (.dup, 1) := dk_89 (dk_at dksX4_init_2 4 rfl rfl)
theorem dX4_init_53 : decode cX4_init 53 = .ok (.aload_n 2, 1) := dk_44 (dk_at dksX4_init_2 5 rfl rfl)
theorem dX4_init_54 : decode cX4_init 54 = .ok (.invokespecial 31, 3) := dk_183 0 31 (dk_at dksX4_init_2 6 rfl rfl)
theorem dX4_init_57 : decode cX4_init 57 = .ok (.putfield 38, 3) := dk_181 0 38 (dk_at dksX4_init_2 9 rfl rfl)
theorem dX4_init_60 : decode cX4_init 60 = .ok (.aload_n 0, 1) := dk_42 (dk_at dksX4_init_2 12 rfl rfl)
theorem dX4_init_61 : decode cX4_init 61 = .ok (.new 29, 3) := dk_187 0 29 (dk_at dksX4_init_2 13 rfl rfl)
theorem dX4_init_64 : decode cX4_init 64 = .ok (.dup, 1) := dk_89 (dk_at dksX4_init_2 16 rfl rfl)
theorem dX4_init_65 : decode cX4_init 65 = .ok (.aload_n 2, 1) := dk_44 (dk_at dksX4_init_2 17 rfl rfl)
theorem dX4_init_66 : decode cX4_init 66 = .ok (.invokespecial 31, 3) := dk_183 0 31 (dk_at dksX4_init_2 18 rfl rfl)
theorem dX4_init_69 : decode cX4_init 69 = .ok (.putfield 41, 3) := dk_181 0 41 (dk_at dksX4_init_2 21 rfl rfl)
theorem dX4_init_72 : decode cX4_init 72 = .ok (.return_, 1) := dk_177 (dk_at dksX4_init_3 0 rfl rfl)
abbrev cX4_run : ByteArray := prog_5_method_2_code
def yX4_run : MethodName := ⟨RX4, "run", "([LIdealCourt$Poly;ILIdealCourt$Ranks;[LIdealCourt$Poly;LIdealCourt$Poly;)Z"⟩
def dkwX4_run_7 : List UInt8 := [167, 0, 14, 42, 21, 6, 182, 0, 78, 154, 0, 5, 3, 172, 167, 255, 159, 4, 172]
abbrev dktX4_run_7 : List UInt8 := dkwX4_run_7 ++ []
def dkwX4_run_6 : List UInt8 := [132, 7, 1, 167, 255, 216, 21, 7, 28, 162, 0, 17, 42, 21, 7, 21, 6, 182, 0, 75, 153, 0, 15]
abbrev dktX4_run_6 : List UInt8 := dkwX4_run_6 ++ dktX4_run_7
def dkwX4_run_5 : List UInt8 := [159, 0, 22, 42, 180, 0, 25, 42, 180, 0, 18, 21, 7, 46, 21, 6, 182, 0, 69, 154, 0, 9]
abbrev dktX4_run_5 : List UInt8 := dkwX4_run_5 ++ dktX4_run_6
def dkwX4_run_4 : List UInt8 := [182, 0, 61, 54, 6, 3, 54, 7, 21, 7, 28, 162, 0, 40, 42, 180, 0, 18, 21, 7, 46, 16, 249]
abbrev dktX4_run_4 : List UInt8 := dkwX4_run_4 ++ dktX4_run_5
def dkwX4_run_3 : List UInt8 := [182, 0, 58, 132, 6, 1, 167, 255, 211, 42, 180, 0, 12, 180, 0, 65, 158, 0, 93, 42, 180, 0, 12, 45]
abbrev dktX4_run_3 : List UInt8 := dkwX4_run_3 ++ dktX4_run_4
def dkwX4_run_2 : List UInt8 := [182, 0, 61, 79, 42, 180, 0, 22, 21, 6, 3, 79, 25, 4, 198, 0, 11, 25, 4, 21, 6, 50]
abbrev dktX4_run_2 : List UInt8 := dkwX4_run_2 ++ dktX4_run_3
def dkwX4_run_1 : List UInt8 := [182, 0, 58, 3, 54, 6, 21, 6, 28, 162, 0, 45, 42, 180, 0, 18, 21, 6, 43, 21, 6, 50, 45]
abbrev dktX4_run_1 : List UInt8 := dkwX4_run_1 ++ dktX4_run_2
def dkwX4_run_0 : List UInt8 := [42, 43, 181, 0, 44, 42, 45, 181, 0, 48, 42, 25, 4, 181, 0, 52, 42, 25, 5, 181, 0, 55, 25, 5]
abbrev dktX4_run_0 : List UInt8 := dkwX4_run_0 ++ dktX4_run_1
theorem dksX4_run_0 : cX4_run.data.toList.drop 0 = dktX4_run_0 := by decide +kernel
theorem dksX4_run_1 : cX4_run.data.toList.drop 24 = dktX4_run_1 := dk_seg dksX4_run_0 24 rfl rfl
theorem dksX4_run_2 : cX4_run.data.toList.drop 47 = dktX4_run_2 := dk_seg dksX4_run_1 23 rfl rfl
theorem dksX4_run_3 : cX4_run.data.toList.drop 69 = dktX4_run_3 := dk_seg dksX4_run_2 22 rfl rfl
theorem dksX4_run_4 : cX4_run.data.toList.drop 93 = dktX4_run_4 := dk_seg dksX4_run_3 24 rfl rfl
theorem dksX4_run_5 : cX4_run.data.toList.drop 116 = dktX4_run_5 := dk_seg dksX4_run_4 23 rfl rfl
theorem dksX4_run_6 : cX4_run.data.toList.drop 138 = dktX4_run_6 := dk_seg dksX4_run_5 22 rfl rfl
theorem dksX4_run_7 : cX4_run.data.toList.drop 161 = dktX4_run_7 := dk_seg dksX4_run_6 23 rfl rfl
theorem dX4_run_0 : decode cX4_run 0 = .ok (.aload_n 0, 1) := dk_42 (dk_at dksX4_run_0 0 rfl rfl)
theorem dX4_run_1 : decode cX4_run 1 = .ok (.aload_n 1, 1) := dk_43 (dk_at dksX4_run_0 1 rfl rfl)
theorem dX4_run_2 : decode cX4_run 2 = .ok (.putfield 44, 3) := dk_181 0 44 (dk_at dksX4_run_0 2 rfl rfl)
theorem dX4_run_5 : decode cX4_run 5 = .ok (.aload_n 0, 1) := dk_42 (dk_at dksX4_run_0 5 rfl rfl)
theorem dX4_run_6 : decode cX4_run 6 = .ok (.aload_n 3, 1) := dk_45 (dk_at dksX4_run_0 6 rfl rfl)
theorem dX4_run_7 : decode cX4_run 7 = .ok (.putfield 48, 3) := dk_181 0 48 (dk_at dksX4_run_0 7 rfl rfl)
theorem dX4_run_10 : decode cX4_run 10 = .ok (.aload_n 0, 1) := dk_42 (dk_at dksX4_run_0 10 rfl rfl)
theorem dX4_run_11 : decode cX4_run 11 = .ok (.aload 4, 2) := dk_25 4 (dk_at dksX4_run_0 11 rfl rfl)
theorem dX4_run_13 : decode cX4_run 13 = .ok (.putfield 52, 3) := dk_181 0 52 (dk_at dksX4_run_0 13 rfl rfl)
theorem dX4_run_16 : decode cX4_run 16 = .ok (.aload_n 0, 1) := dk_42 (dk_at dksX4_run_0 16 rfl rfl)
theorem dX4_run_17 : decode cX4_run 17 = .ok (.aload 5, 2) := dk_25 5 (dk_at dksX4_run_0 17 rfl rfl)
theorem dX4_run_19 : decode cX4_run 19 = .ok (.putfield 55, 3) := dk_181 0 55 (dk_at dksX4_run_0 19 rfl rfl)
theorem dX4_run_22 : decode cX4_run 22 = .ok (.aload 5, 2) := dk_25 5 (dk_at dksX4_run_0 22 rfl rfl)
theorem dX4_run_24 : decode cX4_run 24 = .ok (.invokevirtual 58, 3) := dk_182 0 58 (dk_at dksX4_run_1 0 rfl rfl)
theorem dX4_run_27 : decode cX4_run 27 = .ok (.iconst 0, 1) := dk_3 (dk_at dksX4_run_1 3 rfl rfl)
theorem dX4_run_28 : decode cX4_run 28 = .ok (.istore 6, 2) := dk_54 6 (dk_at dksX4_run_1 4 rfl rfl)
theorem dX4_run_30 : decode cX4_run 30 = .ok (.iload 6, 2) := dk_21 6 (dk_at dksX4_run_1 6 rfl rfl)
theorem dX4_run_32 : decode cX4_run 32 = .ok (.iload_n 2, 1) := dk_28 (dk_at dksX4_run_1 8 rfl rfl)
theorem dX4_run_33 : decode cX4_run 33 = .ok (.if_icmp .ge 45, 3) := dk_162 0 45 (dk_at dksX4_run_1 9 rfl rfl)
theorem dX4_run_36 : decode cX4_run 36 = .ok (.aload_n 0, 1) := dk_42 (dk_at dksX4_run_1 12 rfl rfl)
theorem dX4_run_37 : decode cX4_run 37 = .ok (.getfield 18, 3) := dk_180 0 18 (dk_at dksX4_run_1 13 rfl rfl)
theorem dX4_run_40 : decode cX4_run 40 = .ok (.iload 6, 2) := dk_21 6 (dk_at dksX4_run_1 16 rfl rfl)
theorem dX4_run_42 : decode cX4_run 42 = .ok (.aload_n 1, 1) := dk_43 (dk_at dksX4_run_1 18 rfl rfl)
theorem dX4_run_43 : decode cX4_run 43 = .ok (.iload 6, 2) := dk_21 6 (dk_at dksX4_run_1 19 rfl rfl)
theorem dX4_run_45 : decode cX4_run 45 = .ok (.aaload, 1) := dk_50 (dk_at dksX4_run_1 21 rfl rfl)
theorem dX4_run_46 : decode cX4_run 46 = .ok (.aload_n 3, 1) := dk_45 (dk_at dksX4_run_1 22 rfl rfl)
theorem dX4_run_47 : decode cX4_run 47 = .ok (.invokevirtual 61, 3) := dk_182 0 61 (dk_at dksX4_run_2 0 rfl rfl)
theorem dX4_run_50 : decode cX4_run 50 = .ok (.iastore, 1) := dk_79 (dk_at dksX4_run_2 3 rfl rfl)
theorem dX4_run_51 : decode cX4_run 51 = .ok (.aload_n 0, 1) := dk_42 (dk_at dksX4_run_2 4 rfl rfl)
theorem dX4_run_52 : decode cX4_run 52 = .ok (.getfield 22, 3) := dk_180 0 22 (dk_at dksX4_run_2 5 rfl rfl)
theorem dX4_run_55 : decode cX4_run 55 = .ok (.iload 6, 2) := dk_21 6 (dk_at dksX4_run_2 8 rfl rfl)
theorem dX4_run_57 : decode cX4_run 57 = .ok (.iconst 0, 1) := dk_3 (dk_at dksX4_run_2 10 rfl rfl)
theorem dX4_run_58 : decode cX4_run 58 = .ok (.iastore, 1) := dk_79 (dk_at dksX4_run_2 11 rfl rfl)
theorem dX4_run_59 : decode cX4_run 59 = .ok (.aload 4, 2) := dk_25 4 (dk_at dksX4_run_2 12 rfl rfl)
theorem dX4_run_61 : decode cX4_run 61 = .ok (.ifnull 11, 3) := dk_198 0 11 (dk_at dksX4_run_2 14 rfl rfl)
theorem dX4_run_64 : decode cX4_run 64 = .ok (.aload 4, 2) := dk_25 4 (dk_at dksX4_run_2 17 rfl rfl)
theorem dX4_run_66 : decode cX4_run 66 = .ok (.iload 6, 2) := dk_21 6 (dk_at dksX4_run_2 19 rfl rfl)
theorem dX4_run_68 : decode cX4_run 68 = .ok (.aaload, 1) := dk_50 (dk_at dksX4_run_2 21 rfl rfl)
theorem dX4_run_69 : decode cX4_run 69 = .ok (.invokevirtual 58, 3) := dk_182 0 58 (dk_at dksX4_run_3 0 rfl rfl)
theorem dX4_run_72 : decode cX4_run 72 = .ok (.iinc 6 1, 3) := dk_132 6 1 (dk_at dksX4_run_3 3 rfl rfl)
theorem dX4_run_75 : decode cX4_run 75 = .ok (.goto (-45), 3) := dk_167 255 211 (dk_at dksX4_run_3 6 rfl rfl)
theorem dX4_run_78 : decode cX4_run 78 = .ok (.aload_n 0, 1) := dk_42 (dk_at dksX4_run_3 9 rfl rfl)
theorem dX4_run_79 : decode cX4_run 79 = .ok (.getfield 12, 3) := dk_180 0 12 (dk_at dksX4_run_3 10 rfl rfl)
theorem dX4_run_82 : decode cX4_run 82 = .ok (.getfield 65, 3) := dk_180 0 65 (dk_at dksX4_run_3 13 rfl rfl)
theorem dX4_run_85 : decode cX4_run 85 = .ok (.ifCond .le 93, 3) := dk_158 0 93 (dk_at dksX4_run_3 16 rfl rfl)
theorem dX4_run_88 : decode cX4_run 88 = .ok (.aload_n 0, 1) := dk_42 (dk_at dksX4_run_3 19 rfl rfl)
theorem dX4_run_89 : decode cX4_run 89 = .ok (.getfield 12, 3) := dk_180 0 12 (dk_at dksX4_run_3 20 rfl rfl)
theorem dX4_run_92 : decode cX4_run 92 = .ok (.aload_n 3, 1) := dk_45 (dk_at dksX4_run_3 23 rfl rfl)
theorem dX4_run_93 : decode cX4_run 93 = .ok (.invokevirtual 61, 3) := dk_182 0 61 (dk_at dksX4_run_4 0 rfl rfl)
theorem dX4_run_96 : decode cX4_run 96 = .ok (.istore 6, 2) := dk_54 6 (dk_at dksX4_run_4 3 rfl rfl)
theorem dX4_run_98 : decode cX4_run 98 = .ok (.iconst 0, 1) := dk_3 (dk_at dksX4_run_4 5 rfl rfl)
theorem dX4_run_99 : decode cX4_run 99 = .ok (.istore 7, 2) := dk_54 7 (dk_at dksX4_run_4 6 rfl rfl)
theorem dX4_run_101 : decode cX4_run 101 = .ok (.iload 7, 2) := dk_21 7 (dk_at dksX4_run_4 8 rfl rfl)
theorem dX4_run_103 : decode cX4_run 103 = .ok (.iload_n 2, 1) := dk_28 (dk_at dksX4_run_4 10 rfl rfl)
theorem dX4_run_104 : decode cX4_run 104 = .ok (.if_icmp .ge 40, 3) := dk_162 0 40 (dk_at dksX4_run_4 11 rfl rfl)
theorem dX4_run_107 : decode cX4_run 107 = .ok (.aload_n 0, 1) := dk_42 (dk_at dksX4_run_4 14 rfl rfl)
theorem dX4_run_108 : decode cX4_run 108 = .ok (.getfield 18, 3) := dk_180 0 18 (dk_at dksX4_run_4 15 rfl rfl)
theorem dX4_run_111 : decode cX4_run 111 = .ok (.iload 7, 2) := dk_21 7 (dk_at dksX4_run_4 18 rfl rfl)
theorem dX4_run_113 : decode cX4_run 113 = .ok (.iaload, 1) := dk_46 (dk_at dksX4_run_4 20 rfl rfl)
theorem dX4_run_114 : decode cX4_run 114 = .ok (.bipush (-7), 2) := dk_16 249 (dk_at dksX4_run_4 21 rfl rfl)
theorem dX4_run_116 : decode cX4_run 116 = .ok (.if_icmp .eq 22, 3) := dk_159 0 22 (dk_at dksX4_run_5 0 rfl rfl)
theorem dX4_run_119 : decode cX4_run 119 = .ok (.aload_n 0, 1) := dk_42 (dk_at dksX4_run_5 3 rfl rfl)
theorem dX4_run_120 : decode cX4_run 120 = .ok (.getfield 25, 3) := dk_180 0 25 (dk_at dksX4_run_5 4 rfl rfl)
theorem dX4_run_123 : decode cX4_run 123 = .ok (.aload_n 0, 1) := dk_42 (dk_at dksX4_run_5 7 rfl rfl)
theorem dX4_run_124 : decode cX4_run 124 = .ok (.getfield 18, 3) := dk_180 0 18 (dk_at dksX4_run_5 8 rfl rfl)
theorem dX4_run_127 : decode cX4_run 127 = .ok (.iload 7, 2) := dk_21 7 (dk_at dksX4_run_5 11 rfl rfl)
theorem dX4_run_129 : decode cX4_run 129 = .ok (.iaload, 1) := dk_46 (dk_at dksX4_run_5 13 rfl rfl)
theorem dX4_run_130 : decode cX4_run 130 = .ok (.iload 6, 2) := dk_21 6 (dk_at dksX4_run_5 14 rfl rfl)
theorem dX4_run_132 : decode cX4_run 132 = .ok (.invokevirtual 69, 3) := dk_182 0 69 (dk_at dksX4_run_5 16 rfl rfl)
theorem dX4_run_135 : decode cX4_run 135 = .ok (.ifCond .ne 9, 3) := dk_154 0 9 (dk_at dksX4_run_5 19 rfl rfl)
theorem dX4_run_138 : decode cX4_run 138 = .ok (.iinc 7 1, 3) := dk_132 7 1 (dk_at dksX4_run_6 0 rfl rfl)
theorem dX4_run_141 : decode cX4_run 141 = .ok (.goto (-40), 3) := dk_167 255 216 (dk_at dksX4_run_6 3 rfl rfl)
theorem dX4_run_144 : decode cX4_run 144 = .ok (.iload 7, 2) := dk_21 7 (dk_at dksX4_run_6 6 rfl rfl)
theorem dX4_run_146 : decode cX4_run 146 = .ok (.iload_n 2, 1) := dk_28 (dk_at dksX4_run_6 8 rfl rfl)
theorem dX4_run_147 : decode cX4_run 147 = .ok (.if_icmp .ge 17, 3) := dk_162 0 17 (dk_at dksX4_run_6 9 rfl rfl)
theorem dX4_run_150 : decode cX4_run 150 = .ok (.aload_n 0, 1) := dk_42 (dk_at dksX4_run_6 12 rfl rfl)
theorem dX4_run_151 : decode cX4_run 151 = .ok (.iload 7, 2) := dk_21 7 (dk_at dksX4_run_6 13 rfl rfl)
theorem dX4_run_153 : decode cX4_run 153 = .ok (.iload 6, 2) := dk_21 6 (dk_at dksX4_run_6 15 rfl rfl)
theorem dX4_run_155 : decode cX4_run 155 = .ok (.invokevirtual 75, 3) := dk_182 0 75 (dk_at dksX4_run_6 17 rfl rfl)
theorem dX4_run_158 : decode cX4_run 158 = .ok (.ifCond .eq 15, 3) := dk_153 0 15 (dk_at dksX4_run_6 20 rfl rfl)
theorem dX4_run_161 : decode cX4_run 161 = .ok (.goto 14, 3) := dk_167 0 14 (dk_at dksX4_run_7 0 rfl rfl)
theorem dX4_run_164 : decode cX4_run 164 = .ok (.aload_n 0, 1) := dk_42 (dk_at dksX4_run_7 3 rfl rfl)
theorem dX4_run_165 : decode cX4_run 165 = .ok (.iload 6, 2) := dk_21 6 (dk_at dksX4_run_7 4 rfl rfl)
theorem dX4_run_167 : decode cX4_run 167 = .ok (.invokevirtual 78, 3) := dk_182 0 78 (dk_at dksX4_run_7 6 rfl rfl)
theorem dX4_run_170 : decode cX4_run 170 = .ok (.ifCond .ne 5, 3) := dk_154 0 5 (dk_at dksX4_run_7 9 rfl rfl)
theorem dX4_run_173 : decode cX4_run 173 = .ok (.iconst 0, 1) := dk_3 (dk_at dksX4_run_7 12 rfl rfl)
theorem dX4_run_174 : decode cX4_run 174 = .ok (.ireturn, 1) := dk_172 (dk_at dksX4_run_7 13 rfl rfl)
theorem dX4_run_175 : decode cX4_run 175 = .ok (.goto (-97), 3) := dk_167 255 159 (dk_at dksX4_run_7 14 rfl rfl)
theorem dX4_run_178 : decode cX4_run 178 = .ok (.iconst 1, 1) := dk_4 (dk_at dksX4_run_7 17 rfl rfl)
theorem dX4_run_179 : decode cX4_run 179 = .ok (.ireturn, 1) := dk_172 (dk_at dksX4_run_7 18 rfl rfl)
abbrev cX4_step : ByteArray := prog_5_method_4_code
def yX4_step : MethodName := ⟨RX4, "step", "(II)Z"⟩
def dkwX4_step_11 : List UInt8 := [172]
abbrev dktX4_step_11 : List UInt8 := dkwX4_step_11 ++ []
def dkwX4_step_10 : List UInt8 := [180, 0, 41, 182, 0, 86, 154, 0, 5, 3, 172, 132, 4, 1, 167, 255, 122, 42, 180, 0, 12, 182, 0, 94]
abbrev dktX4_step_10 : List UInt8 := dkwX4_step_10 ++ dktX4_step_11
def dkwX4_step_9 : List UInt8 := [182, 0, 82, 42, 180, 0, 41, 42, 180, 0, 38, 2, 182, 0, 120, 42, 180, 0, 12, 21, 5, 42]
abbrev dktX4_step_9 : List UInt8 := dkwX4_step_9 ++ dktX4_step_10
def dkwX4_step_8 : List UInt8 := [182, 0, 82, 42, 180, 0, 38, 42, 180, 0, 34, 182, 0, 118, 42, 180, 0, 12, 21, 5, 42, 180, 0, 41]
abbrev dktX4_step_8 : List UInt8 := dkwX4_step_8 ++ dktX4_step_9
def dkwX4_step_7 : List UInt8 := [42, 180, 0, 25, 21, 4, 29, 182, 0, 115, 54, 5, 42, 180, 0, 44, 27, 50, 21, 4, 42, 180, 0, 38]
abbrev dktX4_step_7 : List UInt8 := dkwX4_step_7 ++ dktX4_step_8
def dkwX4_step_6 : List UInt8 := [180, 0, 25, 21, 4, 182, 0, 111, 42, 180, 0, 25, 29, 182, 0, 111, 96, 16, 12, 164, 0, 5, 3, 172]
abbrev dktX4_step_6 : List UInt8 := dkwX4_step_6 ++ dktX4_step_7
def dkwX4_step_5 : List UInt8 := [17, 1, 199, 162, 0, 132, 42, 180, 0, 44, 27, 50, 21, 4, 182, 0, 108, 154, 0, 6, 167, 0, 109, 42]
abbrev dktX4_step_5 : List UInt8 := dkwX4_step_5 ++ dktX4_step_6
def dkwX4_step_4 : List UInt8 := [198, 0, 18, 42, 180, 0, 52, 27, 50, 29, 42, 180, 0, 34, 182, 0, 86, 87, 3, 54, 4, 21, 4]
abbrev dktX4_step_4 : List UInt8 := dkwX4_step_4 ++ dktX4_step_5
def dkwX4_step_3 : List UInt8 := [182, 0, 105, 153, 0, 14, 42, 180, 0, 22, 27, 46, 16, 60, 164, 0, 5, 3, 172, 42, 180, 0, 52]
abbrev dktX4_step_3 : List UInt8 := dkwX4_step_3 ++ dktX4_step_4
def dkwX4_step_2 : List UInt8 := [180, 0, 34, 42, 180, 0, 38, 182, 0, 102, 42, 180, 0, 22, 27, 92, 46, 4, 96, 79, 42, 180, 0, 34]
abbrev dktX4_step_2 : List UInt8 := dkwX4_step_2 ++ dktX4_step_3
def dkwX4_step_1 : List UInt8 := [182, 0, 82, 42, 180, 0, 44, 27, 50, 42, 180, 0, 18, 27, 46, 42, 180, 0, 38, 182, 0, 82, 42]
abbrev dktX4_step_1 : List UInt8 := dkwX4_step_1 ++ dktX4_step_2
def dkwX4_step_0 : List UInt8 := [42, 180, 0, 25, 28, 42, 180, 0, 18, 27, 46, 182, 0, 98, 62, 42, 180, 0, 12, 28, 42, 180, 0, 34]
abbrev dktX4_step_0 : List UInt8 := dkwX4_step_0 ++ dktX4_step_1
theorem dksX4_step_0 : cX4_step.data.toList.drop 0 = dktX4_step_0 := by decide +kernel
theorem dksX4_step_1 : cX4_step.data.toList.drop 24 = dktX4_step_1 := dk_seg dksX4_step_0 24 rfl rfl
theorem dksX4_step_2 : cX4_step.data.toList.drop 47 = dktX4_step_2 := dk_seg dksX4_step_1 23 rfl rfl
theorem dksX4_step_3 : cX4_step.data.toList.drop 71 = dktX4_step_3 := dk_seg dksX4_step_2 24 rfl rfl
theorem dksX4_step_4 : cX4_step.data.toList.drop 94 = dktX4_step_4 := dk_seg dksX4_step_3 23 rfl rfl
theorem dksX4_step_5 : cX4_step.data.toList.drop 117 = dktX4_step_5 := dk_seg dksX4_step_4 23 rfl rfl
theorem dksX4_step_6 : cX4_step.data.toList.drop 141 = dktX4_step_6 := dk_seg dksX4_step_5 24 rfl rfl
theorem dksX4_step_7 : cX4_step.data.toList.drop 165 = dktX4_step_7 := dk_seg dksX4_step_6 24 rfl rfl
theorem dksX4_step_8 : cX4_step.data.toList.drop 189 = dktX4_step_8 := dk_seg dksX4_step_7 24 rfl rfl
theorem dksX4_step_9 : cX4_step.data.toList.drop 213 = dktX4_step_9 := dk_seg dksX4_step_8 24 rfl rfl
theorem dksX4_step_10 : cX4_step.data.toList.drop 235 = dktX4_step_10 := dk_seg dksX4_step_9 22 rfl rfl
theorem dksX4_step_11 : cX4_step.data.toList.drop 259 = dktX4_step_11 := dk_seg dksX4_step_10 24 rfl rfl
theorem dX4_step_0 : decode cX4_step 0 = .ok (.aload_n 0, 1) := dk_42 (dk_at dksX4_step_0 0 rfl rfl)
theorem dX4_step_1 : decode cX4_step 1 = .ok (.getfield 25, 3) := dk_180 0 25 (dk_at dksX4_step_0 1 rfl rfl)
theorem dX4_step_4 : decode cX4_step 4 = .ok (.iload_n 2, 1) := dk_28 (dk_at dksX4_step_0 4 rfl rfl)
theorem dX4_step_5 : decode cX4_step 5 = .ok (.aload_n 0, 1) := dk_42 (dk_at dksX4_step_0 5 rfl rfl)
theorem dX4_step_6 : decode cX4_step 6 = .ok (.getfield 18, 3) := dk_180 0 18 (dk_at dksX4_step_0 6 rfl rfl)
theorem dX4_step_9 : decode cX4_step 9 = .ok (.iload_n 1, 1) := dk_27 (dk_at dksX4_step_0 9 rfl rfl)
theorem dX4_step_10 : decode cX4_step 10 = .ok (.iaload, 1) := dk_46 (dk_at dksX4_step_0 10 rfl rfl)
theorem dX4_step_11 : decode cX4_step 11 = .ok (.invokevirtual 98, 3) := dk_182 0 98 (dk_at dksX4_step_0 11 rfl rfl)
theorem dX4_step_14 : decode cX4_step 14 = .ok (.istore_n 3, 1) := dk_62 (dk_at dksX4_step_0 14 rfl rfl)
theorem dX4_step_15 : decode cX4_step 15 = .ok (.aload_n 0, 1) := dk_42 (dk_at dksX4_step_0 15 rfl rfl)
theorem dX4_step_16 : decode cX4_step 16 = .ok (.getfield 12, 3) := dk_180 0 12 (dk_at dksX4_step_0 16 rfl rfl)
theorem dX4_step_19 : decode cX4_step 19 = .ok (.iload_n 2, 1) := dk_28 (dk_at dksX4_step_0 19 rfl rfl)
theorem dX4_step_20 : decode cX4_step 20 = .ok (.aload_n 0, 1) := dk_42 (dk_at dksX4_step_0 20 rfl rfl)
theorem dX4_step_21 : decode cX4_step 21 = .ok (.getfield 34, 3) := dk_180 0 34 (dk_at dksX4_step_0 21 rfl rfl)
theorem dX4_step_24 : decode cX4_step 24 = .ok (.invokevirtual 82, 3) := dk_182 0 82 (dk_at dksX4_step_1 0 rfl rfl)
theorem dX4_step_27 : decode cX4_step 27 = .ok (.aload_n 0, 1) := dk_42 (dk_at dksX4_step_1 3 rfl rfl)
theorem dX4_step_28 : decode cX4_step 28 = .ok (.getfield 44, 3) := dk_180 0 44 (dk_at dksX4_step_1 4 rfl rfl)
theorem dX4_step_31 : decode cX4_step 31 = .ok (.iload_n 1, 1) := dk_27 (dk_at dksX4_step_1 7 rfl rfl)
theorem dX4_step_32 : decode cX4_step 32 = .ok (.aaload, 1) := dk_50 (dk_at dksX4_step_1 8 rfl rfl)
theorem dX4_step_33 : decode cX4_step 33 = .ok (.aload_n 0, 1) := dk_42 (dk_at dksX4_step_1 9 rfl rfl)
theorem dX4_step_34 : decode cX4_step 34 = .ok (.getfield 18, 3) := dk_180 0 18 (dk_at dksX4_step_1 10 rfl rfl)
theorem dX4_step_37 : decode cX4_step 37 = .ok (.iload_n 1, 1) := dk_27 (dk_at dksX4_step_1 13 rfl rfl)
theorem dX4_step_38 : decode cX4_step 38 = .ok (.iaload, 1) := dk_46 (dk_at dksX4_step_1 14 rfl rfl)
theorem dX4_step_39 : decode cX4_step 39 = .ok (.aload_n 0, 1) := dk_42 (dk_at dksX4_step_1 15 rfl rfl)
theorem dX4_step_40 : decode cX4_step 40 = .ok (.getfield 38, 3) := dk_180 0 38 (dk_at dksX4_step_1 16 rfl rfl)
theorem dX4_step_43 : decode cX4_step 43 = .ok (.invokevirtual 82, 3) := dk_182 0 82 (dk_at dksX4_step_1 19 rfl rfl)
theorem dX4_step_46 : decode cX4_step 46 = .ok (.aload_n 0, 1) := dk_42 (dk_at dksX4_step_1 22 rfl rfl)
theorem dX4_step_47 : decode cX4_step 47 = .ok (.getfield 34, 3) := dk_180 0 34 (dk_at dksX4_step_2 0 rfl rfl)
theorem dX4_step_50 : decode cX4_step 50 = .ok (.aload_n 0, 1) := dk_42 (dk_at dksX4_step_2 3 rfl rfl)
theorem dX4_step_51 : decode cX4_step 51 = .ok (.getfield 38, 3) := dk_180 0 38 (dk_at dksX4_step_2 4 rfl rfl)
theorem dX4_step_54 : decode cX4_step 54 = .ok (.invokevirtual 102, 3) := dk_182 0 102 (dk_at dksX4_step_2 7 rfl rfl)
theorem dX4_step_57 : decode cX4_step 57 = .ok (.aload_n 0, 1) := dk_42 (dk_at dksX4_step_2 10 rfl rfl)
theorem dX4_step_58 : decode cX4_step 58 = .ok (.getfield 22, 3) := dk_180 0 22 (dk_at dksX4_step_2 11 rfl rfl)
theorem dX4_step_61 : decode cX4_step 61 = .ok (.iload_n 1, 1) := dk_27 (dk_at dksX4_step_2 14 rfl rfl)
theorem dX4_step_62 : decode cX4_step 62 = .ok (.dup2, 1) := dk_92 (dk_at dksX4_step_2 15 rfl rfl)
theorem dX4_step_63 : decode cX4_step 63 = .ok (.iaload, 1) := dk_46 (dk_at dksX4_step_2 16 rfl rfl)
theorem dX4_step_64 : decode cX4_step 64 = .ok (.iconst 1, 1) := dk_4 (dk_at dksX4_step_2 17 rfl rfl)
theorem dX4_step_65 : decode cX4_step 65 = .ok (.iadd, 1) := dk_96 (dk_at dksX4_step_2 18 rfl rfl)
theorem dX4_step_66 : decode cX4_step 66 = .ok (.iastore, 1) := dk_79 (dk_at dksX4_step_2 19 rfl rfl)
theorem dX4_step_67 : decode cX4_step 67 = .ok (.aload_n 0, 1) := dk_42 (dk_at dksX4_step_2 20 rfl rfl)
theorem dX4_step_68 : decode cX4_step 68 = .ok (.getfield 34, 3) := dk_180 0 34 (dk_at dksX4_step_2 21 rfl rfl)
theorem dX4_step_71 : decode cX4_step 71 = .ok (.invokevirtual 105, 3) := dk_182 0 105 (dk_at dksX4_step_3 0 rfl rfl)
theorem dX4_step_74 : decode cX4_step 74 = .ok (.ifCond .eq 14, 3) := dk_153 0 14 (dk_at dksX4_step_3 3 rfl rfl)
theorem dX4_step_77 : decode cX4_step 77 = .ok (.aload_n 0, 1) := dk_42 (dk_at dksX4_step_3 6 rfl rfl)
theorem dX4_step_78 : decode cX4_step 78 = .ok (.getfield 22, 3) := dk_180 0 22 (dk_at dksX4_step_3 7 rfl rfl)
theorem dX4_step_81 : decode cX4_step 81 = .ok (.iload_n 1, 1) := dk_27 (dk_at dksX4_step_3 10 rfl rfl)
theorem dX4_step_82 : decode cX4_step 82 = .ok (.iaload, 1) := dk_46 (dk_at dksX4_step_3 11 rfl rfl)
theorem dX4_step_83 : decode cX4_step 83 = .ok (.bipush 60, 2) := dk_16 60 (dk_at dksX4_step_3 12 rfl rfl)
theorem dX4_step_85 : decode cX4_step 85 = .ok (.if_icmp .le 5, 3) := dk_164 0 5 (dk_at dksX4_step_3 14 rfl rfl)
theorem dX4_step_88 : decode cX4_step 88 = .ok (.iconst 0, 1) := dk_3 (dk_at dksX4_step_3 17 rfl rfl)
theorem dX4_step_89 : decode cX4_step 89 = .ok (.ireturn, 1) := dk_172 (dk_at dksX4_step_3 18 rfl rfl)
theorem dX4_step_90 : decode cX4_step 90 = .ok (.aload_n 0, 1) := dk_42 (dk_at dksX4_step_3 19 rfl rfl)
theorem dX4_step_91 : decode cX4_step 91 = .ok (.getfield 52, 3) := dk_180 0 52 (dk_at dksX4_step_3 20 rfl rfl)
theorem dX4_step_94 : decode cX4_step 94 = .ok (.ifnull 18, 3) := dk_198 0 18 (dk_at dksX4_step_4 0 rfl rfl)
theorem dX4_step_97 : decode cX4_step 97 = .ok (.aload_n 0, 1) := dk_42 (dk_at dksX4_step_4 3 rfl rfl)
theorem dX4_step_98 : decode cX4_step 98 = .ok (.getfield 52, 3) := dk_180 0 52 (dk_at dksX4_step_4 4 rfl rfl)
theorem dX4_step_101 : decode cX4_step 101 = .ok (.iload_n 1, 1) := dk_27 (dk_at dksX4_step_4 7 rfl rfl)
theorem dX4_step_102 : decode cX4_step 102 = .ok (.aaload, 1) := dk_50 (dk_at dksX4_step_4 8 rfl rfl)
theorem dX4_step_103 : decode cX4_step 103 = .ok (.iload_n 3, 1) := dk_29 (dk_at dksX4_step_4 9 rfl rfl)
theorem dX4_step_104 : decode cX4_step 104 = .ok (.aload_n 0, 1) := dk_42 (dk_at dksX4_step_4 10 rfl rfl)
theorem dX4_step_105 : decode cX4_step 105 = .ok (.getfield 34, 3) := dk_180 0 34 (dk_at dksX4_step_4 11 rfl rfl)
theorem dX4_step_108 : decode cX4_step 108 = .ok (.invokevirtual 86, 3) := dk_182 0 86 (dk_at dksX4_step_4 14 rfl rfl)
theorem dX4_step_111 : decode cX4_step 111 = .ok (.pop, 1) := dk_87 (dk_at dksX4_step_4 17 rfl rfl)
theorem dX4_step_112 : decode cX4_step 112 = .ok (.iconst 0, 1) := dk_3 (dk_at dksX4_step_4 18 rfl rfl)
theorem dX4_step_113 : decode cX4_step 113 = .ok (.istore 4, 2) := dk_54 4 (dk_at dksX4_step_4 19 rfl rfl)
theorem dX4_step_115 : decode cX4_step 115 = .ok (.iload 4, 2) := dk_21 4 (dk_at dksX4_step_4 21 rfl rfl)
theorem dX4_step_117 : decode cX4_step 117 = .ok (.sipush 455, 3) := dk_17 1 199 (dk_at dksX4_step_5 0 rfl rfl)
theorem dX4_step_120 : decode cX4_step 120 = .ok (.if_icmp .ge 132, 3) := dk_162 0 132 (dk_at dksX4_step_5 3 rfl rfl)
theorem dX4_step_123 : decode cX4_step 123 = .ok (.aload_n 0, 1) := dk_42 (dk_at dksX4_step_5 6 rfl rfl)
theorem dX4_step_124 : decode cX4_step 124 = .ok (.getfield 44, 3) := dk_180 0 44 (dk_at dksX4_step_5 7 rfl rfl)
theorem dX4_step_127 : decode cX4_step 127 = .ok (.iload_n 1, 1) := dk_27 (dk_at dksX4_step_5 10 rfl rfl)
theorem dX4_step_128 : decode cX4_step 128 = .ok (.aaload, 1) := dk_50 (dk_at dksX4_step_5 11 rfl rfl)
theorem dX4_step_129 : decode cX4_step 129 = .ok (.iload 4, 2) := dk_21 4 (dk_at dksX4_step_5 12 rfl rfl)
theorem dX4_step_131 : decode cX4_step 131 = .ok (.invokevirtual 108, 3) := dk_182 0 108 (dk_at dksX4_step_5 14 rfl rfl)
theorem dX4_step_134 : decode cX4_step 134 = .ok (.ifCond .ne 6, 3) := dk_154 0 6 (dk_at dksX4_step_5 17 rfl rfl)
theorem dX4_step_137 : decode cX4_step 137 = .ok (.goto 109, 3) := dk_167 0 109 (dk_at dksX4_step_5 20 rfl rfl)
theorem dX4_step_140 : decode cX4_step 140 = .ok (.aload_n 0, 1) := dk_42 (dk_at dksX4_step_5 23 rfl rfl)
theorem dX4_step_141 : decode cX4_step 141 = .ok (.getfield 25, 3) := dk_180 0 25 (dk_at dksX4_step_6 0 rfl rfl)
theorem dX4_step_144 : decode cX4_step 144 = .ok (.iload 4, 2) := dk_21 4 (dk_at dksX4_step_6 3 rfl rfl)
theorem dX4_step_146 : decode cX4_step 146 = .ok (.invokevirtual 111, 3) := dk_182 0 111 (dk_at dksX4_step_6 5 rfl rfl)
theorem dX4_step_149 : decode cX4_step 149 = .ok (.aload_n 0, 1) := dk_42 (dk_at dksX4_step_6 8 rfl rfl)
theorem dX4_step_150 : decode cX4_step 150 = .ok (.getfield 25, 3) := dk_180 0 25 (dk_at dksX4_step_6 9 rfl rfl)
theorem dX4_step_153 : decode cX4_step 153 = .ok (.iload_n 3, 1) := dk_29 (dk_at dksX4_step_6 12 rfl rfl)
theorem dX4_step_154 : decode cX4_step 154 = .ok (.invokevirtual 111, 3) := dk_182 0 111 (dk_at dksX4_step_6 13 rfl rfl)
theorem dX4_step_157 : decode cX4_step 157 = .ok (.iadd, 1) := dk_96 (dk_at dksX4_step_6 16 rfl rfl)
theorem dX4_step_158 : decode cX4_step 158 = .ok (.bipush 12, 2) := dk_16 12 (dk_at dksX4_step_6 17 rfl rfl)
theorem dX4_step_160 : decode cX4_step 160 = .ok (.if_icmp .le 5, 3) := dk_164 0 5 (dk_at dksX4_step_6 19 rfl rfl)
theorem dX4_step_163 : decode cX4_step 163 = .ok (.iconst 0, 1) := dk_3 (dk_at dksX4_step_6 22 rfl rfl)
theorem dX4_step_164 : decode cX4_step 164 = .ok (.ireturn, 1) := dk_172 (dk_at dksX4_step_6 23 rfl rfl)
theorem dX4_step_165 : decode cX4_step 165 = .ok (.aload_n 0, 1) := dk_42 (dk_at dksX4_step_7 0 rfl rfl)
theorem dX4_step_166 : decode cX4_step 166 = .ok (.getfield 25, 3) := dk_180 0 25 (dk_at dksX4_step_7 1 rfl rfl)
theorem dX4_step_169 : decode cX4_step 169 = .ok (.iload 4, 2) := dk_21 4 (dk_at dksX4_step_7 4 rfl rfl)
theorem dX4_step_171 : decode cX4_step 171 = .ok (.iload_n 3, 1) := dk_29 (dk_at dksX4_step_7 6 rfl rfl)
theorem dX4_step_172 : decode cX4_step 172 = .ok (.invokevirtual 115, 3) := dk_182 0 115 (dk_at dksX4_step_7 7 rfl rfl)
theorem dX4_step_175 : decode cX4_step 175 = .ok (.istore 5, 2) := dk_54 5 (dk_at dksX4_step_7 10 rfl rfl)
theorem dX4_step_177 : decode cX4_step 177 = .ok (.aload_n 0, 1) := dk_42 (dk_at dksX4_step_7 12 rfl rfl)
theorem dX4_step_178 : decode cX4_step 178 = .ok (.getfield 44, 3) := dk_180 0 44 (dk_at dksX4_step_7 13 rfl rfl)
theorem dX4_step_181 : decode cX4_step 181 = .ok (.iload_n 1, 1) := dk_27 (dk_at dksX4_step_7 16 rfl rfl)
theorem dX4_step_182 : decode cX4_step 182 = .ok (.aaload, 1) := dk_50 (dk_at dksX4_step_7 17 rfl rfl)
theorem dX4_step_183 : decode cX4_step 183 = .ok (.iload 4, 2) := dk_21 4 (dk_at dksX4_step_7 18 rfl rfl)
theorem dX4_step_185 : decode cX4_step 185 = .ok (.aload_n 0, 1) := dk_42 (dk_at dksX4_step_7 20 rfl rfl)
theorem dX4_step_186 : decode cX4_step 186 = .ok (.getfield 38, 3) := dk_180 0 38 (dk_at dksX4_step_7 21 rfl rfl)
theorem dX4_step_189 : decode cX4_step 189 = .ok (.invokevirtual 82, 3) := dk_182 0 82 (dk_at dksX4_step_8 0 rfl rfl)
theorem dX4_step_192 : decode cX4_step 192 = .ok (.aload_n 0, 1) := dk_42 (dk_at dksX4_step_8 3 rfl rfl)
theorem dX4_step_193 : decode cX4_step 193 = .ok (.getfield 38, 3) := dk_180 0 38 (dk_at dksX4_step_8 4 rfl rfl)
theorem dX4_step_196 : decode cX4_step 196 = .ok (.aload_n 0, 1) := dk_42 (dk_at dksX4_step_8 7 rfl rfl)
theorem dX4_step_197 : decode cX4_step 197 = .ok (.getfield 34, 3) := dk_180 0 34 (dk_at dksX4_step_8 8 rfl rfl)
theorem dX4_step_200 : decode cX4_step 200 = .ok (.invokevirtual 118, 3) := dk_182 0 118 (dk_at dksX4_step_8 11 rfl rfl)
theorem dX4_step_203 : decode cX4_step 203 = .ok (.aload_n 0, 1) := dk_42 (dk_at dksX4_step_8 14 rfl rfl)
theorem dX4_step_204 : decode cX4_step 204 = .ok (.getfield 12, 3) := dk_180 0 12 (dk_at dksX4_step_8 15 rfl rfl)
theorem dX4_step_207 : decode cX4_step 207 = .ok (.iload 5, 2) := dk_21 5 (dk_at dksX4_step_8 18 rfl rfl)
theorem dX4_step_209 : decode cX4_step 209 = .ok (.aload_n 0, 1) := dk_42 (dk_at dksX4_step_8 20 rfl rfl)
theorem dX4_step_210 : decode cX4_step 210 = .ok (.getfield 41, 3) := dk_180 0 41 (dk_at dksX4_step_8 21 rfl rfl)
theorem dX4_step_213 : decode cX4_step 213 = .ok (.invokevirtual 82, 3) := dk_182 0 82 (dk_at dksX4_step_9 0 rfl rfl)
theorem dX4_step_216 : decode cX4_step 216 = .ok (.aload_n 0, 1) := dk_42 (dk_at dksX4_step_9 3 rfl rfl)
theorem dX4_step_217 : decode cX4_step 217 = .ok (.getfield 41, 3) := dk_180 0 41 (dk_at dksX4_step_9 4 rfl rfl)
theorem dX4_step_220 : decode cX4_step 220 = .ok (.aload_n 0, 1) := dk_42 (dk_at dksX4_step_9 7 rfl rfl)
theorem dX4_step_221 : decode cX4_step 221 = .ok (.getfield 38, 3) := dk_180 0 38 (dk_at dksX4_step_9 8 rfl rfl)
theorem dX4_step_224 : decode cX4_step 224 = .ok (.iconst (-1), 1) := dk_2 (dk_at dksX4_step_9 11 rfl rfl)
theorem dX4_step_225 : decode cX4_step 225 = .ok (.invokevirtual 120, 3) := dk_182 0 120 (dk_at dksX4_step_9 12 rfl rfl)
theorem dX4_step_228 : decode cX4_step 228 = .ok (.aload_n 0, 1) := dk_42 (dk_at dksX4_step_9 15 rfl rfl)
theorem dX4_step_229 : decode cX4_step 229 = .ok (.getfield 12, 3) := dk_180 0 12 (dk_at dksX4_step_9 16 rfl rfl)
theorem dX4_step_232 : decode cX4_step 232 = .ok (.iload 5, 2) := dk_21 5 (dk_at dksX4_step_9 19 rfl rfl)
theorem dX4_step_234 : decode cX4_step 234 = .ok (.aload_n 0, 1) := dk_42 (dk_at dksX4_step_9 21 rfl rfl)
theorem dX4_step_235 : decode cX4_step 235 = .ok (.getfield 41, 3) := dk_180 0 41 (dk_at dksX4_step_10 0 rfl rfl)
theorem dX4_step_238 : decode cX4_step 238 = .ok (.invokevirtual 86, 3) := dk_182 0 86 (dk_at dksX4_step_10 3 rfl rfl)
theorem dX4_step_241 : decode cX4_step 241 = .ok (.ifCond .ne 5, 3) := dk_154 0 5 (dk_at dksX4_step_10 6 rfl rfl)
theorem dX4_step_244 : decode cX4_step 244 = .ok (.iconst 0, 1) := dk_3 (dk_at dksX4_step_10 9 rfl rfl)
theorem dX4_step_245 : decode cX4_step 245 = .ok (.ireturn, 1) := dk_172 (dk_at dksX4_step_10 10 rfl rfl)
theorem dX4_step_246 : decode cX4_step 246 = .ok (.iinc 4 1, 3) := dk_132 4 1 (dk_at dksX4_step_10 11 rfl rfl)
theorem dX4_step_249 : decode cX4_step 249 = .ok (.goto (-134), 3) := dk_167 255 122 (dk_at dksX4_step_10 14 rfl rfl)
theorem dX4_step_252 : decode cX4_step 252 = .ok (.aload_n 0, 1) := dk_42 (dk_at dksX4_step_10 17 rfl rfl)
theorem dX4_step_253 : decode cX4_step 253 = .ok (.getfield 12, 3) := dk_180 0 12 (dk_at dksX4_step_10 18 rfl rfl)
theorem dX4_step_256 : decode cX4_step 256 = .ok (.invokevirtual 94, 3) := dk_182 0 94 (dk_at dksX4_step_10 21 rfl rfl)
theorem dX4_step_259 : decode cX4_step 259 = .ok (.ireturn, 1) := dk_172 (dk_at dksX4_step_11 0 rfl rfl)
abbrev cX4_moves : ByteArray := prog_5_method_3_code
def yX4_moves : MethodName := ⟨RX4, "moves", "(I)Z"⟩
def dkwX4_moves_1 : List UInt8 := [87, 42, 180, 0, 12, 27, 182, 0, 90, 42, 180, 0, 55, 182, 0, 94, 172]
abbrev dktX4_moves_1 : List UInt8 := dkwX4_moves_1 ++ []
def dkwX4_moves_0 : List UInt8 := [42, 180, 0, 12, 27, 42, 180, 0, 34, 182, 0, 82, 42, 180, 0, 55, 27, 42, 180, 0, 34, 182, 0, 86]
abbrev dktX4_moves_0 : List UInt8 := dkwX4_moves_0 ++ dktX4_moves_1
theorem dksX4_moves_0 : cX4_moves.data.toList.drop 0 = dktX4_moves_0 := by decide +kernel
theorem dksX4_moves_1 : cX4_moves.data.toList.drop 24 = dktX4_moves_1 := dk_seg dksX4_moves_0 24 rfl rfl
theorem dX4_moves_0 : decode cX4_moves 0 = .ok (.aload_n 0, 1) := dk_42 (dk_at dksX4_moves_0 0 rfl rfl)
theorem dX4_moves_1 : decode cX4_moves 1 = .ok (.getfield 12, 3) := dk_180 0 12 (dk_at dksX4_moves_0 1 rfl rfl)
theorem dX4_moves_4 : decode cX4_moves 4 = .ok (.iload_n 1, 1) := dk_27 (dk_at dksX4_moves_0 4 rfl rfl)
theorem dX4_moves_5 : decode cX4_moves 5 = .ok (.aload_n 0, 1) := dk_42 (dk_at dksX4_moves_0 5 rfl rfl)
theorem dX4_moves_6 : decode cX4_moves 6 = .ok (.getfield 34, 3) := dk_180 0 34 (dk_at dksX4_moves_0 6 rfl rfl)
theorem dX4_moves_9 : decode cX4_moves 9 = .ok (.invokevirtual 82, 3) := dk_182 0 82 (dk_at dksX4_moves_0 9 rfl rfl)
theorem dX4_moves_12 : decode cX4_moves 12 = .ok (.aload_n 0, 1) := dk_42 (dk_at dksX4_moves_0 12 rfl rfl)
theorem dX4_moves_13 : decode cX4_moves 13 = .ok (.getfield 55, 3) := dk_180 0 55 (dk_at dksX4_moves_0 13 rfl rfl)
theorem dX4_moves_16 : decode cX4_moves 16 = .ok (.iload_n 1, 1) := dk_27 (dk_at dksX4_moves_0 16 rfl rfl)
theorem dX4_moves_17 : decode cX4_moves 17 = .ok (.aload_n 0, 1) := dk_42 (dk_at dksX4_moves_0 17 rfl rfl)
theorem dX4_moves_18 : decode cX4_moves 18 = .ok (.getfield 34, 3) := dk_180 0 34 (dk_at dksX4_moves_0 18 rfl rfl)
theorem dX4_moves_21 : decode cX4_moves 21 = .ok (.invokevirtual 86, 3) := dk_182 0 86 (dk_at dksX4_moves_0 21 rfl rfl)
theorem dX4_moves_24 : decode cX4_moves 24 = .ok (.pop, 1) := dk_87 (dk_at dksX4_moves_1 0 rfl rfl)
theorem dX4_moves_25 : decode cX4_moves 25 = .ok (.aload_n 0, 1) := dk_42 (dk_at dksX4_moves_1 1 rfl rfl)
theorem dX4_moves_26 : decode cX4_moves 26 = .ok (.getfield 12, 3) := dk_180 0 12 (dk_at dksX4_moves_1 2 rfl rfl)
theorem dX4_moves_29 : decode cX4_moves 29 = .ok (.iload_n 1, 1) := dk_27 (dk_at dksX4_moves_1 5 rfl rfl)
theorem dX4_moves_30 : decode cX4_moves 30 = .ok (.invokevirtual 90, 3) := dk_182 0 90 (dk_at dksX4_moves_1 6 rfl rfl)
theorem dX4_moves_33 : decode cX4_moves 33 = .ok (.aload_n 0, 1) := dk_42 (dk_at dksX4_moves_1 9 rfl rfl)
theorem dX4_moves_34 : decode cX4_moves 34 = .ok (.getfield 55, 3) := dk_180 0 55 (dk_at dksX4_moves_1 10 rfl rfl)
theorem dX4_moves_37 : decode cX4_moves 37 = .ok (.invokevirtual 94, 3) := dk_182 0 94 (dk_at dksX4_moves_1 13 rfl rfl)
theorem dX4_moves_40 : decode cX4_moves 40 = .ok (.ireturn, 1) := dk_172 (dk_at dksX4_moves_1 16 rfl rfl)
theorem q103 : (Jvm.Cond.initialized "IdealCourt$Divider") ∈ lw_all := lw_g (lw_at lw_m1 5 rfl) rfl
theorem q224 : (Jvm.Cond.instantiable "IdealCourt$Divider" (11 : Nat)) ∈ lw_all := lw_g (lw_at lw_m1 126 rfl) rfl
theorem q226 : (Jvm.Cond.instanceMethod ({ cls := "IdealCourt$Divider", name := "<init>", desc := "(LIdealCourt$Terms;LIdealCourt$Reckoner;)V" } : Jvm.MethodName)) ∈ lw_all := lw_g (lw_at lw_m1 128 rfl) rfl
theorem q227 : (Jvm.Cond.code ({ cls := "IdealCourt$Divider", name := "<init>", desc := "(LIdealCourt$Terms;LIdealCourt$Reckoner;)V" } : Jvm.MethodName) prog_5_method_1_code (3 : Nat) (Option.none : Option Jvm.ClassFile.FieldType)) ∈ lw_all := lw_g (lw_at lw_m1 129 rfl) rfl
theorem q228 : (Jvm.Cond.methodLink "IdealCourt$Divider" (3 : Nat) ({ cls := "java/lang/Object", name := "<init>", desc := "()V" } : Jvm.MethodName)) ∈ lw_all := lw_g (lw_at lw_m1 130 rfl) rfl
theorem q229 : (Jvm.Cond.classLink "IdealCourt$Divider" (9 : Nat) "IdealCourt$Poly") ∈ lw_all := lw_g (lw_at lw_m1 131 rfl) rfl
theorem q231 : (Jvm.Cond.methodLinkNest "IdealCourt$Divider" (11 : Nat) ({ cls := "IdealCourt$Poly", name := "<init>", desc := "()V" } : Jvm.MethodName) "IdealCourt") ∈ lw_tbl := lw_at lw_m1 133 rfl
theorem q236 : (Jvm.Cond.fieldLinkNest "IdealCourt$Divider" (65 : Nat) "IdealCourt$Poly" "many" "I" "IdealCourt") ∈ lw_tbl := lw_at lw_m1 138 rfl
theorem q245 : (Jvm.Cond.classLink "IdealCourt$Divider" (29 : Nat) "IdealCourt$Ratio") ∈ lw_all := lw_g (lw_at lw_m1 147 rfl) rfl
theorem q247 : (Jvm.Cond.methodLink "IdealCourt$Divider" (31 : Nat) ({ cls := "IdealCourt$Ratio", name := "<init>", desc := "(LIdealCourt$Reckoner;)V" } : Jvm.MethodName)) ∈ lw_all := lw_g (lw_at lw_m1 149 rfl) rfl
theorem q280 : (Jvm.Cond.fieldLink "IdealCourt$Divider" (25 : Nat) "IdealCourt$Divider" "terms" "LIdealCourt$Terms;") ∈ lw_all := lw_g (lw_at lw_m1 182 rfl) rfl
theorem q281 : (Jvm.Cond.fieldLink "IdealCourt$Divider" (12 : Nat) "IdealCourt$Divider" "f" "LIdealCourt$Poly;") ∈ lw_all := lw_g (lw_at lw_m1 183 rfl) rfl
theorem q283 : (Jvm.Cond.fieldLink "IdealCourt$Divider" (34 : Nat) "IdealCourt$Divider" "a" "LIdealCourt$Ratio;") ∈ lw_all := lw_g (lw_at lw_m1 185 rfl) rfl
theorem q284 : (Jvm.Cond.fieldLink "IdealCourt$Divider" (38 : Nat) "IdealCourt$Divider" "b" "LIdealCourt$Ratio;") ∈ lw_all := lw_g (lw_at lw_m1 186 rfl) rfl
theorem q285 : (Jvm.Cond.fieldLink "IdealCourt$Divider" (41 : Nat) "IdealCourt$Divider" "c" "LIdealCourt$Ratio;") ∈ lw_all := lw_g (lw_at lw_m1 187 rfl) rfl
theorem q286 : (Jvm.Cond.fieldLink "IdealCourt$Divider" (18 : Nat) "IdealCourt$Divider" "leads" "[I") ∈ lw_all := lw_g (lw_at lw_m1 188 rfl) rfl
theorem q287 : (Jvm.Cond.fieldLink "IdealCourt$Divider" (22 : Nat) "IdealCourt$Divider" "counts" "[I") ∈ lw_all := lw_g (lw_at lw_m1 189 rfl) rfl
theorem q288 : (Jvm.Cond.fieldLink "IdealCourt$Divider" (44 : Nat) "IdealCourt$Divider" "list" "[LIdealCourt$Poly;") ∈ lw_all := lw_g (lw_at lw_m1 190 rfl) rfl
theorem q289 : (Jvm.Cond.fieldLink "IdealCourt$Divider" (52 : Nat) "IdealCourt$Divider" "quotients" "[LIdealCourt$Poly;") ∈ lw_all := lw_g (lw_at lw_m1 191 rfl) rfl
theorem q290 : (Jvm.Cond.fieldLink "IdealCourt$Divider" (55 : Nat) "IdealCourt$Divider" "rest" "LIdealCourt$Poly;") ∈ lw_all := lw_g (lw_at lw_m1 192 rfl) rfl
theorem q291 : (Jvm.Cond.fieldLink "IdealCourt$Divider" (48 : Nat) "IdealCourt$Divider" "order" "LIdealCourt$Ranks;") ∈ lw_all := lw_g (lw_at lw_m1 193 rfl) rfl
theorem q292 : (Jvm.Cond.laysFinal "IdealCourt$Divider" "IdealCourt$Divider" "terms" "LIdealCourt$Terms;") ∈ lw_all := lw_g (lw_at lw_m1 194 rfl) rfl
theorem q293 : (Jvm.Cond.soleField "IdealCourt$Divider" "terms") ∈ lw_all := lw_g (lw_at lw_m1 195 rfl) rfl
theorem q294 : (Jvm.Cond.laysFinal "IdealCourt$Divider" "IdealCourt$Divider" "f" "LIdealCourt$Poly;") ∈ lw_all := lw_g (lw_at lw_m1 196 rfl) rfl
theorem q295 : (Jvm.Cond.soleField "IdealCourt$Divider" "f") ∈ lw_all := lw_g (lw_at lw_m1 197 rfl) rfl
theorem q296 : (Jvm.Cond.laysFinal "IdealCourt$Divider" "IdealCourt$Divider" "a" "LIdealCourt$Ratio;") ∈ lw_all := lw_g (lw_at lw_m1 198 rfl) rfl
theorem q297 : (Jvm.Cond.soleField "IdealCourt$Divider" "a") ∈ lw_all := lw_g (lw_at lw_m1 199 rfl) rfl
theorem q298 : (Jvm.Cond.laysFinal "IdealCourt$Divider" "IdealCourt$Divider" "b" "LIdealCourt$Ratio;") ∈ lw_all := lw_g (lw_at lw_m1 200 rfl) rfl
theorem q299 : (Jvm.Cond.soleField "IdealCourt$Divider" "b") ∈ lw_all := lw_g (lw_at lw_m1 201 rfl) rfl
theorem q300 : (Jvm.Cond.laysFinal "IdealCourt$Divider" "IdealCourt$Divider" "c" "LIdealCourt$Ratio;") ∈ lw_all := lw_g (lw_at lw_m1 202 rfl) rfl
theorem q301 : (Jvm.Cond.soleField "IdealCourt$Divider" "c") ∈ lw_all := lw_g (lw_at lw_m1 203 rfl) rfl
theorem q302 : (Jvm.Cond.laysFinal "IdealCourt$Divider" "IdealCourt$Divider" "leads" "[I") ∈ lw_all := lw_g (lw_at lw_m1 204 rfl) rfl
theorem q303 : (Jvm.Cond.soleField "IdealCourt$Divider" "leads") ∈ lw_all := lw_g (lw_at lw_m1 205 rfl) rfl
theorem q304 : (Jvm.Cond.laysFinal "IdealCourt$Divider" "IdealCourt$Divider" "counts" "[I") ∈ lw_all := lw_g (lw_at lw_m1 206 rfl) rfl
theorem q305 : (Jvm.Cond.soleField "IdealCourt$Divider" "counts") ∈ lw_all := lw_g (lw_at lw_m1 207 rfl) rfl
theorem q306 : (Jvm.Cond.lays "IdealCourt$Divider" "IdealCourt$Divider" "list" "[LIdealCourt$Poly;") ∈ lw_all := lw_g (lw_at lw_m1 208 rfl) rfl
theorem q307 : (Jvm.Cond.soleField "IdealCourt$Divider" "list") ∈ lw_all := lw_g (lw_at lw_m1 209 rfl) rfl
theorem q308 : (Jvm.Cond.lays "IdealCourt$Divider" "IdealCourt$Divider" "quotients" "[LIdealCourt$Poly;") ∈ lw_all := lw_g (lw_at lw_m1 210 rfl) rfl
theorem q309 : (Jvm.Cond.soleField "IdealCourt$Divider" "quotients") ∈ lw_all := lw_g (lw_at lw_m1 211 rfl) rfl
theorem q310 : (Jvm.Cond.lays "IdealCourt$Divider" "IdealCourt$Divider" "rest" "LIdealCourt$Poly;") ∈ lw_all := lw_g (lw_at lw_m1 212 rfl) rfl
theorem q311 : (Jvm.Cond.soleField "IdealCourt$Divider" "rest") ∈ lw_all := lw_g (lw_at lw_m1 213 rfl) rfl
theorem q312 : (Jvm.Cond.lays "IdealCourt$Divider" "IdealCourt$Divider" "order" "LIdealCourt$Ranks;") ∈ lw_all := lw_g (lw_at lw_m1 214 rfl) rfl
theorem q313 : (Jvm.Cond.soleField "IdealCourt$Divider" "order") ∈ lw_all := lw_g (lw_at lw_m1 215 rfl) rfl
theorem q314 : (Jvm.Cond.superclass "IdealCourt$Divider" "java/lang/Object") ∈ lw_all := lw_g (lw_at lw_m1 216 rfl) rfl
theorem q1312 : (Jvm.Cond.instanceMethod ({ cls := "IdealCourt$Divider", name := "run", desc := "([LIdealCourt$Poly;ILIdealCourt$Ranks;[LIdealCourt$Poly;LIdealCourt$Poly;)Z" } : Jvm.MethodName)) ∈ lw_all := lw_g (lw_at lw_m6 14 rfl) rfl
theorem q1313 : (Jvm.Cond.selects "IdealCourt$Divider" ({ cls := "IdealCourt$Divider", name := "run", desc := "([LIdealCourt$Poly;ILIdealCourt$Ranks;[LIdealCourt$Poly;LIdealCourt$Poly;)Z" } : Jvm.MethodName) ({ cls := "IdealCourt$Divider", name := "run", desc := "([LIdealCourt$Poly;ILIdealCourt$Ranks;[LIdealCourt$Poly;LIdealCourt$Poly;)Z" } : Jvm.MethodName)) ∈ lw_all := lw_g (lw_at lw_m6 15 rfl) rfl
theorem q1314 : (Jvm.Cond.code ({ cls := "IdealCourt$Divider", name := "run", desc := "([LIdealCourt$Poly;ILIdealCourt$Ranks;[LIdealCourt$Poly;LIdealCourt$Poly;)Z" } : Jvm.MethodName) prog_5_method_2_code (8 : Nat) (Option.some Jvm.ClassFile.FieldType.boolean)) ∈ lw_all := lw_g (lw_at lw_m6 16 rfl) rfl
theorem q1315 : (Jvm.Cond.methodLink "IdealCourt$Divider" (58 : Nat) ({ cls := "IdealCourt$Poly", name := "clear", desc := "()V" } : Jvm.MethodName)) ∈ lw_all := lw_g (lw_at lw_m6 17 rfl) rfl
theorem q1316 : (Jvm.Cond.methodLink "IdealCourt$Divider" (61 : Nat) ({ cls := "IdealCourt$Poly", name := "lead", desc := "(LIdealCourt$Ranks;)I" } : Jvm.MethodName)) ∈ lw_all := lw_g (lw_at lw_m6 18 rfl) rfl
theorem q1317 : (Jvm.Cond.methodLink "IdealCourt$Divider" (69 : Nat) ({ cls := "IdealCourt$Terms", name := "divides", desc := "(II)Z" } : Jvm.MethodName)) ∈ lw_all := lw_g (lw_at lw_m6 19 rfl) rfl
theorem q1321 : (Jvm.Cond.methodLink "IdealCourt$Divider" (75 : Nat) ({ cls := "IdealCourt$Divider", name := "step", desc := "(II)Z" } : Jvm.MethodName)) ∈ lw_all := lw_g (lw_at lw_m6 23 rfl) rfl
theorem q1322 : (Jvm.Cond.privateMethod ({ cls := "IdealCourt$Divider", name := "step", desc := "(II)Z" } : Jvm.MethodName)) ∈ lw_tbl := lw_at lw_m6 24 rfl
theorem q1323 : (Jvm.Cond.instanceMethod ({ cls := "IdealCourt$Divider", name := "step", desc := "(II)Z" } : Jvm.MethodName)) ∈ lw_all := lw_g (lw_at lw_m6 25 rfl) rfl
theorem q1324 : (Jvm.Cond.code ({ cls := "IdealCourt$Divider", name := "step", desc := "(II)Z" } : Jvm.MethodName) prog_5_method_4_code (6 : Nat) (Option.some Jvm.ClassFile.FieldType.boolean)) ∈ lw_all := lw_g (lw_at lw_m6 26 rfl) rfl
theorem q1325 : (Jvm.Cond.methodLink "IdealCourt$Divider" (98 : Nat) ({ cls := "IdealCourt$Terms", name := "over", desc := "(II)I" } : Jvm.MethodName)) ∈ lw_all := lw_g (lw_at lw_m6 27 rfl) rfl
theorem q1329 : (Jvm.Cond.methodLink "IdealCourt$Divider" (82 : Nat) ({ cls := "IdealCourt$Poly", name := "get", desc := "(ILIdealCourt$Ratio;)V" } : Jvm.MethodName)) ∈ lw_all := lw_g (lw_at lw_m6 31 rfl) rfl
theorem q1330 : (Jvm.Cond.methodLink "IdealCourt$Divider" (102 : Nat) ({ cls := "IdealCourt$Ratio", name := "over", desc := "(LIdealCourt$Ratio;)V" } : Jvm.MethodName)) ∈ lw_all := lw_g (lw_at lw_m6 32 rfl) rfl
theorem q1334 : (Jvm.Cond.methodLink "IdealCourt$Divider" (105 : Nat) ({ cls := "IdealCourt$Ratio", name := "fits", desc := "()Z" } : Jvm.MethodName)) ∈ lw_all := lw_g (lw_at lw_m6 36 rfl) rfl
theorem q1335 : (Jvm.Cond.methodLink "IdealCourt$Divider" (86 : Nat) ({ cls := "IdealCourt$Poly", name := "put", desc := "(ILIdealCourt$Ratio;)Z" } : Jvm.MethodName)) ∈ lw_all := lw_g (lw_at lw_m6 37 rfl) rfl
theorem q1336 : (Jvm.Cond.methodLink "IdealCourt$Divider" (108 : Nat) ({ cls := "IdealCourt$Poly", name := "has", desc := "(I)Z" } : Jvm.MethodName)) ∈ lw_all := lw_g (lw_at lw_m6 38 rfl) rfl
theorem q1337 : (Jvm.Cond.methodLink "IdealCourt$Divider" (111 : Nat) ({ cls := "IdealCourt$Terms", name := "degree", desc := "(I)I" } : Jvm.MethodName)) ∈ lw_all := lw_g (lw_at lw_m6 39 rfl) rfl
theorem q1338 : (Jvm.Cond.methodLink "IdealCourt$Divider" (115 : Nat) ({ cls := "IdealCourt$Terms", name := "times", desc := "(II)I" } : Jvm.MethodName)) ∈ lw_all := lw_g (lw_at lw_m6 40 rfl) rfl
theorem q1339 : (Jvm.Cond.methodLink "IdealCourt$Divider" (118 : Nat) ({ cls := "IdealCourt$Ratio", name := "times", desc := "(LIdealCourt$Ratio;)V" } : Jvm.MethodName)) ∈ lw_all := lw_g (lw_at lw_m6 41 rfl) rfl
theorem q1340 : (Jvm.Cond.methodLink "IdealCourt$Divider" (120 : Nat) ({ cls := "IdealCourt$Ratio", name := "add", desc := "(LIdealCourt$Ratio;I)V" } : Jvm.MethodName)) ∈ lw_all := lw_g (lw_at lw_m6 42 rfl) rfl
theorem q1341 : (Jvm.Cond.methodLink "IdealCourt$Divider" (94 : Nat) ({ cls := "IdealCourt$Poly", name := "isRight", desc := "()Z" } : Jvm.MethodName)) ∈ lw_all := lw_g (lw_at lw_m6 43 rfl) rfl
theorem q1342 : (Jvm.Cond.methodLink "IdealCourt$Divider" (78 : Nat) ({ cls := "IdealCourt$Divider", name := "moves", desc := "(I)Z" } : Jvm.MethodName)) ∈ lw_all := lw_g (lw_at lw_m6 44 rfl) rfl
theorem q1343 : (Jvm.Cond.privateMethod ({ cls := "IdealCourt$Divider", name := "moves", desc := "(I)Z" } : Jvm.MethodName)) ∈ lw_tbl := lw_at lw_m6 45 rfl
theorem q1344 : (Jvm.Cond.instanceMethod ({ cls := "IdealCourt$Divider", name := "moves", desc := "(I)Z" } : Jvm.MethodName)) ∈ lw_all := lw_g (lw_at lw_m6 46 rfl) rfl
theorem q1345 : (Jvm.Cond.code ({ cls := "IdealCourt$Divider", name := "moves", desc := "(I)Z" } : Jvm.MethodName) prog_5_method_3_code (2 : Nat) (Option.some Jvm.ClassFile.FieldType.boolean)) ∈ lw_all := lw_g (lw_at lw_m6 47 rfl) rfl
theorem q1346 : (Jvm.Cond.methodLinkNest "IdealCourt$Divider" (90 : Nat) ({ cls := "IdealCourt$Poly", name := "drop", desc := "(I)V" } : Jvm.MethodName) "IdealCourt") ∈ lw_tbl := lw_at lw_m6 48 rfl
theorem in_X4 : ∀ w ∈ wsX40, w ∈ lw_all := lw_in wsX40 [292, 294, 296, 298, 300, 302, 304, 306, 308, 310, 312] (by decide +kernel) (by decide +kernel)
