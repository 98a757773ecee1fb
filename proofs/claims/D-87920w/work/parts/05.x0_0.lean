/-! IdealCourt -/
set_option maxRecDepth 100000
def RX0 : String := "IdealCourt"
def TX0 : u_T := fun k => match k with
  | 0 => ("IdealCourt", "failures", "[LIdealCourt$Failure;", true)
  | 1 => ("IdealCourt", "found", "[I", true)
  | 2 => ("IdealCourt", "latest", "I", false)
  | 3 => ("IdealCourt", "terms", "LIdealCourt$Terms;", true)
  | 4 => ("IdealCourt", "reckoner", "LIdealCourt$Reckoner;", true)
  | 5 => ("IdealCourt", "divider", "LIdealCourt$Divider;", true)
  | 6 => ("IdealCourt", "square", "LIdealCourt$Square;", true)
  | 7 => ("IdealCourt", "chain", "LIdealCourt$Chain;", true)
  | 8 => ("IdealCourt", "others", "LIdealCourt$Chain;", true)
  | 9 => ("IdealCourt", "ratio", "LIdealCourt$Ratio;", true)
  | 10 => ("IdealCourt", "factor", "LIdealCourt$Ratio;", true)
  | 11 => ("IdealCourt", "sum", "LIdealCourt$Ratio;", true)
  | 12 => ("IdealCourt", "low", "LIdealCourt$Whole;", true)
  | 13 => ("IdealCourt", "high", "LIdealCourt$Whole;", true)
  | 14 => ("IdealCourt", "help", "LIdealCourt$Whole;", true)
  | 15 => ("IdealCourt", "stands", "[LIdealCourt$Stand;", true)
  | 16 => ("IdealCourt", "lex", "LIdealCourt$Lex;", true)
  | 17 => ("IdealCourt", "orders", "[LIdealCourt$Lex;", true)
  | 18 => ("IdealCourt", "made", "LIdealCourt$Poly;", false)
  | 19 => ("IdealCourt", "row", "[LIdealCourt$Poly;", true)
  | 20 => ("IdealCourt", "rowed", "I", false)
  | 21 => ("IdealCourt", "ideal", "[I", true)
  | 22 => ("IdealCourt", "told", "I", false)
  | 23 => ("IdealCourt", "quotients", "[LIdealCourt$Poly;", false)
  | 24 => ("IdealCourt", "nextQuotients", "[LIdealCourt$Poly;", false)
  | 25 => ("IdealCourt", "divided", "I", false)
  | 26 => ("IdealCourt", "rest", "LIdealCourt$Poly;", false)
  | 27 => ("IdealCourt", "nextRest", "LIdealCourt$Poly;", false)
  | 28 => ("IdealCourt", "hasRest", "Z", false)
  | 29 => ("IdealCourt", "minimal", "[LIdealCourt$Poly;", true)
  | 30 => ("IdealCourt", "numbers", "[I", true)
  | 31 => ("IdealCourt", "others0", "[I", true)
  | 32 => ("IdealCourt", "roots", "[LIdealCourt$Real;", true)
  | 33 => ("IdealCourt", "rooted", "I", false)
  | 34 => ("IdealCourt", "walk", "LIdealCourt$Real;", true)
  | 35 => ("IdealCourt", "text", "[B", true)
  | 36 => ("IdealCourt", "written", "I", false)
  | _ => ("IdealCourt", "moving", "LIdealCourt$Real;", true)
def tyX0 : Nat → FieldType := fun k => match k with
  | 0 => .array (.object "IdealCourt$Failure")
  | 1 => .array .int
  | 2 => .int
  | 3 => .object "IdealCourt$Terms"
  | 4 => .object "IdealCourt$Reckoner"
  | 5 => .object "IdealCourt$Divider"
  | 6 => .object "IdealCourt$Square"
  | 7 => .object "IdealCourt$Chain"
  | 8 => .object "IdealCourt$Chain"
  | 9 => .object "IdealCourt$Ratio"
  | 10 => .object "IdealCourt$Ratio"
  | 11 => .object "IdealCourt$Ratio"
  | 12 => .object "IdealCourt$Whole"
  | 13 => .object "IdealCourt$Whole"
  | 14 => .object "IdealCourt$Whole"
  | 15 => .array (.object "IdealCourt$Stand")
  | 16 => .object "IdealCourt$Lex"
  | 17 => .array (.object "IdealCourt$Lex")
  | 18 => .object "IdealCourt$Poly"
  | 19 => .array (.object "IdealCourt$Poly")
  | 20 => .int
  | 21 => .array .int
  | 22 => .int
  | 23 => .array (.object "IdealCourt$Poly")
  | 24 => .array (.object "IdealCourt$Poly")
  | 25 => .int
  | 26 => .object "IdealCourt$Poly"
  | 27 => .object "IdealCourt$Poly"
  | 28 => .boolean
  | 29 => .array (.object "IdealCourt$Poly")
  | 30 => .array .int
  | 31 => .array .int
  | 32 => .array (.object "IdealCourt$Real")
  | 33 => .int
  | 34 => .object "IdealCourt$Real"
  | 35 => .array .byte
  | 36 => .int
  | _ => .object "IdealCourt$Real"
abbrev wsX00 : List Cond := u_ws RX0 TX0 38
set_option maxRecDepth 100000 in
theorem nmX0 : ∀ a, a < 38 → ∀ b, b < 38 → a ≠ b → (TX0 a).2.1 ≠ (TX0 b).2.1 := by decide +kernel
set_option maxRecDepth 100000 in
theorem tyX0_ok : ∀ k, k < 38 → parseFieldDescriptor (TX0 k).2.2.1 = some (tyX0 k) := by decide +kernel
abbrev cX0_init : ByteArray := prog_1_method_1_code
def yX0_init : MethodName := ⟨RX0, "<init>", "()V"⟩
def dkwX0_init_24 : List UInt8 := [162, 0, 22, 42, 180, 0, 156, 27, 187, 0, 154, 89, 183, 0, 164, 83, 132, 1, 1, 167, 255, 234, 177]
abbrev dktX0_init_24 : List UInt8 := dkwX0_init_24 ++ []
def dkwX0_init_23 : List UInt8 := [180, 0, 136, 27, 187, 0, 119, 89, 183, 0, 121, 83, 132, 1, 1, 167, 255, 208, 3, 60, 27, 16, 8]
abbrev dktX0_init_23 : List UInt8 := dkwX0_init_23 ++ dktX0_init_24
def dkwX0_init_22 : List UInt8 := [187, 0, 119, 89, 183, 0, 121, 83, 42, 180, 0, 133, 27, 187, 0, 119, 89, 183, 0, 121, 83, 42]
abbrev dktX0_init_22 : List UInt8 := dkwX0_init_22 ++ dktX0_init_23
def dkwX0_init_21 : List UInt8 := [183, 0, 177, 83, 132, 1, 1, 167, 255, 234, 3, 60, 27, 16, 6, 162, 0, 48, 42, 180, 0, 126, 27]
abbrev dktX0_init_21 : List UInt8 := dkwX0_init_21 ++ dktX0_init_22
def dkwX0_init_20 : List UInt8 := [132, 1, 1, 167, 255, 232, 3, 60, 27, 16, 16, 162, 0, 22, 42, 180, 0, 91, 27, 187, 0, 89, 89]
abbrev dktX0_init_20 : List UInt8 := dkwX0_init_20 ++ dktX0_init_21
def dkwX0_init_19 : List UInt8 := [60, 27, 16, 8, 162, 0, 24, 42, 180, 0, 9, 27, 187, 0, 7, 89, 27, 116, 183, 0, 176, 83]
abbrev dktX0_init_19 : List UInt8 := dkwX0_init_19 ++ dktX0_init_20
def dkwX0_init_18 : List UInt8 := [181, 0, 165, 42, 17, 78, 32, 188, 8, 181, 0, 169, 42, 187, 0, 154, 89, 183, 0, 164, 181, 0, 173, 4]
abbrev dktX0_init_18 : List UInt8 := dkwX0_init_18 ++ dktX0_init_19
def dkwX0_init_17 : List UInt8 := [16, 8, 189, 0, 154, 181, 0, 156, 42, 16, 249, 181, 0, 160, 42, 187, 0, 154, 89, 183, 0, 164]
abbrev dktX0_init_17 : List UInt8 := dkwX0_init_17 ++ dktX0_init_18
def dkwX0_init_16 : List UInt8 := [189, 0, 119, 181, 0, 145, 42, 16, 9, 188, 10, 181, 0, 148, 42, 16, 9, 188, 10, 181, 0, 151, 42]
abbrev dktX0_init_16 : List UInt8 := dkwX0_init_16 ++ dktX0_init_17
def dkwX0_init_15 : List UInt8 := [187, 0, 119, 89, 183, 0, 121, 181, 0, 139, 42, 187, 0, 119, 89, 183, 0, 121, 181, 0, 142, 42, 16, 15]
abbrev dktX0_init_15 : List UInt8 := dkwX0_init_15 ++ dktX0_init_16
def dkwX0_init_14 : List UInt8 := [188, 10, 181, 0, 130, 42, 16, 6, 189, 0, 119, 181, 0, 133, 42, 16, 6, 189, 0, 119, 181, 0, 136, 42]
abbrev dktX0_init_14 : List UInt8 := dkwX0_init_14 ++ dktX0_init_15
def dkwX0_init_13 : List UInt8 := [187, 0, 119, 89, 183, 0, 121, 181, 0, 122, 42, 16, 6, 189, 0, 119, 181, 0, 126, 42, 17, 7, 28]
abbrev dktX0_init_13 : List UInt8 := dkwX0_init_13 ++ dktX0_init_14
def dkwX0_init_12 : List UInt8 := [183, 0, 112, 83, 89, 7, 187, 0, 110, 89, 42, 180, 0, 22, 5, 183, 0, 112, 83, 181, 0, 115, 42]
abbrev dktX0_init_12 : List UInt8 := dkwX0_init_12 ++ dktX0_init_13
def dkwX0_init_11 : List UInt8 := [187, 0, 107, 89, 42, 180, 0, 22, 183, 0, 109, 83, 89, 6, 187, 0, 110, 89, 42, 180, 0, 22, 4]
abbrev dktX0_init_11 : List UInt8 := dkwX0_init_11 ++ dktX0_init_12
def dkwX0_init_10 : List UInt8 := [3, 42, 180, 0, 100, 83, 89, 4, 187, 0, 104, 89, 42, 180, 0, 22, 183, 0, 106, 83, 89, 5]
abbrev dktX0_init_10 : List UInt8 := dkwX0_init_10 ++ dktX0_init_11
def dkwX0_init_9 : List UInt8 := [181, 0, 91, 42, 187, 0, 95, 89, 42, 180, 0, 22, 183, 0, 97, 181, 0, 100, 42, 8, 189, 0, 95, 89]
abbrev dktX0_init_9 : List UInt8 := dkwX0_init_9 ++ dktX0_init_10
def dkwX0_init_8 : List UInt8 := [181, 0, 83, 42, 187, 0, 74, 89, 17, 0, 160, 183, 0, 76, 181, 0, 86, 42, 16, 16, 189, 0, 89]
abbrev dktX0_init_8 : List UInt8 := dkwX0_init_8 ++ dktX0_init_9
def dkwX0_init_7 : List UInt8 := [187, 0, 74, 89, 17, 0, 160, 183, 0, 76, 181, 0, 79, 42, 187, 0, 74, 89, 17, 0, 160, 183, 0, 76]
abbrev dktX0_init_7 : List UInt8 := dkwX0_init_7 ++ dktX0_init_8
def dkwX0_init_6 : List UInt8 := [183, 0, 63, 181, 0, 68, 42, 187, 0, 61, 89, 42, 180, 0, 29, 183, 0, 63, 181, 0, 71, 42]
abbrev dktX0_init_6 : List UInt8 := dkwX0_init_6 ++ dktX0_init_7
def dkwX0_init_5 : List UInt8 := [187, 0, 61, 89, 42, 180, 0, 29, 183, 0, 63, 181, 0, 64, 42, 187, 0, 61, 89, 42, 180, 0, 29]
abbrev dktX0_init_5 : List UInt8 := dkwX0_init_5 ++ dktX0_init_6
def dkwX0_init_4 : List UInt8 := [183, 0, 51, 181, 0, 54, 42, 187, 0, 49, 89, 42, 180, 0, 29, 183, 0, 51, 181, 0, 58, 42]
abbrev dktX0_init_4 : List UInt8 := dkwX0_init_4 ++ dktX0_init_5
def dkwX0_init_3 : List UInt8 := [180, 0, 22, 42, 180, 0, 29, 183, 0, 44, 181, 0, 45, 42, 187, 0, 49, 89, 42, 180, 0, 29]
abbrev dktX0_init_3 : List UInt8 := dkwX0_init_3 ++ dktX0_init_4
def dkwX0_init_2 : List UInt8 := [187, 0, 33, 89, 42, 180, 0, 22, 42, 180, 0, 29, 183, 0, 35, 181, 0, 38, 42, 187, 0, 42, 89, 42]
abbrev dktX0_init_2 : List UInt8 := dkwX0_init_2 ++ dktX0_init_3
def dkwX0_init_1 : List UInt8 := [187, 0, 19, 89, 183, 0, 21, 181, 0, 22, 42, 187, 0, 26, 89, 183, 0, 28, 181, 0, 29, 42]
abbrev dktX0_init_1 : List UInt8 := dkwX0_init_1 ++ dktX0_init_2
def dkwX0_init_0 : List UInt8 := [42, 183, 0, 1, 42, 16, 8, 189, 0, 7, 181, 0, 9, 42, 16, 8, 188, 10, 181, 0, 15, 42]
abbrev dktX0_init_0 : List UInt8 := dkwX0_init_0 ++ dktX0_init_1
theorem dksX0_init_0 : cX0_init.data.toList.drop 0 = dktX0_init_0 := by decide +kernel
theorem dksX0_init_1 : cX0_init.data.toList.drop 22 = dktX0_init_1 := dk_seg dksX0_init_0 22 rfl rfl
theorem dksX0_init_2 : cX0_init.data.toList.drop 44 = dktX0_init_2 := dk_seg dksX0_init_1 22 rfl rfl
theorem dksX0_init_3 : cX0_init.data.toList.drop 68 = dktX0_init_3 := dk_seg dksX0_init_2 24 rfl rfl
theorem dksX0_init_4 : cX0_init.data.toList.drop 90 = dktX0_init_4 := dk_seg dksX0_init_3 22 rfl rfl
theorem dksX0_init_5 : cX0_init.data.toList.drop 112 = dktX0_init_5 := dk_seg dksX0_init_4 22 rfl rfl
theorem dksX0_init_6 : cX0_init.data.toList.drop 135 = dktX0_init_6 := dk_seg dksX0_init_5 23 rfl rfl
theorem dksX0_init_7 : cX0_init.data.toList.drop 157 = dktX0_init_7 := dk_seg dksX0_init_6 22 rfl rfl
theorem dksX0_init_8 : cX0_init.data.toList.drop 181 = dktX0_init_8 := dk_seg dksX0_init_7 24 rfl rfl
theorem dksX0_init_9 : cX0_init.data.toList.drop 204 = dktX0_init_9 := dk_seg dksX0_init_8 23 rfl rfl
theorem dksX0_init_10 : cX0_init.data.toList.drop 228 = dktX0_init_10 := dk_seg dksX0_init_9 24 rfl rfl
theorem dksX0_init_11 : cX0_init.data.toList.drop 250 = dktX0_init_11 := dk_seg dksX0_init_10 22 rfl rfl
theorem dksX0_init_12 : cX0_init.data.toList.drop 273 = dktX0_init_12 := dk_seg dksX0_init_11 23 rfl rfl
theorem dksX0_init_13 : cX0_init.data.toList.drop 296 = dktX0_init_13 := dk_seg dksX0_init_12 23 rfl rfl
theorem dksX0_init_14 : cX0_init.data.toList.drop 319 = dktX0_init_14 := dk_seg dksX0_init_13 23 rfl rfl
theorem dksX0_init_15 : cX0_init.data.toList.drop 343 = dktX0_init_15 := dk_seg dksX0_init_14 24 rfl rfl
theorem dksX0_init_16 : cX0_init.data.toList.drop 367 = dktX0_init_16 := dk_seg dksX0_init_15 24 rfl rfl
theorem dksX0_init_17 : cX0_init.data.toList.drop 390 = dktX0_init_17 := dk_seg dksX0_init_16 23 rfl rfl
theorem dksX0_init_18 : cX0_init.data.toList.drop 412 = dktX0_init_18 := dk_seg dksX0_init_17 22 rfl rfl
theorem dksX0_init_19 : cX0_init.data.toList.drop 436 = dktX0_init_19 := dk_seg dksX0_init_18 24 rfl rfl
theorem dksX0_init_20 : cX0_init.data.toList.drop 458 = dktX0_init_20 := dk_seg dksX0_init_19 22 rfl rfl
theorem dksX0_init_21 : cX0_init.data.toList.drop 481 = dktX0_init_21 := dk_seg dksX0_init_20 23 rfl rfl
theorem dksX0_init_22 : cX0_init.data.toList.drop 504 = dktX0_init_22 := dk_seg dksX0_init_21 23 rfl rfl
theorem dksX0_init_23 : cX0_init.data.toList.drop 526 = dktX0_init_23 := dk_seg dksX0_init_22 22 rfl rfl
theorem dksX0_init_24 : cX0_init.data.toList.drop 549 = dktX0_init_24 := dk_seg dksX0_init_23 23 rfl rfl
theorem dX0_init_0 : decode cX0_init 0 = .ok (.aload_n 0, 1) := dk_42 (dk_at dksX0_init_0 0 rfl rfl)
theorem dX0_init_1 : decode cX0_init 1 = .ok (.invokespecial 1, 3) := dk_183 0 1 (dk_at dksX0_init_0 1 rfl rfl)
theorem dX0_init_4 : decode cX0_init 4 = .ok (.aload_n 0, 1) := dk_42 (dk_at dksX0_init_0 4 rfl rfl)
theorem dX0_init_5 : decode cX0_init 5 = .ok (.bipush 8, 2) := dk_16 8 (dk_at dksX0_init_0 5 rfl rfl)
theorem dX0_init_7 : decode cX0_init 7 = .ok (.anewarray 7, 3) := dk_189 0 7 (dk_at dksX0_init_0 7 rfl rfl)
theorem dX0_init_10 : decode cX0_init 10 = .ok (.putfield 9, 3) := dk_181 0 9 (dk_at dksX0_init_0 10 rfl rfl)
theorem dX0_init_13 : decode cX0_init 13 = .ok (.aload_n 0, 1) := dk_42 (dk_at dksX0_init_0 13 rfl rfl)
theorem dX0_init_14 : decode cX0_init 14 = .ok (.bipush 8, 2) := dk_16 8 (dk_at dksX0_init_0 14 rfl rfl)
theorem dX0_init_16 : decode cX0_init 16 = .ok (.newarray .int, 2) := dk_188_10 (dk_at dksX0_init_0 16 rfl rfl)
theorem dX0_init_18 : decode cX0_init 18 = .ok (.putfield 15, 3) := dk_181 0 15 (dk_at dksX0_init_0 18 rfl rfl)
theorem dX0_init_21 : decode cX0_init 21 = .ok (.aload_n 0, 1) := dk_42 (dk_at dksX0_init_0 21 rfl rfl)
theorem dX0_init_22 : decode cX0_init 22 = .ok (.new 19, 3) := dk_187 0 19 (dk_at dksX0_init_1 0 rfl rfl)
theorem dX0_init_25 : decode cX0_init 25 = .ok (.dup, 1) := dk_89 (dk_at dksX0_init_1 3 rfl rfl)
theorem dX0_init_26 : decode cX0_init 26 = .ok (.invokespecial 21, 3) := dk_183 0 21 (dk_at dksX0_init_1 4 rfl rfl)
theorem dX0_init_29 : decode cX0_init 29 = .ok (.putfield 22, 3) := dk_181 0 22 (dk_at dksX0_init_1 7 rfl rfl)
theorem dX0_init_32 : decode cX0_init 32 = .ok (.aload_n 0, 1) := dk_42 (dk_at dksX0_init_1 10 rfl rfl)
theorem dX0_init_33 : decode cX0_init 33 = .ok (.new 26, 3) := dk_187 0 26 (dk_at dksX0_init_1 11 rfl rfl)
theorem dX0_init_36 : decode cX0_init 36 = .ok (.dup, 1) := dk_89 (dk_at dksX0_init_1 14 rfl rfl)
theorem dX0_init_37 : decode cX0_init 37 = .ok (.invokespecial 28, 3) := dk_183 0 28 (dk_at dksX0_init_1 15 rfl rfl)
theorem dX0_init_40 : decode cX0_init 40 = .ok (.putfield 29, 3) := dk_181 0 29 (dk_at dksX0_init_1 18 rfl rfl)
theorem dX0_init_43 : decode cX0_init 43 = .ok (.aload_n 0, 1) := dk_42 (dk_at dksX0_init_1 21 rfl rfl)
theorem dX0_init_44 : decode cX0_init 44 = .ok (.new 33, 3) := dk_187 0 33 (dk_at dksX0_init_2 0 rfl rfl)
theorem dX0_init_47 : decode cX0_init 47 = .ok (.dup, 1) := dk_89 (dk_at dksX0_init_2 3 rfl rfl)
theorem dX0_init_48 : decode cX0_init 48 = .ok (.aload_n 0, 1) := dk_42 (dk_at dksX0_init_2 4 rfl rfl)
theorem dX0_init_49 : decode cX0_init 49 = .ok (.getfield 22, 3) := dk_180 0 22 (dk_at dksX0_init_2 5 rfl rfl)
theorem dX0_init_52 : decode cX0_init 52 = .ok (.aload_n 0, 1) := dk_42 (dk_at dksX0_init_2 8 rfl rfl)
theorem dX0_init_53 : decode cX0_init 53 = .ok (.getfield 29, 3) := dk_180 0 29 (dk_at dksX0_init_2 9 rfl rfl)
theorem dX0_init_56 : decode cX0_init 56 = .ok (.invokespecial 35, 3) := dk_183 0 35 (dk_at dksX0_init_2 12 rfl rfl)
theorem dX0_init_59 : decode cX0_init 59 = .ok (.putfield 38, 3) := dk_181 0 38 (dk_at dksX0_init_2 15 rfl rfl)
theorem dX0_init_62 : decode cX0_init 62 = .ok (.aload_n 0, 1) := dk_42 (dk_at dksX0_init_2 18 rfl rfl)
theorem dX0_init_63 : decode cX0_init 63 = .ok (.new 42, 3) := dk_187 0 42 (dk_at dksX0_init_2 19 rfl rfl)
theorem dX0_init_66 : decode cX0_init 66 = .ok (.dup, 1) := dk_89 (dk_at dksX0_init_2 22 rfl rfl)
theorem dX0_init_67 : decode cX0_init 67 = .ok (.aload_n 0, 1) := dk_42 (dk_at dksX0_init_2 23 rfl rfl)
theorem dX0_init_68 : decode cX0_init 68 = .ok (.getfield 22, 3) := dk_180 0 22 (dk_at dksX0_init_3 0 rfl rfl)
theorem dX0_init_71 : decode cX0_init 71 = .ok (.aload_n 0, 1) := dk_42 (dk_at dksX0_init_3 3 rfl rfl)
theorem dX0_init_72 : decode cX0_init 72 = .ok (.getfield 29, 3) := dk_180 0 29 (dk_at dksX0_init_3 4 rfl rfl)
theorem dX0_init_75 : decode cX0_init 75 = .ok (.invokespecial 44, 3) := dk_183 0 44 (dk_at dksX0_init_3 7 rfl rfl)
theorem dX0_init_78 : decode cX0_init 78 = .ok (.putfield 45, 3) := dk_181 0 45 (dk_at dksX0_init_3 10 rfl rfl)
theorem dX0_init_81 : decode cX0_init 81 = .ok (.aload_n 0, 1) := dk_42 (dk_at dksX0_init_3 13 rfl rfl)
theorem dX0_init_82 : decode cX0_init 82 = .ok (.new 49, 3) := dk_187 0 49 (dk_at dksX0_init_3 14 rfl rfl)
theorem dX0_init_85 : decode cX0_init 85 = .ok (.dup, 1) := dk_89 (dk_at dksX0_init_3 17 rfl rfl)
theorem dX0_init_86 : decode cX0_init 86 = .ok (.aload_n 0, 1) := dk_42 (dk_at dksX0_init_3 18 rfl rfl)
theorem dX0_init_87 : decode cX0_init 87 = .ok (.getfield 29, 3) := dk_180 0 29 (dk_at dksX0_init_3 19 rfl rfl)
theorem dX0_init_90 : decode cX0_init 90 = .ok (.invokespecial 51, 3) := dk_183 0 51 (dk_at dksX0_init_4 0 rfl rfl)
theorem dX0_init_93 : decode cX0_init 93 = .ok (.putfield 54, 3) := dk_181 0 54 (dk_at dksX0_init_4 3 rfl rfl)
theorem dX0_init_96 : decode cX0_init 96 = .ok (.aload_n 0, 1) := dk_42 (dk_at dksX0_init_4 6 rfl rfl)
theorem dX0_init_97 : decode cX0_init 97 = .ok (.new 49, 3) := dk_187 0 49 (dk_at dksX0_init_4 7 rfl rfl)
theorem dX0_init_100 : decode cX0_init 100 = .ok (.dup, 1) := dk_89 (dk_at dksX0_init_4 10 rfl rfl)
theorem dX0_init_101 : decode cX0_init 101 = .ok (.aload_n 0, 1) := dk_42 (dk_at dksX0_init_4 11 rfl rfl)
theorem dX0_init_102 : decode cX0_init 102 = .ok (.getfield 29, 3) := dk_180 0 29 (dk_at dksX0_init_4 12 rfl rfl)
theorem dX0_init_105 : decode cX0_init 105 = .ok (.invokespecial 51, 3) := dk_183 0 51 (dk_at dksX0_init_4 15 rfl rfl)
theorem dX0_init_108 : decode cX0_init 108 = .ok (.putfield 58, 3) := dk_181 0 58 (dk_at dksX0_init_4 18 rfl rfl)
theorem dX0_init_111 : decode cX0_init 111 = .ok (.aload_n 0, 1) := dk_42 (dk_at dksX0_init_4 21 rfl rfl)
theorem dX0_init_112 : decode cX0_init 112 = .ok (.new 61, 3) := dk_187 0 61 (dk_at dksX0_init_5 0 rfl rfl)
theorem dX0_init_115 : decode cX0_init 115 = .ok (.dup, 1) := dk_89 (dk_at dksX0_init_5 3 rfl rfl)
theorem dX0_init_116 : decode cX0_init 116 = .ok (.aload_n 0, 1) := dk_42 (dk_at dksX0_init_5 4 rfl rfl)
theorem dX0_init_117 : decode cX0_init 117 = .ok (.getfield 29, 3) := dk_180 0 29 (dk_at dksX0_init_5 5 rfl rfl)
theorem dX0_init_120 : decode cX0_init 120 = .ok (.invokespecial 63, 3) := dk_183 0 63 (dk_at dksX0_init_5 8 rfl rfl)
theorem dX0_init_123 : decode cX0_init 123 = .ok (.putfield 64, 3) := dk_181 0 64 (dk_at dksX0_init_5 11 rfl rfl)
theorem dX0_init_126 : decode cX0_init 126 = .ok (.aload_n 0, 1) := dk_42 (dk_at dksX0_init_5 14 rfl rfl)
theorem dX0_init_127 : decode cX0_init 127 = .ok (.new 61, 3) := dk_187 0 61 (dk_at dksX0_init_5 15 rfl rfl)
theorem dX0_init_130 : decode cX0_init 130 = .ok (.dup, 1) := dk_89 (dk_at dksX0_init_5 18 rfl rfl)
theorem dX0_init_131 : decode cX0_init 131 = .ok (.aload_n 0, 1) := dk_42 (dk_at dksX0_init_5 19 rfl rfl)
theorem dX0_init_132 : decode cX0_init 132 = .ok (.getfield 29, 3) := dk_180 0 29 (dk_at dksX0_init_5 20 rfl rfl)
theorem dX0_init_135 : decode cX0_init 135 = .ok (.invokespecial 63, 3) := dk_183 0 63 (dk_at dksX0_init_6 0 rfl rfl)
theorem dX0_init_138 : decode cX0_init 138 = .ok (.putfield 68, 3) := dk_181 0 68 (dk_at dksX0_init_6 3 rfl rfl)
theorem dX0_init_141 : decode cX0_init 141 = .ok (.aload_n 0, 1) := dk_42 (dk_at dksX0_init_6 6 rfl rfl)
theorem dX0_init_142 : decode cX0_init 142 = .ok (.new 61, 3) := dk_187 0 61 (dk_at dksX0_init_6 7 rfl rfl)
theorem dX0_init_145 : decode cX0_init 145 = .ok (.dup, 1) := dk_89 (dk_at dksX0_init_6 10 rfl rfl)
theorem dX0_init_146 : decode cX0_init 146 = .ok (.aload_n 0, 1) := dk_42 (dk_at dksX0_init_6 11 rfl rfl)
theorem dX0_init_147 : decode cX0_init 147 = .ok (.getfield 29, 3) := dk_180 0 29 (dk_at dksX0_init_6 12 rfl rfl)
theorem dX0_init_150 : decode cX0_init 150 = .ok (.invokespecial 63, 3) := dk_183 0 63 (dk_at dksX0_init_6 15 rfl rfl)
theorem dX0_init_153 : decode cX0_init 153 = .ok (.putfield 71, 3) := dk_181 0 71 (dk_at dksX0_init_6 18 rfl rfl)
theorem dX0_init_156 : decode cX0_init 156 = .ok (.aload_n 0, 1) := dk_42 (dk_at dksX0_init_6 21 rfl rfl)
theorem dX0_init_157 : decode cX0_init 157 = .ok (.new 74, 3) := dk_187 0 74 (dk_at dksX0_init_7 0 rfl rfl)
theorem dX0_init_160 : decode cX0_init 160 = .ok (.dup, 1) := dk_89 (dk_at dksX0_init_7 3 rfl rfl)
theorem dX0_init_161 : decode cX0_init 161 = .ok (.sipush 160, 3) := dk_17 0 160 (dk_at dksX0_init_7 4 rfl rfl)
theorem dX0_init_164 : decode cX0_init 164 = .ok (.invokespecial 76, 3) := dk_183 0 76 (dk_at dksX0_init_7 7 rfl rfl)
theorem dX0_init_167 : decode cX0_init 167 = .ok (.putfield 79, 3) := dk_181 0 79 (dk_at dksX0_init_7 10 rfl rfl)
theorem dX0_init_170 : decode cX0_init 170 = .ok (.aload_n 0, 1) := dk_42 (dk_at dksX0_init_7 13 rfl rfl)
theorem dX0_init_171 : decode cX0_init 171 = .ok (.new 74, 3) := dk_187 0 74 (dk_at dksX0_init_7 14 rfl rfl)
theorem dX0_init_174 : decode cX0_init 174 = .ok (.dup, 1) := dk_89 (dk_at dksX0_init_7 17 rfl rfl)
theorem dX0_init_175 : decode cX0_init 175 = .ok (.sipush 160, 3) := dk_17 0 160 (dk_at dksX0_init_7 18 rfl rfl)
theorem dX0_init_178 : decode cX0_init 178 = .ok (.invokespecial 76, 3) := dk_183 0 76 (dk_at dksX0_init_7 21 rfl rfl)
theorem dX0_init_181 : decode cX0_init 181 = .ok (.putfield 83, 3) := dk_181 0 83 (dk_at dksX0_init_8 0 rfl rfl)
theorem dX0_init_184 : decode cX0_init 184 = .ok (.aload_n 0, 1) := dk_42 (dk_at dksX0_init_8 3 rfl rfl)
theorem dX0_init_185 : decode cX0_init 185 = .ok (.new 74, 3) := dk_187 0 74 (dk_at dksX0_init_8 4 rfl rfl)
theorem dX0_init_188 : decode cX0_init 188 = .ok (.dup, 1) := dk_89 (dk_at dksX0_init_8 7 rfl rfl)
theorem dX0_init_189 : decode cX0_init 189 = .ok (.sipush 160, 3) := dk_17 0 160 (dk_at dksX0_init_8 8 rfl rfl)
theorem dX0_init_192 : decode cX0_init 192 = .ok (.invokespecial 76, 3) := dk_183 0 76 (dk_at dksX0_init_8 11 rfl rfl)
theorem dX0_init_195 : decode cX0_init 195 = .ok (.putfield 86, 3) := dk_181 0 86 (dk_at dksX0_init_8 14 rfl rfl)
theorem dX0_init_198 : decode cX0_init 198 = .ok (.aload_n 0, 1) := dk_42 (dk_at dksX0_init_8 17 rfl rfl)
theorem dX0_init_199 : decode cX0_init 199 = .ok (.bipush 16, 2) := dk_16 16 (dk_at dksX0_init_8 18 rfl rfl)
theorem dX0_init_201 : decode cX0_init 201 = .ok (.anewarray 89, 3) := dk_189 0 89 (dk_at dksX0_init_8 20 rfl rfl)
theorem dX0_init_204 : decode cX0_init 204 = .ok (.putfield 91, 3) := dk_181 0 91 (dk_at dksX0_init_9 0 rfl rfl)
theorem dX0_init_207 : decode cX0_init 207 = .ok (.aload_n 0, 1) := dk_42 (dk_at dksX0_init_9 3 rfl rfl)
theorem dX0_init_208 : decode cX0_init 208 = .ok (.new 95, 3) := dk_187 0 95 (dk_at dksX0_init_9 4 rfl rfl)
theorem dX0_init_211 : decode cX0_init 211 = .ok (.dup, 1) := dk_89 (dk_at dksX0_init_9 7 rfl rfl)
theorem dX0_init_212 : decode cX0_init 212 = .ok (.aload_n 0, 1) := dk_42 (dk_at dksX0_init_9 8 rfl rfl)
theorem dX0_init_213 : decode cX0_init 213 = .ok (.getfield 22, 3) := dk_180 0 22 (dk_at dksX0_init_9 9 rfl rfl)
theorem dX0_init_216 : decode cX0_init 216 = .ok (.invokespecial 97, 3) := dk_183 0 97 (dk_at dksX0_init_9 12 rfl rfl)
theorem dX0_init_219 : decode cX0_init 219 = .ok (.putfield 100, 3) := dk_181 0 100 (dk_at dksX0_init_9 15 rfl rfl)
theorem dX0_init_222 : decode cX0_init 222 = .ok (.aload_n 0, 1) := dk_42 (dk_at dksX0_init_9 18 rfl rfl)
theorem dX0_init_223 : decode cX0_init 223 = .ok (.iconst 5, 1) := dk_8 (dk_at dksX0_init_9 19 rfl rfl)
theorem dX0_init_224 : decode cX0_init 224 = .ok (.anewarray 95, 3) := dk_189 0 95 (dk_at dksX0_init_9 20 rfl rfl)
theorem dX0_init_227 : decode cX0_init 227 = .ok (.dup, 1) := dk_89 (dk_at dksX0_init_9 23 rfl rfl)
theorem dX0_init_228 : decode cX0_init 228 = .ok (.iconst 0, 1) := dk_3 (dk_at dksX0_init_10 0 rfl rfl)
theorem dX0_init_229 : decode cX0_init 229 = .ok (.aload_n 0, 1) := dk_42 (dk_at dksX0_init_10 1 rfl rfl)
theorem dX0_init_230 : decode cX0_init 230 = .ok (.getfield 100, 3) := dk_180 0 100 (dk_at dksX0_init_10 2 rfl rfl)
theorem dX0_init_233 : decode cX0_init 233 = .ok (.aastore, 1) := dk_83 (dk_at dksX0_init_10 5 rfl rfl)
theorem dX0_init_234 : decode cX0_init 234 = .ok (.dup, 1) := dk_89 (dk_at dksX0_init_10 6 rfl rfl)
theorem dX0_init_235 : decode cX0_init 235 = .ok (.iconst 1, 1) := dk_4 (dk_at dksX0_init_10 7 rfl rfl)
theorem dX0_init_236 : decode cX0_init 236 = .ok (.new 104, 3) := dk_187 0 104 (dk_at dksX0_init_10 8 rfl rfl)
theorem dX0_init_239 : decode cX0_init 239 = .ok (.dup, 1) := dk_89 (dk_at dksX0_init_10 11 rfl rfl)
theorem dX0_init_240 : decode cX0_init 240 = .ok (.aload_n 0, 1) := dk_42 (dk_at dksX0_init_10 12 rfl rfl)
theorem dX0_init_241 : decode cX0_init 241 = .ok (.getfield 22, 3) := dk_180 0 22 (dk_at dksX0_init_10 13 rfl rfl)
theorem dX0_init_244 : decode cX0_init 244 = .ok (.invokespecial 106, 3) := dk_183 0 106 (dk_at dksX0_init_10 16 rfl rfl)
theorem dX0_init_247 : decode cX0_init 247 = .ok (.aastore, 1) := dk_83 (dk_at dksX0_init_10 19 rfl rfl)
theorem dX0_init_248 : decode cX0_init 248 = .ok (.dup, 1) := dk_89 (dk_at dksX0_init_10 20 rfl rfl)
theorem dX0_init_249 : decode cX0_init 249 = .ok (.iconst 2, 1) := dk_5 (dk_at dksX0_init_10 21 rfl rfl)
theorem dX0_init_250 : decode cX0_init 250 = .ok (.new 107, 3) := dk_187 0 107 (dk_at dksX0_init_11 0 rfl rfl)
theorem dX0_init_253 : decode cX0_init 253 = .ok (.dup, 1) := dk_89 (dk_at dksX0_init_11 3 rfl rfl)
theorem dX0_init_254 : decode cX0_init 254 = .ok (.aload_n 0, 1) := dk_42 (dk_at dksX0_init_11 4 rfl rfl)
theorem dX0_init_255 : decode cX0_init 255 = .ok (.getfield 22, 3) := dk_180 0 22 (dk_at dksX0_init_11 5 rfl rfl)
theorem dX0_init_258 : decode cX0_init 258 = .ok (.invokespecial 109, 3) := dk_183 0 109 (dk_at dksX0_init_11 8 rfl rfl)
theorem dX0_init_261 : decode cX0_init 261 = .ok (.aastore, 1) := dk_83 (dk_at dksX0_init_11 11 rfl rfl)
theorem dX0_init_262 : decode cX0_init 262 = .ok (.dup, 1) := dk_89 (dk_at dksX0_init_11 12 rfl rfl)
theorem dX0_init_263 : decode cX0_init 263 = .ok (.iconst 3, 1) := dk_6 (dk_at dksX0_init_11 13 rfl rfl)
theorem dX0_init_264 : decode cX0_init 264 = .ok (.new 110, 3) := dk_187 0 110 (dk_at dksX0_init_11 14 rfl rfl)
theorem dX0_init_267 : decode cX0_init 267 = .ok (.dup, 1) := dk_89 (dk_at dksX0_init_11 17 rfl rfl)
theorem dX0_init_268 : decode cX0_init 268 = .ok (.aload_n 0, 1) := dk_42 (dk_at dksX0_init_11 18 rfl rfl)
theorem dX0_init_269 : decode cX0_init 269 = .ok (.getfield 22, 3) := dk_180 0 22 (dk_at dksX0_init_11 19 rfl rfl)
theorem dX0_init_272 : decode cX0_init 272 = .ok (.iconst 1, 1) := dk_4 (dk_at dksX0_init_11 22 rfl rfl)
theorem dX0_init_273 : decode cX0_init 273 = .ok (.invokespecial 112, 3) := dk_183 0 112 (dk_at dksX0_init_12 0 rfl rfl)
theorem dX0_init_276 : decode cX0_init 276 = .ok (.aastore, 1) := dk_83 (dk_at dksX0_init_12 3 rfl rfl)
theorem dX0_init_277 : decode cX0_init 277 = .ok (.dup, 1) := dk_89 (dk_at dksX0_init_12 4 rfl rfl)
theorem dX0_init_278 : decode cX0_init 278 = .ok (.iconst 4, 1) := dk_7 (dk_at dksX0_init_12 5 rfl rfl)
theorem dX0_init_279 : decode cX0_init 279 = .ok (.new 110, 3) := dk_187 0 110 (dk_at dksX0_init_12 6 rfl rfl)
theorem dX0_init_282 : decode cX0_init 282 = .ok (.dup, 1) := dk_89 (dk_at dksX0_init_12 9 rfl rfl)
theorem dX0_init_283 : decode cX0_init 283 = .ok (.aload_n 0, 1) := dk_42 (dk_at dksX0_init_12 10 rfl rfl)
theorem dX0_init_284 : decode cX0_init 284 = .ok (.getfield 22, 3) := dk_180 0 22 (dk_at dksX0_init_12 11 rfl rfl)
theorem dX0_init_287 : decode cX0_init 287 = .ok (.iconst 2, 1) := dk_5 (dk_at dksX0_init_12 14 rfl rfl)
theorem dX0_init_288 : decode cX0_init 288 = .ok (.invokespecial 112, 3) := dk_183 0 112 (dk_at dksX0_init_12 15 rfl rfl)
theorem dX0_init_291 : decode cX0_init 291 = .ok (.aastore, 1) := dk_83 (dk_at dksX0_init_12 18 rfl rfl)
theorem dX0_init_292 : decode cX0_init 292 = .ok (.putfield 115, 3) := dk_181 0 115 (dk_at dksX0_init_12 19 rfl rfl)
theorem dX0_init_295 : decode cX0_init 295 = .ok (.aload_n 0, 1) := dk_42 (dk_at dksX0_init_12 22 rfl rfl)
theorem dX0_init_296 : decode cX0_init 296 = .ok (.new 119, 3) := dk_187 0 119 (dk_at dksX0_init_13 0 rfl rfl)
theorem dX0_init_299 : decode cX0_init 299 = .ok (.dup, 1) := dk_89 (dk_at dksX0_init_13 3 rfl rfl)
theorem dX0_init_300 : decode cX0_init 300 = .ok (.invokespecial 121, 3) := dk_183 0 121 (dk_at dksX0_init_13 4 rfl rfl)
theorem dX0_init_303 : decode cX0_init 303 = .ok (.putfield 122, 3) := dk_181 0 122 (dk_at dksX0_init_13 7 rfl rfl)
theorem dX0_init_306 : decode cX0_init 306 = .ok (.aload_n 0, 1) := dk_42 (dk_at dksX0_init_13 10 rfl rfl)
theorem dX0_init_307 : decode cX0_init 307 = .ok (.bipush 6, 2) := dk_16 6 (dk_at dksX0_init_13 11 rfl rfl)
theorem dX0_init_309 : decode cX0_init 309 = .ok (.anewarray 119, 3) := dk_189 0 119 (dk_at dksX0_init_13 13 rfl rfl)
theorem dX0_init_312 : decode cX0_init 312 = .ok (.putfield 126, 3) := dk_181 0 126 (dk_at dksX0_init_13 16 rfl rfl)
theorem dX0_init_315 : decode cX0_init 315 = .ok (.aload_n 0, 1) := dk_42 (dk_at dksX0_init_13 19 rfl rfl)
theorem dX0_init_316 : decode cX0_init 316 = .ok (.sipush 1820, 3) := dk_17 7 28 (dk_at dksX0_init_13 20 rfl rfl)
theorem dX0_init_319 : decode cX0_init 319 = .ok (.newarray .int, 2) := dk_188_10 (dk_at dksX0_init_14 0 rfl rfl)
theorem dX0_init_321 : decode cX0_init 321 = .ok (.putfield 130, 3) := dk_181 0 130 (dk_at dksX0_init_14 2 rfl rfl)
theorem dX0_init_324 : decode cX0_init 324 = .ok (.aload_n 0, 1) := dk_42 (dk_at dksX0_init_14 5 rfl rfl)
theorem dX0_init_325 : decode cX0_init 325 = .ok (.bipush 6, 2) := dk_16 6 (dk_at dksX0_init_14 6 rfl rfl)
theorem dX0_init_327 : decode cX0_init 327 = .ok (.anewarray 119, 3) := dk_189 0 119 (dk_at dksX0_init_14 8 rfl rfl)
theorem dX0_init_330 : decode cX0_init 330 = .ok (.putfield 133, 3) := dk_181 0 133 (dk_at dksX0_init_14 11 rfl rfl)
theorem dX0_init_333 : decode cX0_init 333 = .ok (.aload_n 0, 1) := dk_42 (dk_at dksX0_init_14 14 rfl rfl)
theorem dX0_init_334 : decode cX0_init 334 = .ok (.bipush 6, 2) := dk_16 6 (dk_at dksX0_init_14 15 rfl rfl)
theorem dX0_init_336 : decode cX0_init 336 = .ok (.anewarray 119, 3) := dk_189 0 119 (dk_at dksX0_init_14 17 rfl rfl)
theorem dX0_init_339 : decode cX0_init 339 = .ok (.putfield 136, 3) := dk_181 0 136 (dk_at dksX0_init_14 20 rfl rfl)
theorem dX0_init_342 : decode cX0_init 342 = .ok (.aload_n 0, 1) := dk_42 (dk_at dksX0_init_14 23 rfl rfl)
theorem dX0_init_343 : decode cX0_init 343 = .ok (.new 119, 3) := dk_187 0 119 (dk_at dksX0_init_15 0 rfl rfl)
theorem dX0_init_346 : decode cX0_init 346 = .ok (.dup, 1) := dk_89 (dk_at dksX0_init_15 3 rfl rfl)
theorem dX0_init_347 : decode cX0_init 347 = .ok (.invokespecial 121, 3) := dk_183 0 121 (dk_at dksX0_init_15 4 rfl rfl)
theorem dX0_init_350 : decode cX0_init 350 = .ok (.putfield 139, 3) := dk_181 0 139 (dk_at dksX0_init_15 7 rfl rfl)
theorem dX0_init_353 : decode cX0_init 353 = .ok (.aload_n 0, 1) := dk_42 (dk_at dksX0_init_15 10 rfl rfl)
theorem dX0_init_354 : decode cX0_init 354 = .ok (.new 119, 3) := dk_187 0 119 (dk_at dksX0_init_15 11 rfl rfl)
theorem dX0_init_357 : decode cX0_init 357 = .ok (.dup, 1) := dk_89 (dk_at dksX0_init_15 14 rfl rfl)
theorem dX0_init_358 : decode cX0_init 358 = .ok (.invokespecial 121, 3) := dk_183 0 121 (dk_at dksX0_init_15 15 rfl rfl)
theorem dX0_init_361 : decode cX0_init 361 = .ok (.putfield 142, 3) := dk_181 0 142 (dk_at dksX0_init_15 18 rfl rfl)
theorem dX0_init_364 : decode cX0_init 364 = .ok (.aload_n 0, 1) := dk_42 (dk_at dksX0_init_15 21 rfl rfl)
theorem dX0_init_365 : decode cX0_init 365 = .ok (.bipush 15, 2) := dk_16 15 (dk_at dksX0_init_15 22 rfl rfl)
theorem dX0_init_367 : decode cX0_init 367 = .ok (.anewarray 119, 3) := dk_189 0 119 (dk_at dksX0_init_16 0 rfl rfl)
theorem dX0_init_370 : decode cX0_init 370 = .ok (.putfield 145, 3) := dk_181 0 145 (dk_at dksX0_init_16 3 rfl rfl)
theorem dX0_init_373 : decode cX0_init 373 = .ok (.aload_n 0, 1) := dk_42 (dk_at dksX0_init_16 6 rfl rfl)
theorem dX0_init_374 : decode cX0_init 374 = .ok (.bipush 9, 2) := dk_16 9 (dk_at dksX0_init_16 7 rfl rfl)
theorem dX0_init_376 : decode cX0_init 376 = .ok (.newarray .int, 2) := dk_188_10 (dk_at dksX0_init_16 9 rfl rfl)
theorem dX0_init_378 : decode cX0_init 378 = .ok (.putfield 148, 3) := dk_181 0 148 (dk_at dksX0_init_16 11 rfl rfl)
theorem dX0_init_381 : decode cX0_init 381 = .ok (.aload_n 0, 1) := dk_42 (dk_at dksX0_init_16 14 rfl rfl)
theorem dX0_init_382 : decode cX0_init 382 = .ok (.bipush 9, 2) := dk_16 9 (dk_at dksX0_init_16 15 rfl rfl)
theorem dX0_init_384 : decode cX0_init 384 = .ok (.newarray .int, 2) := dk_188_10 (dk_at dksX0_init_16 17 rfl rfl)
theorem dX0_init_386 : decode cX0_init 386 = .ok (.putfield 151, 3) := dk_181 0 151 (dk_at dksX0_init_16 19 rfl rfl)
theorem dX0_init_389 : decode cX0_init 389 = .ok (.aload_n 0, 1) := dk_42 (dk_at dksX0_init_16 22 rfl rfl)
theorem dX0_init_390 : decode cX0_init 390 = .ok (.bipush 8, 2) := dk_16 8 (dk_at dksX0_init_17 0 rfl rfl)
theorem dX0_init_392 : decode cX0_init 392 = .ok (.anewarray 154, 3) := dk_189 0 154 (dk_at dksX0_init_17 2 rfl rfl)
theorem dX0_init_395 : decode cX0_init 395 = .ok (.putfield 156, 3) := dk_181 0 156 (dk_at dksX0_init_17 5 rfl rfl)
theorem dX0_init_398 : decode cX0_init 398 = .ok (.aload_n 0, 1) := dk_42 (dk_at dksX0_init_17 8 rfl rfl)
theorem dX0_init_399 : decode cX0_init 399 = .ok (.bipush (-7), 2) := dk_16 249 (dk_at dksX0_init_17 9 rfl rfl)
theorem dX0_init_401 : decode cX0_init 401 = .ok (.putfield 160, 3) := dk_181 0 160 (dk_at dksX0_init_17 11 rfl rfl)
theorem dX0_init_404 : decode cX0_init 404 = .ok (.aload_n 0, 1) := dk_42 (dk_at dksX0_init_17 14 rfl rfl)
theorem dX0_init_405 : decode cX0_init 405 = .ok (.new 154, 3) := dk_187 0 154 (dk_at dksX0_init_17 15 rfl rfl)
theorem dX0_init_408 : decode cX0_init 408 = .ok (.dup, 1) := dk_89 (dk_at dksX0_init_17 18 rfl rfl)
theorem dX0_init_409 : decode cX0_init 409 = .ok (.invokespecial 164, 3) := dk_183 0 164 (dk_at dksX0_init_17 19 rfl rfl)
theorem dX0_init_412 : decode cX0_init 412 = .ok (.putfield 165, 3) := dk_181 0 165 (dk_at dksX0_init_18 0 rfl rfl)
theorem dX0_init_415 : decode cX0_init 415 = .ok (.aload_n 0, 1) := dk_42 (dk_at dksX0_init_18 3 rfl rfl)
theorem dX0_init_416 : decode cX0_init 416 = .ok (.sipush 20000, 3) := dk_17 78 32 (dk_at dksX0_init_18 4 rfl rfl)
theorem dX0_init_419 : decode cX0_init 419 = .ok (.newarray .byte, 2) := dk_188_8 (dk_at dksX0_init_18 7 rfl rfl)
theorem dX0_init_421 : decode cX0_init 421 = .ok (.putfield 169, 3) := dk_181 0 169 (dk_at dksX0_init_18 9 rfl rfl)
theorem dX0_init_424 : decode cX0_init 424 = .ok (.aload_n 0, 1) := dk_42 (dk_at dksX0_init_18 12 rfl rfl)
theorem dX0_init_425 : decode cX0_init 425 = .ok (.new 154, 3) := dk_187 0 154 (dk_at dksX0_init_18 13 rfl rfl)
theorem dX0_init_428 : decode cX0_init 428 = .ok (.dup, 1) := dk_89 (dk_at dksX0_init_18 16 rfl rfl)
theorem dX0_init_429 : decode cX0_init 429 = .ok (.invokespecial 164, 3) := dk_183 0 164 (dk_at dksX0_init_18 17 rfl rfl)
theorem dX0_init_432 : decode cX0_init 432 = .ok (.putfield 173, 3) := dk_181 0 173 (dk_at dksX0_init_18 20 rfl rfl)
theorem dX0_init_435 : decode cX0_init 435 = .ok (.iconst 1, 1) := dk_4 (dk_at dksX0_init_18 23 rfl rfl)
theorem dX0_init_436 : decode cX0_init 436 = .ok (.istore_n 1, 1) := dk_60 (dk_at dksX0_init_19 0 rfl rfl)
theorem dX0_init_437 : decode cX0_init 437 = .ok (.iload_n 1, 1) := dk_27 (dk_at dksX0_init_19 1 rfl rfl)
theorem dX0_init_438 : decode cX0_init 438 = .ok (.bipush 8, 2) := dk_16 8 (dk_at dksX0_init_19 2 rfl rfl)
theorem dX0_init_440 : decode cX0_init 440 = .ok (.if_icmp .ge 24, 3) := dk_162 0 24 (dk_at dksX0_init_19 4 rfl rfl)
theorem dX0_init_443 : decode cX0_init 443 = .ok (.aload_n 0, 1) := dk_42 (dk_at dksX0_init_19 7 rfl rfl)
theorem dX0_init_444 : decode cX0_init 444 = .ok (.getfield 9, 3) := dk_180 0 9 (dk_at dksX0_init_19 8 rfl rfl)
theorem dX0_init_447 : decode cX0_init 447 = .ok (.iload_n 1, 1) := dk_27 (dk_at dksX0_init_19 11 rfl rfl)
theorem dX0_init_448 : decode cX0_init 448 = .ok (.new 7, 3) := dk_187 0 7 (dk_at dksX0_init_19 12 rfl rfl)
theorem dX0_init_451 : decode cX0_init 451 = .ok (.dup, 1) := dk_89 (dk_at dksX0_init_19 15 rfl rfl)
theorem dX0_init_452 : decode cX0_init 452 = .ok (.iload_n 1, 1) := dk_27 (dk_at dksX0_init_19 16 rfl rfl)
theorem dX0_init_453 : decode cX0_init 453 = .ok (.ineg, 1) := dk_116 (dk_at dksX0_init_19 17 rfl rfl)
theorem dX0_init_454 : decode cX0_init 454 = .ok (.invokespecial 176, 3) := dk_183 0 176 (dk_at dksX0_init_19 18 rfl rfl)
theorem dX0_init_457 : decode cX0_init 457 = .ok (.aastore, 1) := dk_83 (dk_at dksX0_init_19 21 rfl rfl)
theorem dX0_init_458 : decode cX0_init 458 = .ok (.iinc 1 1, 3) := dk_132 1 1 (dk_at dksX0_init_20 0 rfl rfl)
theorem dX0_init_461 : decode cX0_init 461 = .ok (.goto (-24), 3) := dk_167 255 232 (dk_at dksX0_init_20 3 rfl rfl)
theorem dX0_init_464 : decode cX0_init 464 = .ok (.iconst 0, 1) := dk_3 (dk_at dksX0_init_20 6 rfl rfl)
theorem dX0_init_465 : decode cX0_init 465 = .ok (.istore_n 1, 1) := dk_60 (dk_at dksX0_init_20 7 rfl rfl)
theorem dX0_init_466 : decode cX0_init 466 = .ok (.iload_n 1, 1) := dk_27 (dk_at dksX0_init_20 8 rfl rfl)
theorem dX0_init_467 : decode cX0_init 467 = .ok (.bipush 16, 2) := dk_16 16 (dk_at dksX0_init_20 9 rfl rfl)
theorem dX0_init_469 : decode cX0_init 469 = .ok (.if_icmp .ge 22, 3) := dk_162 0 22 (dk_at dksX0_init_20 11 rfl rfl)
theorem dX0_init_472 : decode cX0_init 472 = .ok (.aload_n 0, 1) := dk_42 (dk_at dksX0_init_20 14 rfl rfl)
theorem dX0_init_473 : decode cX0_init 473 = .ok (.getfield 91, 3) := dk_180 0 91 (dk_at dksX0_init_20 15 rfl rfl)
theorem dX0_init_476 : decode cX0_init 476 = .ok (.iload_n 1, 1) := dk_27 (dk_at dksX0_init_20 18 rfl rfl)
theorem dX0_init_477 : decode cX0_init 477 = .ok (.new 89, 3) := dk_187 0 89 (dk_at dksX0_init_20 19 rfl rfl)
theorem dX0_init_480 : decode cX0_init 480 = .ok (.dup, 1) := dk_89 (dk_at dksX0_init_20 22 rfl rfl)
theorem dX0_init_481 : decode cX0_init 481 = .ok (.invokespecial 177, 3) := dk_183 0 177 (dk_at dksX0_init_21 0 rfl rfl)
theorem dX0_init_484 : decode cX0_init 484 = .ok (.aastore, 1) := dk_83 (dk_at dksX0_init_21 3 rfl rfl)
theorem dX0_init_485 : decode cX0_init 485 = .ok (.iinc 1 1, 3) := dk_132 1 1 (dk_at dksX0_init_21 4 rfl rfl)
theorem dX0_init_488 : decode cX0_init 488 = .ok (.goto (-22), 3) := dk_167 255 234 (dk_at dksX0_init_21 7 rfl rfl)
theorem dX0_init_491 : decode cX0_init 491 = .ok (.iconst 0, 1) := dk_3 (dk_at dksX0_init_21 10 rfl rfl)
theorem dX0_init_492 : decode cX0_init 492 = .ok (.istore_n 1, 1) := dk_60 (dk_at dksX0_init_21 11 rfl rfl)
theorem dX0_init_493 : decode cX0_init 493 = .ok (.iload_n 1, 1) := dk_27 (dk_at dksX0_init_21 12 rfl rfl)
theorem dX0_init_494 : decode cX0_init 494 = .ok (.bipush 6, 2) := dk_16 6 (dk_at dksX0_init_21 13 rfl rfl)
theorem dX0_init_496 : decode cX0_init 496 = .ok (.if_icmp .ge 48, 3) := dk_162 0 48 (dk_at dksX0_init_21 15 rfl rfl)
theorem dX0_init_499 : decode cX0_init 499 = .ok (.aload_n 0, 1) := dk_42 (dk_at dksX0_init_21 18 rfl rfl)
theorem dX0_init_500 : decode cX0_init 500 = .ok (.getfield 126, 3) := dk_180 0 126 (dk_at dksX0_init_21 19 rfl rfl)
theorem dX0_init_503 : decode cX0_init 503 = .ok (.iload_n 1, 1) := dk_27 (dk_at dksX0_init_21 22 rfl rfl)
theorem dX0_init_504 : decode cX0_init 504 = .ok (.new 119, 3) := dk_187 0 119 (dk_at dksX0_init_22 0 rfl rfl)
theorem dX0_init_507 : decode cX0_init 507 = .ok (.dup, 1) := dk_89 (dk_at dksX0_init_22 3 rfl rfl)
theorem dX0_init_508 : decode cX0_init 508 = .ok (.invokespecial 121, 3) := dk_183 0 121 (dk_at dksX0_init_22 4 rfl rfl)
theorem dX0_init_511 : decode cX0_init 511 = .ok (.aastore, 1) := dk_83 (dk_at dksX0_init_22 7 rfl rfl)
theorem dX0_init_512 : decode cX0_init 512 = .ok (.aload_n 0, 1) := dk_42 (dk_at dksX0_init_22 8 rfl rfl)
theorem dX0_init_513 : decode cX0_init 513 = .ok (.getfield 133, 3) := dk_180 0 133 (dk_at dksX0_init_22 9 rfl rfl)
theorem dX0_init_516 : decode cX0_init 516 = .ok (.iload_n 1, 1) := dk_27 (dk_at dksX0_init_22 12 rfl rfl)
theorem dX0_init_517 : decode cX0_init 517 = .ok (.new 119, 3) := dk_187 0 119 (dk_at dksX0_init_22 13 rfl rfl)
theorem dX0_init_520 : decode cX0_init 520 = .ok (.dup, 1) := dk_89 (dk_at dksX0_init_22 16 rfl rfl)
theorem dX0_init_521 : decode cX0_init 521 = .ok (.invokespecial 121, 3) := dk_183 0 121 (dk_at dksX0_init_22 17 rfl rfl)
theorem dX0_init_524 : decode cX0_init 524 = .ok (.aastore, 1) := dk_83 (dk_at dksX0_init_22 20 rfl rfl)
theorem dX0_init_525 : decode cX0_init 525 = .ok (.aload_n 0, 1) := dk_42 (dk_at dksX0_init_22 21 rfl rfl)
theorem dX0_init_526 : decode cX0_init 526 = .ok (.getfield 136, 3) := dk_180 0 136 (dk_at dksX0_init_23 0 rfl rfl)
theorem dX0_init_529 : decode cX0_init 529 = .ok (.iload_n 1, 1) := dk_27 (dk_at dksX0_init_23 3 rfl rfl)
theorem dX0_init_530 : decode cX0_init 530 = .ok (.new 119, 3) := dk_187 0 119 (dk_at dksX0_init_23 4 rfl rfl)
theorem dX0_init_533 : decode cX0_init 533 = .ok (.dup, 1) := dk_89 (dk_at dksX0_init_23 7 rfl rfl)
theorem dX0_init_534 : decode cX0_init 534 = .ok (.invokespecial 121, 3) := dk_183 0 121 (dk_at dksX0_init_23 8 rfl rfl)
theorem dX0_init_537 : decode cX0_init 537 = .ok (.aastore, 1) := dk_83 (dk_at dksX0_init_23 11 rfl rfl)
theorem dX0_init_538 : decode cX0_init 538 = .ok (.iinc 1 1, 3) := dk_132 1 1 (dk_at dksX0_init_23 12 rfl rfl)
theorem dX0_init_541 : decode cX0_init 541 = .ok (.goto (-48), 3) := dk_167 255 208 (dk_at dksX0_init_23 15 rfl rfl)
theorem dX0_init_544 : decode cX0_init 544 = .ok (.iconst 0, 1) := dk_3 (dk_at dksX0_init_23 18 rfl rfl)
theorem dX0_init_545 : decode cX0_init 545 = .ok (.istore_n 1, 1) := dk_60 (dk_at dksX0_init_23 19 rfl rfl)
theorem dX0_init_546 : decode cX0_init 546 = .ok (.iload_n 1, 1) := dk_27 (dk_at dksX0_init_23 20 rfl rfl)
theorem dX0_init_547 : decode cX0_init 547 = .ok (.bipush 8, 2) := dk_16 8 (dk_at dksX0_init_23 21 rfl rfl)
theorem dX0_init_549 : decode cX0_init 549 = .ok (.if_icmp .ge 22, 3) := dk_162 0 22 (dk_at dksX0_init_24 0 rfl rfl)
theorem dX0_init_552 : decode cX0_init 552 = .ok (.aload_n 0, 1) := dk_42 (dk_at dksX0_init_24 3 rfl rfl)
theorem dX0_init_553 : decode cX0_init 553 = .ok (.getfield 156, 3) := dk_180 0 156 (dk_at dksX0_init_24 4 rfl rfl)
theorem dX0_init_556 : decode cX0_init 556 = .ok (.iload_n 1, 1) := dk_27 (dk_at dksX0_init_24 7 rfl rfl)
theorem dX0_init_557 : decode cX0_init 557 = .ok (.new 154, 3) := dk_187 0 154 (dk_at dksX0_init_24 8 rfl rfl)
theorem dX0_init_560 : decode cX0_init 560 = .ok (.dup, 1) := dk_89 (dk_at dksX0_init_24 11 rfl rfl)
theorem dX0_init_561 : decode cX0_init 561 = .ok (.invokespecial 164, 3) := dk_183 0 164 (dk_at dksX0_init_24 12 rfl rfl)
theorem dX0_init_564 : decode cX0_init 564 = .ok (.aastore, 1) := dk_83 (dk_at dksX0_init_24 15 rfl rfl)
theorem dX0_init_565 : decode cX0_init 565 = .ok (.iinc 1 1, 3) := dk_132 1 1 (dk_at dksX0_init_24 16 rfl rfl)
theorem dX0_init_568 : decode cX0_init 568 = .ok (.goto (-22), 3) := dk_167 255 234 (dk_at dksX0_init_24 19 rfl rfl)
theorem dX0_init_571 : decode cX0_init 571 = .ok (.return_, 1) := dk_177 (dk_at dksX0_init_24 22 rfl rfl)
abbrev cX0_order : ByteArray := prog_1_method_13_code
def yX0_order : MethodName := ⟨RX0, "order", "(III)I"⟩
def dkwX0_order_3 : List UInt8 := [182, 0, 233, 172]
abbrev dktX0_order_3 : List UInt8 := dkwX0_order_3 ++ []
def dkwX0_order_2 : List UInt8 := [28, 6, 162, 0, 7, 28, 167, 0, 6, 5, 29, 96, 50, 181, 0, 194, 3, 172, 58, 4, 42, 25, 4]
abbrev dktX0_order_2 : List UInt8 := dkwX0_order_2 ++ dktX0_order_3
def dkwX0_order_1 : List UInt8 := [159, 0, 8, 29, 5, 160, 0, 7, 4, 167, 0, 4, 3, 16, 250, 182, 0, 229, 25, 4, 42, 180, 0, 115]
abbrev dktX0_order_1 : List UInt8 := dkwX0_order_1 ++ dktX0_order_2
def dkwX0_order_0 : List UInt8 := [42, 27, 182, 0, 190, 58, 4, 42, 28, 155, 0, 27, 28, 6, 163, 0, 22, 28, 6, 161, 0, 13, 29, 4]
abbrev dktX0_order_0 : List UInt8 := dkwX0_order_0 ++ dktX0_order_1
theorem dksX0_order_0 : cX0_order.data.toList.drop 0 = dktX0_order_0 := by decide +kernel
theorem dksX0_order_1 : cX0_order.data.toList.drop 24 = dktX0_order_1 := dk_seg dksX0_order_0 24 rfl rfl
theorem dksX0_order_2 : cX0_order.data.toList.drop 48 = dktX0_order_2 := dk_seg dksX0_order_1 24 rfl rfl
theorem dksX0_order_3 : cX0_order.data.toList.drop 71 = dktX0_order_3 := dk_seg dksX0_order_2 23 rfl rfl
theorem dX0_order_0 : decode cX0_order 0 = .ok (.aload_n 0, 1) := dk_42 (dk_at dksX0_order_0 0 rfl rfl)
theorem dX0_order_1 : decode cX0_order 1 = .ok (.iload_n 1, 1) := dk_27 (dk_at dksX0_order_0 1 rfl rfl)
theorem dX0_order_2 : decode cX0_order 2 = .ok (.invokevirtual 190, 3) := dk_182 0 190 (dk_at dksX0_order_0 2 rfl rfl)
theorem dX0_order_5 : decode cX0_order 5 = .ok (.astore 4, 2) := dk_58 4 (dk_at dksX0_order_0 5 rfl rfl)
theorem dX0_order_7 : decode cX0_order 7 = .ok (.aload_n 0, 1) := dk_42 (dk_at dksX0_order_0 7 rfl rfl)
theorem dX0_order_8 : decode cX0_order 8 = .ok (.iload_n 2, 1) := dk_28 (dk_at dksX0_order_0 8 rfl rfl)
theorem dX0_order_9 : decode cX0_order 9 = .ok (.ifCond .lt 27, 3) := dk_155 0 27 (dk_at dksX0_order_0 9 rfl rfl)
theorem dX0_order_12 : decode cX0_order 12 = .ok (.iload_n 2, 1) := dk_28 (dk_at dksX0_order_0 12 rfl rfl)
theorem dX0_order_13 : decode cX0_order 13 = .ok (.iconst 3, 1) := dk_6 (dk_at dksX0_order_0 13 rfl rfl)
theorem dX0_order_14 : decode cX0_order 14 = .ok (.if_icmp .gt 22, 3) := dk_163 0 22 (dk_at dksX0_order_0 14 rfl rfl)
theorem dX0_order_17 : decode cX0_order 17 = .ok (.iload_n 2, 1) := dk_28 (dk_at dksX0_order_0 17 rfl rfl)
theorem dX0_order_18 : decode cX0_order 18 = .ok (.iconst 3, 1) := dk_6 (dk_at dksX0_order_0 18 rfl rfl)
theorem dX0_order_19 : decode cX0_order 19 = .ok (.if_icmp .lt 13, 3) := dk_161 0 13 (dk_at dksX0_order_0 19 rfl rfl)
theorem dX0_order_22 : decode cX0_order 22 = .ok (.iload_n 3, 1) := dk_29 (dk_at dksX0_order_0 22 rfl rfl)
theorem dX0_order_23 : decode cX0_order 23 = .ok (.iconst 1, 1) := dk_4 (dk_at dksX0_order_0 23 rfl rfl)
theorem dX0_order_24 : decode cX0_order 24 = .ok (.if_icmp .eq 8, 3) := dk_159 0 8 (dk_at dksX0_order_1 0 rfl rfl)
theorem dX0_order_27 : decode cX0_order 27 = .ok (.iload_n 3, 1) := dk_29 (dk_at dksX0_order_1 3 rfl rfl)
theorem dX0_order_28 : decode cX0_order 28 = .ok (.iconst 2, 1) := dk_5 (dk_at dksX0_order_1 4 rfl rfl)
theorem dX0_order_29 : decode cX0_order 29 = .ok (.if_icmp .ne 7, 3) := dk_160 0 7 (dk_at dksX0_order_1 5 rfl rfl)
theorem dX0_order_32 : decode cX0_order 32 = .ok (.iconst 1, 1) := dk_4 (dk_at dksX0_order_1 8 rfl rfl)
theorem dX0_order_33 : decode cX0_order 33 = .ok (.goto 4, 3) := dk_167 0 4 (dk_at dksX0_order_1 9 rfl rfl)
theorem dX0_order_36 : decode cX0_order 36 = .ok (.iconst 0, 1) := dk_3 (dk_at dksX0_order_1 12 rfl rfl)
theorem dX0_order_37 : decode cX0_order 37 = .ok (.bipush (-6), 2) := dk_16 250 (dk_at dksX0_order_1 13 rfl rfl)
theorem dX0_order_39 : decode cX0_order 39 = .ok (.invokevirtual 229, 3) := dk_182 0 229 (dk_at dksX0_order_1 15 rfl rfl)
theorem dX0_order_42 : decode cX0_order 42 = .ok (.aload 4, 2) := dk_25 4 (dk_at dksX0_order_1 18 rfl rfl)
theorem dX0_order_44 : decode cX0_order 44 = .ok (.aload_n 0, 1) := dk_42 (dk_at dksX0_order_1 20 rfl rfl)
theorem dX0_order_45 : decode cX0_order 45 = .ok (.getfield 115, 3) := dk_180 0 115 (dk_at dksX0_order_1 21 rfl rfl)
theorem dX0_order_48 : decode cX0_order 48 = .ok (.iload_n 2, 1) := dk_28 (dk_at dksX0_order_2 0 rfl rfl)
theorem dX0_order_49 : decode cX0_order 49 = .ok (.iconst 3, 1) := dk_6 (dk_at dksX0_order_2 1 rfl rfl)
theorem dX0_order_50 : decode cX0_order 50 = .ok (.if_icmp .ge 7, 3) := dk_162 0 7 (dk_at dksX0_order_2 2 rfl rfl)
theorem dX0_order_53 : decode cX0_order 53 = .ok (.iload_n 2, 1) := dk_28 (dk_at dksX0_order_2 5 rfl rfl)
theorem dX0_order_54 : decode cX0_order 54 = .ok (.goto 6, 3) := dk_167 0 6 (dk_at dksX0_order_2 6 rfl rfl)
theorem dX0_order_57 : decode cX0_order 57 = .ok (.iconst 2, 1) := dk_5 (dk_at dksX0_order_2 9 rfl rfl)
theorem dX0_order_58 : decode cX0_order 58 = .ok (.iload_n 3, 1) := dk_29 (dk_at dksX0_order_2 10 rfl rfl)
theorem dX0_order_59 : decode cX0_order 59 = .ok (.iadd, 1) := dk_96 (dk_at dksX0_order_2 11 rfl rfl)
theorem dX0_order_60 : decode cX0_order 60 = .ok (.aaload, 1) := dk_50 (dk_at dksX0_order_2 12 rfl rfl)
theorem dX0_order_61 : decode cX0_order 61 = .ok (.putfield 194, 3) := dk_181 0 194 (dk_at dksX0_order_2 13 rfl rfl)
theorem dX0_order_64 : decode cX0_order 64 = .ok (.iconst 0, 1) := dk_3 (dk_at dksX0_order_2 16 rfl rfl)
theorem dX0_order_65 : decode cX0_order 65 = .ok (.ireturn, 1) := dk_172 (dk_at dksX0_order_2 17 rfl rfl)
theorem dX0_order_66 : decode cX0_order 66 = .ok (.astore 4, 2) := dk_58 4 (dk_at dksX0_order_2 18 rfl rfl)
theorem dX0_order_68 : decode cX0_order 68 = .ok (.aload_n 0, 1) := dk_42 (dk_at dksX0_order_2 20 rfl rfl)
theorem dX0_order_69 : decode cX0_order 69 = .ok (.aload 4, 2) := dk_25 4 (dk_at dksX0_order_2 21 rfl rfl)
theorem dX0_order_71 : decode cX0_order 71 = .ok (.invokevirtual 233, 3) := dk_182 0 233 (dk_at dksX0_order_3 0 rfl rfl)
theorem dX0_order_74 : decode cX0_order 74 = .ok (.ireturn, 1) := dk_172 (dk_at dksX0_order_3 3 rfl rfl)
abbrev cX0_stand : ByteArray := prog_1_method_5_code
def yX0_stand : MethodName := ⟨RX0, "stand", "(I)LIdealCourt$Stand;"⟩
def dkwX0_stand_0 : List UInt8 := [42, 180, 0, 91, 27, 50, 176, 77, 42, 2, 182, 0, 178, 191]
abbrev dktX0_stand_0 : List UInt8 := dkwX0_stand_0 ++ []
theorem dksX0_stand_0 : cX0_stand.data.toList.drop 0 = dktX0_stand_0 := by decide +kernel
theorem dX0_stand_0 : decode cX0_stand 0 = .ok (.aload_n 0, 1) := dk_42 (dk_at dksX0_stand_0 0 rfl rfl)
theorem dX0_stand_1 : decode cX0_stand 1 = .ok (.getfield 91, 3) := dk_180 0 91 (dk_at dksX0_stand_0 1 rfl rfl)
theorem dX0_stand_4 : decode cX0_stand 4 = .ok (.iload_n 1, 1) := dk_27 (dk_at dksX0_stand_0 4 rfl rfl)
theorem dX0_stand_5 : decode cX0_stand 5 = .ok (.aaload, 1) := dk_50 (dk_at dksX0_stand_0 5 rfl rfl)
theorem dX0_stand_6 : decode cX0_stand 6 = .ok (.areturn, 1) := dk_176 (dk_at dksX0_stand_0 6 rfl rfl)
theorem dX0_stand_7 : decode cX0_stand 7 = .ok (.astore_n 2, 1) := dk_77 (dk_at dksX0_stand_0 7 rfl rfl)
theorem dX0_stand_8 : decode cX0_stand 8 = .ok (.aload_n 0, 1) := dk_42 (dk_at dksX0_stand_0 8 rfl rfl)
theorem dX0_stand_9 : decode cX0_stand 9 = .ok (.iconst (-1), 1) := dk_2 (dk_at dksX0_stand_0 9 rfl rfl)
theorem dX0_stand_10 : decode cX0_stand 10 = .ok (.invokevirtual 178, 3) := dk_182 0 178 (dk_at dksX0_stand_0 10 rfl rfl)
theorem dX0_stand_13 : decode cX0_stand 13 = .ok (.athrow, 1) := dk_191 (dk_at dksX0_stand_0 13 rfl rfl)
abbrev cX0_failure : ByteArray := prog_1_method_2_code
def yX0_failure : MethodName := ⟨RX0, "failure", "(I)LIdealCourt$Failure;"⟩
def dkwX0_failure_0 : List UInt8 := [42, 180, 0, 9, 27, 116, 50, 176]
abbrev dktX0_failure_0 : List UInt8 := dkwX0_failure_0 ++ []
theorem dksX0_failure_0 : cX0_failure.data.toList.drop 0 = dktX0_failure_0 := by decide +kernel
theorem dX0_failure_0 : decode cX0_failure 0 = .ok (.aload_n 0, 1) := dk_42 (dk_at dksX0_failure_0 0 rfl rfl)
theorem dX0_failure_1 : decode cX0_failure 1 = .ok (.getfield 9, 3) := dk_180 0 9 (dk_at dksX0_failure_0 1 rfl rfl)
theorem dX0_failure_4 : decode cX0_failure 4 = .ok (.iload_n 1, 1) := dk_27 (dk_at dksX0_failure_0 4 rfl rfl)
theorem dX0_failure_5 : decode cX0_failure 5 = .ok (.ineg, 1) := dk_116 (dk_at dksX0_failure_0 5 rfl rfl)
theorem dX0_failure_6 : decode cX0_failure 6 = .ok (.aaload, 1) := dk_50 (dk_at dksX0_failure_0 6 rfl rfl)
theorem dX0_failure_7 : decode cX0_failure 7 = .ok (.areturn, 1) := dk_176 (dk_at dksX0_failure_0 7 rfl rfl)
abbrev cX0_need : ByteArray := prog_1_method_3_code
def yX0_need : MethodName := ⟨RX0, "need", "(ZI)V"⟩
def dkwX0_need_0 : List UInt8 := [27, 154, 0, 9, 42, 28, 182, 0, 178, 191, 177]
abbrev dktX0_need_0 : List UInt8 := dkwX0_need_0 ++ []
theorem dksX0_need_0 : cX0_need.data.toList.drop 0 = dktX0_need_0 := by decide +kernel
theorem dX0_need_0 : decode cX0_need 0 = .ok (.iload_n 1, 1) := dk_27 (dk_at dksX0_need_0 0 rfl rfl)
theorem dX0_need_1 : decode cX0_need 1 = .ok (.ifCond .ne 9, 3) := dk_154 0 9 (dk_at dksX0_need_0 1 rfl rfl)
theorem dX0_need_4 : decode cX0_need 4 = .ok (.aload_n 0, 1) := dk_42 (dk_at dksX0_need_0 4 rfl rfl)
theorem dX0_need_5 : decode cX0_need 5 = .ok (.iload_n 2, 1) := dk_28 (dk_at dksX0_need_0 5 rfl rfl)
theorem dX0_need_6 : decode cX0_need 6 = .ok (.invokevirtual 178, 3) := dk_182 0 178 (dk_at dksX0_need_0 6 rfl rfl)
theorem dX0_need_9 : decode cX0_need 9 = .ok (.athrow, 1) := dk_191 (dk_at dksX0_need_0 9 rfl rfl)
theorem dX0_need_10 : decode cX0_need 10 = .ok (.return_, 1) := dk_177 (dk_at dksX0_need_0 10 rfl rfl)
abbrev cX0_finds : ByteArray := prog_1_method_4_code
def yX0_finds : MethodName := ⟨RX0, "finds", "(LIdealCourt$Failure;)I"⟩
def dkwX0_finds_1 : List UInt8 := [180, 0, 182, 172]
abbrev dktX0_finds_1 : List UInt8 := dkwX0_finds_1 ++ []
def dkwX0_finds_0 : List UInt8 := [42, 180, 0, 15, 43, 180, 0, 182, 116, 92, 46, 4, 96, 79, 42, 43, 180, 0, 182, 181, 0, 185, 43]
abbrev dktX0_finds_0 : List UInt8 := dkwX0_finds_0 ++ dktX0_finds_1
theorem dksX0_finds_0 : cX0_finds.data.toList.drop 0 = dktX0_finds_0 := by decide +kernel
theorem dksX0_finds_1 : cX0_finds.data.toList.drop 23 = dktX0_finds_1 := dk_seg dksX0_finds_0 23 rfl rfl
theorem dX0_finds_0 : decode cX0_finds 0 = .ok (.aload_n 0, 1) := dk_42 (dk_at dksX0_finds_0 0 rfl rfl)
theorem dX0_finds_1 : decode cX0_finds 1 = .ok (.getfield 15, 3) := dk_180 0 15 (dk_at dksX0_finds_0 1 rfl rfl)
theorem dX0_finds_4 : decode cX0_finds 4 = .ok (.aload_n 1, 1) := dk_43 (dk_at dksX0_finds_0 4 rfl rfl)
theorem dX0_finds_5 : decode cX0_finds 5 = .ok (.getfield 182, 3) := dk_180 0 182 (dk_at dksX0_finds_0 5 rfl rfl)
theorem dX0_finds_8 : decode cX0_finds 8 = .ok (.ineg, 1) := dk_116 (dk_at dksX0_finds_0 8 rfl rfl)
theorem dX0_finds_9 : decode cX0_finds 9 = .ok (.dup2, 1) := dk_92 (dk_at dksX0_finds_0 9 rfl rfl)
theorem dX0_finds_10 : decode cX0_finds 10 = .ok (.iaload, 1) := dk_46 (dk_at dksX0_finds_0 10 rfl rfl)
theorem dX0_finds_11 : decode cX0_finds 11 = .ok (.iconst 1, 1) := dk_4 (dk_at dksX0_finds_0 11 rfl rfl)
theorem dX0_finds_12 : decode cX0_finds 12 = .ok (.iadd, 1) := dk_96 (dk_at dksX0_finds_0 12 rfl rfl)
theorem dX0_finds_13 : decode cX0_finds 13 = .ok (.iastore, 1) := dk_79 (dk_at dksX0_finds_0 13 rfl rfl)
theorem dX0_finds_14 : decode cX0_finds 14 = .ok (.aload_n 0, 1) := dk_42 (dk_at dksX0_finds_0 14 rfl rfl)
theorem dX0_finds_15 : decode cX0_finds 15 = .ok (.aload_n 1, 1) := dk_43 (dk_at dksX0_finds_0 15 rfl rfl)
theorem dX0_finds_16 : decode cX0_finds 16 = .ok (.getfield 182, 3) := dk_180 0 182 (dk_at dksX0_finds_0 16 rfl rfl)
theorem dX0_finds_19 : decode cX0_finds 19 = .ok (.putfield 185, 3) := dk_181 0 185 (dk_at dksX0_finds_0 19 rfl rfl)
theorem dX0_finds_22 : decode cX0_finds 22 = .ok (.aload_n 1, 1) := dk_43 (dk_at dksX0_finds_0 22 rfl rfl)
theorem dX0_finds_23 : decode cX0_finds 23 = .ok (.getfield 182, 3) := dk_180 0 182 (dk_at dksX0_finds_1 0 rfl rfl)
theorem dX0_finds_26 : decode cX0_finds 26 = .ok (.ireturn, 1) := dk_172 (dk_at dksX0_finds_1 3 rfl rfl)
abbrev cX0_zero : ByteArray := prog_1_method_14_code
def yX0_zero : MethodName := ⟨RX0, "zero", "(I)I"⟩
def dkwX0_zero_0 : List UInt8 := [42, 42, 27, 182, 0, 190, 182, 0, 218, 182, 0, 237, 3, 172, 77, 42, 44, 182, 0, 233, 172]
abbrev dktX0_zero_0 : List UInt8 := dkwX0_zero_0 ++ []
theorem dksX0_zero_0 : cX0_zero.data.toList.drop 0 = dktX0_zero_0 := by decide +kernel
theorem dX0_zero_0 : decode cX0_zero 0 = .ok (.aload_n 0, 1) := dk_42 (dk_at dksX0_zero_0 0 rfl rfl)
theorem dX0_zero_1 : decode cX0_zero 1 = .ok (.aload_n 0, 1) := dk_42 (dk_at dksX0_zero_0 1 rfl rfl)
theorem dX0_zero_2 : decode cX0_zero 2 = .ok (.iload_n 1, 1) := dk_27 (dk_at dksX0_zero_0 2 rfl rfl)
theorem dX0_zero_3 : decode cX0_zero 3 = .ok (.invokevirtual 190, 3) := dk_182 0 190 (dk_at dksX0_zero_0 3 rfl rfl)
theorem dX0_zero_6 : decode cX0_zero 6 = .ok (.invokevirtual 218, 3) := dk_182 0 218 (dk_at dksX0_zero_0 6 rfl rfl)
theorem dX0_zero_9 : decode cX0_zero 9 = .ok (.invokevirtual 237, 3) := dk_182 0 237 (dk_at dksX0_zero_0 9 rfl rfl)
theorem dX0_zero_12 : decode cX0_zero 12 = .ok (.iconst 0, 1) := dk_3 (dk_at dksX0_zero_0 12 rfl rfl)
theorem dX0_zero_13 : decode cX0_zero 13 = .ok (.ireturn, 1) := dk_172 (dk_at dksX0_zero_0 13 rfl rfl)
theorem dX0_zero_14 : decode cX0_zero 14 = .ok (.astore_n 2, 1) := dk_77 (dk_at dksX0_zero_0 14 rfl rfl)
theorem dX0_zero_15 : decode cX0_zero 15 = .ok (.aload_n 0, 1) := dk_42 (dk_at dksX0_zero_0 15 rfl rfl)
theorem dX0_zero_16 : decode cX0_zero 16 = .ok (.aload_n 2, 1) := dk_44 (dk_at dksX0_zero_0 16 rfl rfl)
theorem dX0_zero_17 : decode cX0_zero 17 = .ok (.invokevirtual 233, 3) := dk_182 0 233 (dk_at dksX0_zero_0 17 rfl rfl)
theorem dX0_zero_20 : decode cX0_zero 20 = .ok (.ireturn, 1) := dk_172 (dk_at dksX0_zero_0 20 rfl rfl)
abbrev cX0_fresh : ByteArray := prog_1_method_11_code
def yX0_fresh : MethodName := ⟨RX0, "fresh", "(LIdealCourt$Stand;)LIdealCourt$Poly;"⟩
def dkwX0_fresh_1 : List UInt8 := [181, 0, 194, 43, 180, 0, 215, 176]
abbrev dktX0_fresh_1 : List UInt8 := dkwX0_fresh_1 ++ []
def dkwX0_fresh_0 : List UInt8 := [43, 180, 0, 215, 199, 0, 14, 43, 187, 0, 119, 89, 183, 0, 121, 181, 0, 215, 43, 43, 180, 0, 215]
abbrev dktX0_fresh_0 : List UInt8 := dkwX0_fresh_0 ++ dktX0_fresh_1
theorem dksX0_fresh_0 : cX0_fresh.data.toList.drop 0 = dktX0_fresh_0 := by decide +kernel
theorem dksX0_fresh_1 : cX0_fresh.data.toList.drop 23 = dktX0_fresh_1 := dk_seg dksX0_fresh_0 23 rfl rfl
theorem dX0_fresh_0 : decode cX0_fresh 0 = .ok (.aload_n 1, 1) := dk_43 (dk_at dksX0_fresh_0 0 rfl rfl)
theorem dX0_fresh_1 : decode cX0_fresh 1 = .ok (.getfield 215, 3) := dk_180 0 215 (dk_at dksX0_fresh_0 1 rfl rfl)
theorem dX0_fresh_4 : decode cX0_fresh 4 = .ok (.ifnonnull 14, 3) := dk_199 0 14 (dk_at dksX0_fresh_0 4 rfl rfl)
theorem dX0_fresh_7 : decode cX0_fresh 7 = .ok (.aload_n 1, 1) := dk_43 (dk_at dksX0_fresh_0 7 rfl rfl)
theorem dX0_fresh_8 : decode cX0_fresh 8 = .ok (.new 119, 3) := dk_187 0 119 (dk_at dksX0_fresh_0 8 rfl rfl)
theorem dX0_fresh_11 : decode cX0_fresh 11 = .ok (.dup, 1) := dk_89 (dk_at dksX0_fresh_0 11 rfl rfl)
theorem dX0_fresh_12 : decode cX0_fresh 12 = .ok (.invokespecial 121, 3) := dk_183 0 121 (dk_at dksX0_fresh_0 12 rfl rfl)
theorem dX0_fresh_15 : decode cX0_fresh 15 = .ok (.putfield 215, 3) := dk_181 0 215 (dk_at dksX0_fresh_0 15 rfl rfl)
theorem dX0_fresh_18 : decode cX0_fresh 18 = .ok (.aload_n 1, 1) := dk_43 (dk_at dksX0_fresh_0 18 rfl rfl)
theorem dX0_fresh_19 : decode cX0_fresh 19 = .ok (.aload_n 1, 1) := dk_43 (dk_at dksX0_fresh_0 19 rfl rfl)
theorem dX0_fresh_20 : decode cX0_fresh 20 = .ok (.getfield 215, 3) := dk_180 0 215 (dk_at dksX0_fresh_0 20 rfl rfl)
theorem dX0_fresh_23 : decode cX0_fresh 23 = .ok (.putfield 194, 3) := dk_181 0 194 (dk_at dksX0_fresh_1 0 rfl rfl)
theorem dX0_fresh_26 : decode cX0_fresh 26 = .ok (.aload_n 1, 1) := dk_43 (dk_at dksX0_fresh_1 3 rfl rfl)
theorem dX0_fresh_27 : decode cX0_fresh 27 = .ok (.getfield 215, 3) := dk_180 0 215 (dk_at dksX0_fresh_1 4 rfl rfl)
theorem dX0_fresh_30 : decode cX0_fresh 30 = .ok (.areturn, 1) := dk_176 (dk_at dksX0_fresh_1 7 rfl rfl)
abbrev cX0_term : ByteArray := prog_1_method_16_code
def yX0_term : MethodName := ⟨RX0, "term", "(IIII)I"⟩
def dkwX0_term_9 : List UInt8 := [182, 0, 233, 172]
abbrev dktX0_term_9 : List UInt8 := dkwX0_term_9 ++ []
def dkwX0_term_8 : List UInt8 := [25, 5, 21, 9, 42, 180, 0, 71, 182, 1, 22, 87, 25, 5, 180, 0, 226, 172, 58, 5, 42, 25, 5]
abbrev dktX0_term_8 : List UInt8 := dkwX0_term_8 ++ dktX0_term_9
def dkwX0_term_7 : List UInt8 := [153, 0, 13, 25, 5, 180, 0, 226, 16, 60, 162, 0, 7, 4, 167, 0, 4, 3, 16, 250, 182, 0, 229]
abbrev dktX0_term_7 : List UInt8 := dkwX0_term_7 ++ dktX0_term_8
def dkwX0_term_6 : List UInt8 := [153, 0, 40, 25, 5, 21, 9, 182, 1, 12, 154, 0, 26, 42, 180, 0, 71, 180, 1, 16, 180, 1, 19]
abbrev dktX0_term_6 : List UInt8 := dkwX0_term_6 ++ dktX0_term_7
def dkwX0_term_5 : List UInt8 := [182, 1, 0, 42, 180, 0, 71, 42, 180, 0, 64, 4, 182, 1, 4, 42, 42, 180, 0, 71, 182, 1, 8]
abbrev dktX0_term_5 : List UInt8 := dkwX0_term_5 ++ dktX0_term_6
def dkwX0_term_4 : List UInt8 := [182, 0, 248, 54, 9, 25, 5, 21, 9, 42, 180, 0, 71, 182, 0, 252, 42, 180, 0, 64, 28, 133, 29, 133]
abbrev dktX0_term_4 : List UInt8 := dkwX0_term_4 ++ dktX0_term_5
def dkwX0_term_3 : List UInt8 := [163, 0, 7, 4, 167, 0, 4, 3, 16, 250, 182, 0, 229, 42, 180, 0, 22, 21, 6, 21, 7, 21, 8]
abbrev dktX0_term_3 : List UInt8 := dkwX0_term_3 ++ dktX0_term_4
def dkwX0_term_2 : List UInt8 := [16, 15, 126, 54, 7, 21, 4, 16, 8, 122, 54, 8, 42, 21, 6, 21, 7, 96, 21, 8, 96, 16, 12]
abbrev dktX0_term_2 : List UInt8 := dkwX0_term_2 ++ dktX0_term_3
def dkwX0_term_1 : List UInt8 := [162, 0, 7, 4, 167, 0, 4, 3, 16, 250, 182, 0, 229, 21, 4, 16, 15, 126, 54, 6, 21, 4, 7, 122]
abbrev dktX0_term_1 : List UInt8 := dkwX0_term_1 ++ dktX0_term_2
def dkwX0_term_0 : List UInt8 := [42, 27, 182, 0, 242, 58, 5, 42, 29, 182, 0, 245, 42, 21, 4, 155, 0, 15, 21, 4, 17, 16, 0]
abbrev dktX0_term_0 : List UInt8 := dkwX0_term_0 ++ dktX0_term_1
theorem dksX0_term_0 : cX0_term.data.toList.drop 0 = dktX0_term_0 := by decide +kernel
theorem dksX0_term_1 : cX0_term.data.toList.drop 23 = dktX0_term_1 := dk_seg dksX0_term_0 23 rfl rfl
theorem dksX0_term_2 : cX0_term.data.toList.drop 47 = dktX0_term_2 := dk_seg dksX0_term_1 24 rfl rfl
theorem dksX0_term_3 : cX0_term.data.toList.drop 70 = dktX0_term_3 := dk_seg dksX0_term_2 23 rfl rfl
theorem dksX0_term_4 : cX0_term.data.toList.drop 93 = dktX0_term_4 := dk_seg dksX0_term_3 23 rfl rfl
theorem dksX0_term_5 : cX0_term.data.toList.drop 117 = dktX0_term_5 := dk_seg dksX0_term_4 24 rfl rfl
theorem dksX0_term_6 : cX0_term.data.toList.drop 140 = dktX0_term_6 := dk_seg dksX0_term_5 23 rfl rfl
theorem dksX0_term_7 : cX0_term.data.toList.drop 163 = dktX0_term_7 := dk_seg dksX0_term_6 23 rfl rfl
theorem dksX0_term_8 : cX0_term.data.toList.drop 186 = dktX0_term_8 := dk_seg dksX0_term_7 23 rfl rfl
theorem dksX0_term_9 : cX0_term.data.toList.drop 209 = dktX0_term_9 := dk_seg dksX0_term_8 23 rfl rfl
theorem dX0_term_0 : decode cX0_term 0 = .ok (.aload_n 0, 1) := dk_42 (dk_at dksX0_term_0 0 rfl rfl)
theorem dX0_term_1 : decode cX0_term 1 = .ok (.iload_n 1, 1) := dk_27 (dk_at dksX0_term_0 1 rfl rfl)
theorem dX0_term_2 : decode cX0_term 2 = .ok (.invokevirtual 242, 3) := dk_182 0 242 (dk_at dksX0_term_0 2 rfl rfl)
theorem dX0_term_5 : decode cX0_term 5 = .ok (.astore 5, 2) := dk_58 5 (dk_at dksX0_term_0 5 rfl rfl)
theorem dX0_term_7 : decode cX0_term 7 = .ok (.aload_n 0, 1) := dk_42 (dk_at dksX0_term_0 7 rfl rfl)
theorem dX0_term_8 : decode cX0_term 8 = .ok (.iload_n 3, 1) := dk_29 (dk_at dksX0_term_0 8 rfl rfl)
theorem dX0_term_9 : decode cX0_term 9 = .ok (.invokevirtual 245, 3) := dk_182 0 245 (dk_at dksX0_term_0 9 rfl rfl)
theorem dX0_term_12 : decode cX0_term 12 = .ok (.aload_n 0, 1) := dk_42 (dk_at dksX0_term_0 12 rfl rfl)
theorem dX0_term_13 : decode cX0_term 13 = .ok (.iload 4, 2) := dk_21 4 (dk_at dksX0_term_0 13 rfl rfl)
theorem dX0_term_15 : decode cX0_term 15 = .ok (.ifCond .lt 15, 3) := dk_155 0 15 (dk_at dksX0_term_0 15 rfl rfl)
theorem dX0_term_18 : decode cX0_term 18 = .ok (.iload 4, 2) := dk_21 4 (dk_at dksX0_term_0 18 rfl rfl)
theorem dX0_term_20 : decode cX0_term 20 = .ok (.sipush 4096, 3) := dk_17 16 0 (dk_at dksX0_term_0 20 rfl rfl)
theorem dX0_term_23 : decode cX0_term 23 = .ok (.if_icmp .ge 7, 3) := dk_162 0 7 (dk_at dksX0_term_1 0 rfl rfl)
theorem dX0_term_26 : decode cX0_term 26 = .ok (.iconst 1, 1) := dk_4 (dk_at dksX0_term_1 3 rfl rfl)
theorem dX0_term_27 : decode cX0_term 27 = .ok (.goto 4, 3) := dk_167 0 4 (dk_at dksX0_term_1 4 rfl rfl)
theorem dX0_term_30 : decode cX0_term 30 = .ok (.iconst 0, 1) := dk_3 (dk_at dksX0_term_1 7 rfl rfl)
theorem dX0_term_31 : decode cX0_term 31 = .ok (.bipush (-6), 2) := dk_16 250 (dk_at dksX0_term_1 8 rfl rfl)
theorem dX0_term_33 : decode cX0_term 33 = .ok (.invokevirtual 229, 3) := dk_182 0 229 (dk_at dksX0_term_1 10 rfl rfl)
theorem dX0_term_36 : decode cX0_term 36 = .ok (.iload 4, 2) := dk_21 4 (dk_at dksX0_term_1 13 rfl rfl)
theorem dX0_term_38 : decode cX0_term 38 = .ok (.bipush 15, 2) := dk_16 15 (dk_at dksX0_term_1 15 rfl rfl)
theorem dX0_term_40 : decode cX0_term 40 = .ok (.iand, 1) := dk_126 (dk_at dksX0_term_1 17 rfl rfl)
theorem dX0_term_41 : decode cX0_term 41 = .ok (.istore 6, 2) := dk_54 6 (dk_at dksX0_term_1 18 rfl rfl)
theorem dX0_term_43 : decode cX0_term 43 = .ok (.iload 4, 2) := dk_21 4 (dk_at dksX0_term_1 20 rfl rfl)
theorem dX0_term_45 : decode cX0_term 45 = .ok (.iconst 4, 1) := dk_7 (dk_at dksX0_term_1 22 rfl rfl)
theorem dX0_term_46 : decode cX0_term 46 = .ok (.ishr, 1) := dk_122 (dk_at dksX0_term_1 23 rfl rfl)
theorem dX0_term_47 : decode cX0_term 47 = .ok (.bipush 15, 2) := dk_16 15 (dk_at dksX0_term_2 0 rfl rfl)
theorem dX0_term_49 : decode cX0_term 49 = .ok (.iand, 1) := dk_126 (dk_at dksX0_term_2 2 rfl rfl)
theorem dX0_term_50 : decode cX0_term 50 = .ok (.istore 7, 2) := dk_54 7 (dk_at dksX0_term_2 3 rfl rfl)
theorem dX0_term_52 : decode cX0_term 52 = .ok (.iload 4, 2) := dk_21 4 (dk_at dksX0_term_2 5 rfl rfl)
theorem dX0_term_54 : decode cX0_term 54 = .ok (.bipush 8, 2) := dk_16 8 (dk_at dksX0_term_2 7 rfl rfl)
theorem dX0_term_56 : decode cX0_term 56 = .ok (.ishr, 1) := dk_122 (dk_at dksX0_term_2 9 rfl rfl)
theorem dX0_term_57 : decode cX0_term 57 = .ok (.istore 8, 2) := dk_54 8 (dk_at dksX0_term_2 10 rfl rfl)
theorem dX0_term_59 : decode cX0_term 59 = .ok (.aload_n 0, 1) := dk_42 (dk_at dksX0_term_2 12 rfl rfl)
theorem dX0_term_60 : decode cX0_term 60 = .ok (.iload 6, 2) := dk_21 6 (dk_at dksX0_term_2 13 rfl rfl)
theorem dX0_term_62 : decode cX0_term 62 = .ok (.iload 7, 2) := dk_21 7 (dk_at dksX0_term_2 15 rfl rfl)
theorem dX0_term_64 : decode cX0_term 64 = .ok (.iadd, 1) := dk_96 (dk_at dksX0_term_2 17 rfl rfl)
theorem dX0_term_65 : decode cX0_term 65 = .ok (.iload 8, 2) := dk_21 8 (dk_at dksX0_term_2 18 rfl rfl)
theorem dX0_term_67 : decode cX0_term 67 = .ok (.iadd, 1) := dk_96 (dk_at dksX0_term_2 20 rfl rfl)
theorem dX0_term_68 : decode cX0_term 68 = .ok (.bipush 12, 2) := dk_16 12 (dk_at dksX0_term_2 21 rfl rfl)
theorem dX0_term_70 : decode cX0_term 70 = .ok (.if_icmp .gt 7, 3) := dk_163 0 7 (dk_at dksX0_term_3 0 rfl rfl)
theorem dX0_term_73 : decode cX0_term 73 = .ok (.iconst 1, 1) := dk_4 (dk_at dksX0_term_3 3 rfl rfl)
theorem dX0_term_74 : decode cX0_term 74 = .ok (.goto 4, 3) := dk_167 0 4 (dk_at dksX0_term_3 4 rfl rfl)
theorem dX0_term_77 : decode cX0_term 77 = .ok (.iconst 0, 1) := dk_3 (dk_at dksX0_term_3 7 rfl rfl)
theorem dX0_term_78 : decode cX0_term 78 = .ok (.bipush (-6), 2) := dk_16 250 (dk_at dksX0_term_3 8 rfl rfl)
theorem dX0_term_80 : decode cX0_term 80 = .ok (.invokevirtual 229, 3) := dk_182 0 229 (dk_at dksX0_term_3 10 rfl rfl)
theorem dX0_term_83 : decode cX0_term 83 = .ok (.aload_n 0, 1) := dk_42 (dk_at dksX0_term_3 13 rfl rfl)
theorem dX0_term_84 : decode cX0_term 84 = .ok (.getfield 22, 3) := dk_180 0 22 (dk_at dksX0_term_3 14 rfl rfl)
theorem dX0_term_87 : decode cX0_term 87 = .ok (.iload 6, 2) := dk_21 6 (dk_at dksX0_term_3 17 rfl rfl)
theorem dX0_term_89 : decode cX0_term 89 = .ok (.iload 7, 2) := dk_21 7 (dk_at dksX0_term_3 19 rfl rfl)
theorem dX0_term_91 : decode cX0_term 91 = .ok (.iload 8, 2) := dk_21 8 (dk_at dksX0_term_3 21 rfl rfl)
theorem dX0_term_93 : decode cX0_term 93 = .ok (.invokevirtual 248, 3) := dk_182 0 248 (dk_at dksX0_term_4 0 rfl rfl)
theorem dX0_term_96 : decode cX0_term 96 = .ok (.istore 9, 2) := dk_54 9 (dk_at dksX0_term_4 3 rfl rfl)
theorem dX0_term_98 : decode cX0_term 98 = .ok (.aload 5, 2) := dk_25 5 (dk_at dksX0_term_4 5 rfl rfl)
theorem dX0_term_100 : decode cX0_term 100 = .ok (.iload 9, 2) := dk_21 9 (dk_at dksX0_term_4 7 rfl rfl)
theorem dX0_term_102 : decode cX0_term 102 = .ok (.aload_n 0, 1) := dk_42 (dk_at dksX0_term_4 9 rfl rfl)
theorem dX0_term_103 : decode cX0_term 103 = .ok (.getfield 71, 3) := dk_180 0 71 (dk_at dksX0_term_4 10 rfl rfl)
theorem dX0_term_106 : decode cX0_term 106 = .ok (.invokevirtual 252, 3) := dk_182 0 252 (dk_at dksX0_term_4 13 rfl rfl)
theorem dX0_term_109 : decode cX0_term 109 = .ok (.aload_n 0, 1) := dk_42 (dk_at dksX0_term_4 16 rfl rfl)
theorem dX0_term_110 : decode cX0_term 110 = .ok (.getfield 64, 3) := dk_180 0 64 (dk_at dksX0_term_4 17 rfl rfl)
theorem dX0_term_113 : decode cX0_term 113 = .ok (.iload_n 2, 1) := dk_28 (dk_at dksX0_term_4 20 rfl rfl)
theorem dX0_term_114 : decode cX0_term 114 = .ok (.i2l, 1) := dk_133 (dk_at dksX0_term_4 21 rfl rfl)
theorem dX0_term_115 : decode cX0_term 115 = .ok (.iload_n 3, 1) := dk_29 (dk_at dksX0_term_4 22 rfl rfl)
theorem dX0_term_116 : decode cX0_term 116 = .ok (.i2l, 1) := dk_133 (dk_at dksX0_term_4 23 rfl rfl)
theorem dX0_term_117 : decode cX0_term 117 = .ok (.invokevirtual 256, 3) := dk_182 1 0 (dk_at dksX0_term_5 0 rfl rfl)
theorem dX0_term_120 : decode cX0_term 120 = .ok (.aload_n 0, 1) := dk_42 (dk_at dksX0_term_5 3 rfl rfl)
theorem dX0_term_121 : decode cX0_term 121 = .ok (.getfield 71, 3) := dk_180 0 71 (dk_at dksX0_term_5 4 rfl rfl)
theorem dX0_term_124 : decode cX0_term 124 = .ok (.aload_n 0, 1) := dk_42 (dk_at dksX0_term_5 7 rfl rfl)
theorem dX0_term_125 : decode cX0_term 125 = .ok (.getfield 64, 3) := dk_180 0 64 (dk_at dksX0_term_5 8 rfl rfl)
theorem dX0_term_128 : decode cX0_term 128 = .ok (.iconst 1, 1) := dk_4 (dk_at dksX0_term_5 11 rfl rfl)
theorem dX0_term_129 : decode cX0_term 129 = .ok (.invokevirtual 260, 3) := dk_182 1 4 (dk_at dksX0_term_5 12 rfl rfl)
theorem dX0_term_132 : decode cX0_term 132 = .ok (.aload_n 0, 1) := dk_42 (dk_at dksX0_term_5 15 rfl rfl)
theorem dX0_term_133 : decode cX0_term 133 = .ok (.aload_n 0, 1) := dk_42 (dk_at dksX0_term_5 16 rfl rfl)
theorem dX0_term_134 : decode cX0_term 134 = .ok (.getfield 71, 3) := dk_180 0 71 (dk_at dksX0_term_5 17 rfl rfl)
theorem dX0_term_137 : decode cX0_term 137 = .ok (.invokevirtual 264, 3) := dk_182 1 8 (dk_at dksX0_term_5 20 rfl rfl)
theorem dX0_term_140 : decode cX0_term 140 = .ok (.ifCond .eq 40, 3) := dk_153 0 40 (dk_at dksX0_term_6 0 rfl rfl)
theorem dX0_term_143 : decode cX0_term 143 = .ok (.aload 5, 2) := dk_25 5 (dk_at dksX0_term_6 3 rfl rfl)
theorem dX0_term_145 : decode cX0_term 145 = .ok (.iload 9, 2) := dk_21 9 (dk_at dksX0_term_6 5 rfl rfl)
theorem dX0_term_147 : decode cX0_term 147 = .ok (.invokevirtual 268, 3) := dk_182 1 12 (dk_at dksX0_term_6 7 rfl rfl)
theorem dX0_term_150 : decode cX0_term 150 = .ok (.ifCond .ne 26, 3) := dk_154 0 26 (dk_at dksX0_term_6 10 rfl rfl)
theorem dX0_term_153 : decode cX0_term 153 = .ok (.aload_n 0, 1) := dk_42 (dk_at dksX0_term_6 13 rfl rfl)
theorem dX0_term_154 : decode cX0_term 154 = .ok (.getfield 71, 3) := dk_180 0 71 (dk_at dksX0_term_6 14 rfl rfl)
theorem dX0_term_157 : decode cX0_term 157 = .ok (.getfield 272, 3) := dk_180 1 16 (dk_at dksX0_term_6 17 rfl rfl)
theorem dX0_term_160 : decode cX0_term 160 = .ok (.getfield 275, 3) := dk_180 1 19 (dk_at dksX0_term_6 20 rfl rfl)
theorem dX0_term_163 : decode cX0_term 163 = .ok (.ifCond .eq 13, 3) := dk_153 0 13 (dk_at dksX0_term_7 0 rfl rfl)
theorem dX0_term_166 : decode cX0_term 166 = .ok (.aload 5, 2) := dk_25 5 (dk_at dksX0_term_7 3 rfl rfl)
theorem dX0_term_168 : decode cX0_term 168 = .ok (.getfield 226, 3) := dk_180 0 226 (dk_at dksX0_term_7 5 rfl rfl)
theorem dX0_term_171 : decode cX0_term 171 = .ok (.bipush 60, 2) := dk_16 60 (dk_at dksX0_term_7 8 rfl rfl)
theorem dX0_term_173 : decode cX0_term 173 = .ok (.if_icmp .ge 7, 3) := dk_162 0 7 (dk_at dksX0_term_7 10 rfl rfl)
theorem dX0_term_176 : decode cX0_term 176 = .ok (.iconst 1, 1) := dk_4 (dk_at dksX0_term_7 13 rfl rfl)
theorem dX0_term_177 : decode cX0_term 177 = .ok (.goto 4, 3) := dk_167 0 4 (dk_at dksX0_term_7 14 rfl rfl)
theorem dX0_term_180 : decode cX0_term 180 = .ok (.iconst 0, 1) := dk_3 (dk_at dksX0_term_7 17 rfl rfl)
theorem dX0_term_181 : decode cX0_term 181 = .ok (.bipush (-6), 2) := dk_16 250 (dk_at dksX0_term_7 18 rfl rfl)
theorem dX0_term_183 : decode cX0_term 183 = .ok (.invokevirtual 229, 3) := dk_182 0 229 (dk_at dksX0_term_7 20 rfl rfl)
theorem dX0_term_186 : decode cX0_term 186 = .ok (.aload 5, 2) := dk_25 5 (dk_at dksX0_term_8 0 rfl rfl)
theorem dX0_term_188 : decode cX0_term 188 = .ok (.iload 9, 2) := dk_21 9 (dk_at dksX0_term_8 2 rfl rfl)
theorem dX0_term_190 : decode cX0_term 190 = .ok (.aload_n 0, 1) := dk_42 (dk_at dksX0_term_8 4 rfl rfl)
theorem dX0_term_191 : decode cX0_term 191 = .ok (.getfield 71, 3) := dk_180 0 71 (dk_at dksX0_term_8 5 rfl rfl)
theorem dX0_term_194 : decode cX0_term 194 = .ok (.invokevirtual 278, 3) := dk_182 1 22 (dk_at dksX0_term_8 8 rfl rfl)
theorem dX0_term_197 : decode cX0_term 197 = .ok (.pop, 1) := dk_87 (dk_at dksX0_term_8 11 rfl rfl)
theorem dX0_term_198 : decode cX0_term 198 = .ok (.aload 5, 2) := dk_25 5 (dk_at dksX0_term_8 12 rfl rfl)
theorem dX0_term_200 : decode cX0_term 200 = .ok (.getfield 226, 3) := dk_180 0 226 (dk_at dksX0_term_8 14 rfl rfl)
theorem dX0_term_203 : decode cX0_term 203 = .ok (.ireturn, 1) := dk_172 (dk_at dksX0_term_8 17 rfl rfl)
theorem dX0_term_204 : decode cX0_term 204 = .ok (.astore 5, 2) := dk_58 5 (dk_at dksX0_term_8 18 rfl rfl)
theorem dX0_term_206 : decode cX0_term 206 = .ok (.aload_n 0, 1) := dk_42 (dk_at dksX0_term_8 20 rfl rfl)
theorem dX0_term_207 : decode cX0_term 207 = .ok (.aload 5, 2) := dk_25 5 (dk_at dksX0_term_8 21 rfl rfl)
theorem dX0_term_209 : decode cX0_term 209 = .ok (.invokevirtual 233, 3) := dk_182 0 233 (dk_at dksX0_term_9 0 rfl rfl)
theorem dX0_term_212 : decode cX0_term 212 = .ok (.ireturn, 1) := dk_172 (dk_at dksX0_term_9 3 rfl rfl)
abbrev cX0_poly : ByteArray := prog_1_method_8_code
def yX0_poly : MethodName := ⟨RX0, "poly", "(I)LIdealCourt$Poly;"⟩
def dkwX0_poly_0 : List UInt8 := [42, 27, 182, 0, 210, 77, 44, 192, 0, 119, 176, 78, 42, 16, 253, 182, 0, 178, 191]
abbrev dktX0_poly_0 : List UInt8 := dkwX0_poly_0 ++ []
theorem dksX0_poly_0 : cX0_poly.data.toList.drop 0 = dktX0_poly_0 := by decide +kernel
theorem dX0_poly_0 : decode cX0_poly 0 = .ok (.aload_n 0, 1) := dk_42 (dk_at dksX0_poly_0 0 rfl rfl)
theorem dX0_poly_1 : decode cX0_poly 1 = .ok (.iload_n 1, 1) := dk_27 (dk_at dksX0_poly_0 1 rfl rfl)
theorem dX0_poly_2 : decode cX0_poly 2 = .ok (.invokevirtual 210, 3) := dk_182 0 210 (dk_at dksX0_poly_0 2 rfl rfl)
theorem dX0_poly_5 : decode cX0_poly 5 = .ok (.astore_n 2, 1) := dk_77 (dk_at dksX0_poly_0 5 rfl rfl)
theorem dX0_poly_6 : decode cX0_poly 6 = .ok (.aload_n 2, 1) := dk_44 (dk_at dksX0_poly_0 6 rfl rfl)
theorem dX0_poly_7 : decode cX0_poly 7 = .ok (.checkcast 119, 3) := dk_192 0 119 (dk_at dksX0_poly_0 7 rfl rfl)
theorem dX0_poly_10 : decode cX0_poly 10 = .ok (.areturn, 1) := dk_176 (dk_at dksX0_poly_0 10 rfl rfl)
theorem dX0_poly_11 : decode cX0_poly 11 = .ok (.astore_n 3, 1) := dk_78 (dk_at dksX0_poly_0 11 rfl rfl)
theorem dX0_poly_12 : decode cX0_poly 12 = .ok (.aload_n 0, 1) := dk_42 (dk_at dksX0_poly_0 12 rfl rfl)
theorem dX0_poly_13 : decode cX0_poly 13 = .ok (.bipush (-3), 2) := dk_16 253 (dk_at dksX0_poly_0 13 rfl rfl)
theorem dX0_poly_15 : decode cX0_poly 15 = .ok (.invokevirtual 178, 3) := dk_182 0 178 (dk_at dksX0_poly_0 15 rfl rfl)
theorem dX0_poly_18 : decode cX0_poly 18 = .ok (.athrow, 1) := dk_191 (dk_at dksX0_poly_0 18 rfl rfl)
abbrev cX0_thing : ByteArray := prog_1_method_6_code
def yX0_thing : MethodName := ⟨RX0, "thing", "(I)LIdealCourt$Thing;"⟩
def dkwX0_thing_0 : List UInt8 := [42, 27, 182, 0, 190, 180, 0, 194, 192, 0, 198, 77, 42, 44, 182, 0, 200, 87, 44, 176]
abbrev dktX0_thing_0 : List UInt8 := dkwX0_thing_0 ++ []
theorem dksX0_thing_0 : cX0_thing.data.toList.drop 0 = dktX0_thing_0 := by decide +kernel
theorem dX0_thing_0 : decode cX0_thing 0 = .ok (.aload_n 0, 1) := dk_42 (dk_at dksX0_thing_0 0 rfl rfl)
theorem dX0_thing_1 : decode cX0_thing 1 = .ok (.iload_n 1, 1) := dk_27 (dk_at dksX0_thing_0 1 rfl rfl)
theorem dX0_thing_2 : decode cX0_thing 2 = .ok (.invokevirtual 190, 3) := dk_182 0 190 (dk_at dksX0_thing_0 2 rfl rfl)
theorem dX0_thing_5 : decode cX0_thing 5 = .ok (.getfield 194, 3) := dk_180 0 194 (dk_at dksX0_thing_0 5 rfl rfl)
theorem dX0_thing_8 : decode cX0_thing 8 = .ok (.checkcast 198, 3) := dk_192 0 198 (dk_at dksX0_thing_0 8 rfl rfl)
theorem dX0_thing_11 : decode cX0_thing 11 = .ok (.astore_n 2, 1) := dk_77 (dk_at dksX0_thing_0 11 rfl rfl)
theorem dX0_thing_12 : decode cX0_thing 12 = .ok (.aload_n 0, 1) := dk_42 (dk_at dksX0_thing_0 12 rfl rfl)
theorem dX0_thing_13 : decode cX0_thing 13 = .ok (.aload_n 2, 1) := dk_44 (dk_at dksX0_thing_0 13 rfl rfl)
theorem dX0_thing_14 : decode cX0_thing 14 = .ok (.invokevirtual 200, 3) := dk_182 0 200 (dk_at dksX0_thing_0 14 rfl rfl)
theorem dX0_thing_17 : decode cX0_thing 17 = .ok (.pop, 1) := dk_87 (dk_at dksX0_thing_0 17 rfl rfl)
theorem dX0_thing_18 : decode cX0_thing 18 = .ok (.aload_n 2, 1) := dk_44 (dk_at dksX0_thing_0 18 rfl rfl)
theorem dX0_thing_19 : decode cX0_thing 19 = .ok (.areturn, 1) := dk_176 (dk_at dksX0_thing_0 19 rfl rfl)
abbrev cX0_kindOf : ByteArray := prog_1_method_7_code
def yX0_kindOf : MethodName := ⟨RX0, "kindOf", "(LIdealCourt$Thing;)I"⟩
def dkwX0_kindOf_0 : List UInt8 := [43, 185, 0, 204, 1, 0, 172, 77, 42, 16, 254, 182, 0, 178, 191]
abbrev dktX0_kindOf_0 : List UInt8 := dkwX0_kindOf_0 ++ []
theorem dksX0_kindOf_0 : cX0_kindOf.data.toList.drop 0 = dktX0_kindOf_0 := by decide +kernel
theorem dX0_kindOf_0 : decode cX0_kindOf 0 = .ok (.aload_n 1, 1) := dk_43 (dk_at dksX0_kindOf_0 0 rfl rfl)
theorem dX0_kindOf_1 : decode cX0_kindOf 1 = .ok (.invokeinterface 204 1, 5) := by decide +kernel
theorem dX0_kindOf_6 : decode cX0_kindOf 6 = .ok (.ireturn, 1) := dk_172 (dk_at dksX0_kindOf_0 6 rfl rfl)
theorem dX0_kindOf_7 : decode cX0_kindOf 7 = .ok (.astore_n 2, 1) := dk_77 (dk_at dksX0_kindOf_0 7 rfl rfl)
theorem dX0_kindOf_8 : decode cX0_kindOf 8 = .ok (.aload_n 0, 1) := dk_42 (dk_at dksX0_kindOf_0 8 rfl rfl)
theorem dX0_kindOf_9 : decode cX0_kindOf 9 = .ok (.bipush (-2), 2) := dk_16 254 (dk_at dksX0_kindOf_0 9 rfl rfl)
theorem dX0_kindOf_11 : decode cX0_kindOf 11 = .ok (.invokevirtual 178, 3) := dk_182 0 178 (dk_at dksX0_kindOf_0 11 rfl rfl)
theorem dX0_kindOf_14 : decode cX0_kindOf 14 = .ok (.athrow, 1) := dk_191 (dk_at dksX0_kindOf_0 14 rfl rfl)
abbrev cX0_divides : ByteArray := prog_1_method_15_code
def yX0_divides : MethodName := ⟨RX0, "divides", "(I)V"⟩
def dkwX0_divides_0 : List UInt8 := [4, 27, 108, 61, 167, 0, 11, 77, 42, 16, 251, 182, 0, 178, 191, 177]
abbrev dktX0_divides_0 : List UInt8 := dkwX0_divides_0 ++ []
theorem dksX0_divides_0 : cX0_divides.data.toList.drop 0 = dktX0_divides_0 := by decide +kernel
theorem dX0_divides_0 : decode cX0_divides 0 = .ok (.iconst 1, 1) := dk_4 (dk_at dksX0_divides_0 0 rfl rfl)
theorem dX0_divides_1 : decode cX0_divides 1 = .ok (.iload_n 1, 1) := dk_27 (dk_at dksX0_divides_0 1 rfl rfl)
theorem dX0_divides_2 : decode cX0_divides 2 = .ok (.idiv, 1) := dk_108 (dk_at dksX0_divides_0 2 rfl rfl)
theorem dX0_divides_3 : decode cX0_divides 3 = .ok (.istore_n 2, 1) := dk_61 (dk_at dksX0_divides_0 3 rfl rfl)
theorem dX0_divides_4 : decode cX0_divides 4 = .ok (.goto 11, 3) := dk_167 0 11 (dk_at dksX0_divides_0 4 rfl rfl)
theorem dX0_divides_7 : decode cX0_divides 7 = .ok (.astore_n 2, 1) := dk_77 (dk_at dksX0_divides_0 7 rfl rfl)
theorem dX0_divides_8 : decode cX0_divides 8 = .ok (.aload_n 0, 1) := dk_42 (dk_at dksX0_divides_0 8 rfl rfl)
theorem dX0_divides_9 : decode cX0_divides 9 = .ok (.bipush (-5), 2) := dk_16 251 (dk_at dksX0_divides_0 9 rfl rfl)
theorem dX0_divides_11 : decode cX0_divides 11 = .ok (.invokevirtual 178, 3) := dk_182 0 178 (dk_at dksX0_divides_0 11 rfl rfl)
theorem dX0_divides_14 : decode cX0_divides 14 = .ok (.athrow, 1) := dk_191 (dk_at dksX0_divides_0 14 rfl rfl)
theorem dX0_divides_15 : decode cX0_divides 15 = .ok (.return_, 1) := dk_177 (dk_at dksX0_divides_0 15 rfl rfl)
abbrev cX0_add : ByteArray := prog_1_method_18_code
def yX0_add : MethodName := ⟨RX0, "add", "(III)I"⟩
def dkwX0_add_0 : List UInt8 := [42, 27, 28, 29, 4, 182, 1, 33, 172]
abbrev dktX0_add_0 : List UInt8 := dkwX0_add_0 ++ []
theorem dksX0_add_0 : cX0_add.data.toList.drop 0 = dktX0_add_0 := by decide +kernel
theorem dX0_add_0 : decode cX0_add 0 = .ok (.aload_n 0, 1) := dk_42 (dk_at dksX0_add_0 0 rfl rfl)
theorem dX0_add_1 : decode cX0_add 1 = .ok (.iload_n 1, 1) := dk_27 (dk_at dksX0_add_0 1 rfl rfl)
theorem dX0_add_2 : decode cX0_add 2 = .ok (.iload_n 2, 1) := dk_28 (dk_at dksX0_add_0 2 rfl rfl)
theorem dX0_add_3 : decode cX0_add 3 = .ok (.iload_n 3, 1) := dk_29 (dk_at dksX0_add_0 3 rfl rfl)
theorem dX0_add_4 : decode cX0_add 4 = .ok (.iconst 1, 1) := dk_4 (dk_at dksX0_add_0 4 rfl rfl)
theorem dX0_add_5 : decode cX0_add 5 = .ok (.invokevirtual 289, 3) := dk_182 1 33 (dk_at dksX0_add_0 5 rfl rfl)
theorem dX0_add_8 : decode cX0_add 8 = .ok (.ireturn, 1) := dk_172 (dk_at dksX0_add_0 8 rfl rfl)
abbrev cX0_summed : ByteArray := prog_1_method_17_code
def yX0_summed : MethodName := ⟨RX0, "summed", "(IIII)I"⟩
def dkwX0_summed_6 : List UInt8 := [58, 5, 42, 25, 5, 182, 0, 233, 172]
abbrev dktX0_summed_6 : List UInt8 := dkwX0_summed_6 ++ []
def dkwX0_summed_5 : List UInt8 := [42, 180, 0, 122, 182, 1, 26, 16, 250, 182, 0, 229, 42, 42, 180, 0, 122, 25, 7, 182, 1, 29, 172]
abbrev dktX0_summed_5 : List UInt8 := dkwX0_summed_5 ++ dktX0_summed_6
def dkwX0_summed_4 : List UInt8 := [180, 0, 122, 21, 8, 42, 180, 0, 71, 182, 1, 22, 16, 250, 182, 0, 229, 132, 8, 1, 167, 255, 178, 42]
abbrev dktX0_summed_4 : List UInt8 := dkwX0_summed_4 ++ dktX0_summed_5
def dkwX0_summed_3 : List UInt8 := [42, 180, 0, 64, 182, 0, 252, 42, 180, 0, 71, 42, 180, 0, 64, 21, 4, 182, 1, 4, 42, 42]
abbrev dktX0_summed_3 : List UInt8 := dkwX0_summed_3 ++ dktX0_summed_4
def dkwX0_summed_2 : List UInt8 := [182, 1, 12, 154, 0, 6, 167, 0, 57, 25, 5, 21, 8, 42, 180, 0, 71, 182, 0, 252, 25, 6, 21, 8]
abbrev dktX0_summed_2 : List UInt8 := dkwX0_summed_2 ++ dktX0_summed_3
def dkwX0_summed_1 : List UInt8 := [180, 0, 122, 25, 5, 182, 0, 222, 3, 54, 8, 21, 8, 17, 1, 199, 162, 0, 76, 25, 6, 21, 8]
abbrev dktX0_summed_1 : List UInt8 := dkwX0_summed_1 ++ dktX0_summed_2
def dkwX0_summed_0 : List UInt8 := [42, 27, 182, 0, 242, 58, 5, 42, 28, 182, 0, 242, 58, 6, 42, 29, 182, 0, 190, 58, 7, 42]
abbrev dktX0_summed_0 : List UInt8 := dkwX0_summed_0 ++ dktX0_summed_1
theorem dksX0_summed_0 : cX0_summed.data.toList.drop 0 = dktX0_summed_0 := by decide +kernel
theorem dksX0_summed_1 : cX0_summed.data.toList.drop 22 = dktX0_summed_1 := dk_seg dksX0_summed_0 22 rfl rfl
theorem dksX0_summed_2 : cX0_summed.data.toList.drop 45 = dktX0_summed_2 := dk_seg dksX0_summed_1 23 rfl rfl
theorem dksX0_summed_3 : cX0_summed.data.toList.drop 69 = dktX0_summed_3 := dk_seg dksX0_summed_2 24 rfl rfl
theorem dksX0_summed_4 : cX0_summed.data.toList.drop 91 = dktX0_summed_4 := dk_seg dksX0_summed_3 22 rfl rfl
theorem dksX0_summed_5 : cX0_summed.data.toList.drop 115 = dktX0_summed_5 := dk_seg dksX0_summed_4 24 rfl rfl
theorem dksX0_summed_6 : cX0_summed.data.toList.drop 138 = dktX0_summed_6 := dk_seg dksX0_summed_5 23 rfl rfl
theorem dX0_summed_0 : decode cX0_summed 0 = .ok (.aload_n 0, 1) := dk_42 (dk_at dksX0_summed_0 0 rfl rfl)
theorem dX0_summed_1 : decode cX0_summed 1 = .ok (.iload_n 1, 1) := dk_27 (dk_at dksX0_summed_0 1 rfl rfl)
theorem dX0_summed_2 : decode cX0_summed 2 = .ok (.invokevirtual 242, 3) := dk_182 0 242 (dk_at dksX0_summed_0 2 rfl rfl)
theorem dX0_summed_5 : decode cX0_summed 5 = .ok (.astore 5, 2) := dk_58 5 (dk_at dksX0_summed_0 5 rfl rfl)
theorem dX0_summed_7 : decode cX0_summed 7 = .ok (.aload_n 0, 1) := dk_42 (dk_at dksX0_summed_0 7 rfl rfl)
theorem dX0_summed_8 : decode cX0_summed 8 = .ok (.iload_n 2, 1) := dk_28 (dk_at dksX0_summed_0 8 rfl rfl)
theorem dX0_summed_9 : decode cX0_summed 9 = .ok (.invokevirtual 242, 3) := dk_182 0 242 (dk_at dksX0_summed_0 9 rfl rfl)
theorem dX0_summed_12 : decode cX0_summed 12 = .ok (.astore 6, 2) := dk_58 6 (dk_at dksX0_summed_0 12 rfl rfl)
theorem dX0_summed_14 : decode cX0_summed 14 = .ok (.aload_n 0, 1) := dk_42 (dk_at dksX0_summed_0 14 rfl rfl)
theorem dX0_summed_15 : decode cX0_summed 15 = .ok (.iload_n 3, 1) := dk_29 (dk_at dksX0_summed_0 15 rfl rfl)
theorem dX0_summed_16 : decode cX0_summed 16 = .ok (.invokevirtual 190, 3) := dk_182 0 190 (dk_at dksX0_summed_0 16 rfl rfl)
theorem dX0_summed_19 : decode cX0_summed 19 = .ok (.astore 7, 2) := dk_58 7 (dk_at dksX0_summed_0 19 rfl rfl)
theorem dX0_summed_21 : decode cX0_summed 21 = .ok (.aload_n 0, 1) := dk_42 (dk_at dksX0_summed_0 21 rfl rfl)
theorem dX0_summed_22 : decode cX0_summed 22 = .ok (.getfield 122, 3) := dk_180 0 122 (dk_at dksX0_summed_1 0 rfl rfl)
theorem dX0_summed_25 : decode cX0_summed 25 = .ok (.aload 5, 2) := dk_25 5 (dk_at dksX0_summed_1 3 rfl rfl)
theorem dX0_summed_27 : decode cX0_summed 27 = .ok (.invokevirtual 222, 3) := dk_182 0 222 (dk_at dksX0_summed_1 5 rfl rfl)
theorem dX0_summed_30 : decode cX0_summed 30 = .ok (.iconst 0, 1) := dk_3 (dk_at dksX0_summed_1 8 rfl rfl)
theorem dX0_summed_31 : decode cX0_summed 31 = .ok (.istore 8, 2) := dk_54 8 (dk_at dksX0_summed_1 9 rfl rfl)
theorem dX0_summed_33 : decode cX0_summed 33 = .ok (.iload 8, 2) := dk_21 8 (dk_at dksX0_summed_1 11 rfl rfl)
theorem dX0_summed_35 : decode cX0_summed 35 = .ok (.sipush 455, 3) := dk_17 1 199 (dk_at dksX0_summed_1 13 rfl rfl)
theorem dX0_summed_38 : decode cX0_summed 38 = .ok (.if_icmp .ge 76, 3) := dk_162 0 76 (dk_at dksX0_summed_1 16 rfl rfl)
theorem dX0_summed_41 : decode cX0_summed 41 = .ok (.aload 6, 2) := dk_25 6 (dk_at dksX0_summed_1 19 rfl rfl)
theorem dX0_summed_43 : decode cX0_summed 43 = .ok (.iload 8, 2) := dk_21 8 (dk_at dksX0_summed_1 21 rfl rfl)
theorem dX0_summed_45 : decode cX0_summed 45 = .ok (.invokevirtual 268, 3) := dk_182 1 12 (dk_at dksX0_summed_2 0 rfl rfl)
theorem dX0_summed_48 : decode cX0_summed 48 = .ok (.ifCond .ne 6, 3) := dk_154 0 6 (dk_at dksX0_summed_2 3 rfl rfl)
theorem dX0_summed_51 : decode cX0_summed 51 = .ok (.goto 57, 3) := dk_167 0 57 (dk_at dksX0_summed_2 6 rfl rfl)
theorem dX0_summed_54 : decode cX0_summed 54 = .ok (.aload 5, 2) := dk_25 5 (dk_at dksX0_summed_2 9 rfl rfl)
theorem dX0_summed_56 : decode cX0_summed 56 = .ok (.iload 8, 2) := dk_21 8 (dk_at dksX0_summed_2 11 rfl rfl)
theorem dX0_summed_58 : decode cX0_summed 58 = .ok (.aload_n 0, 1) := dk_42 (dk_at dksX0_summed_2 13 rfl rfl)
theorem dX0_summed_59 : decode cX0_summed 59 = .ok (.getfield 71, 3) := dk_180 0 71 (dk_at dksX0_summed_2 14 rfl rfl)
theorem dX0_summed_62 : decode cX0_summed 62 = .ok (.invokevirtual 252, 3) := dk_182 0 252 (dk_at dksX0_summed_2 17 rfl rfl)
theorem dX0_summed_65 : decode cX0_summed 65 = .ok (.aload 6, 2) := dk_25 6 (dk_at dksX0_summed_2 20 rfl rfl)
theorem dX0_summed_67 : decode cX0_summed 67 = .ok (.iload 8, 2) := dk_21 8 (dk_at dksX0_summed_2 22 rfl rfl)
theorem dX0_summed_69 : decode cX0_summed 69 = .ok (.aload_n 0, 1) := dk_42 (dk_at dksX0_summed_3 0 rfl rfl)
theorem dX0_summed_70 : decode cX0_summed 70 = .ok (.getfield 64, 3) := dk_180 0 64 (dk_at dksX0_summed_3 1 rfl rfl)
theorem dX0_summed_73 : decode cX0_summed 73 = .ok (.invokevirtual 252, 3) := dk_182 0 252 (dk_at dksX0_summed_3 4 rfl rfl)
theorem dX0_summed_76 : decode cX0_summed 76 = .ok (.aload_n 0, 1) := dk_42 (dk_at dksX0_summed_3 7 rfl rfl)
theorem dX0_summed_77 : decode cX0_summed 77 = .ok (.getfield 71, 3) := dk_180 0 71 (dk_at dksX0_summed_3 8 rfl rfl)
theorem dX0_summed_80 : decode cX0_summed 80 = .ok (.aload_n 0, 1) := dk_42 (dk_at dksX0_summed_3 11 rfl rfl)
theorem dX0_summed_81 : decode cX0_summed 81 = .ok (.getfield 64, 3) := dk_180 0 64 (dk_at dksX0_summed_3 12 rfl rfl)
theorem dX0_summed_84 : decode cX0_summed 84 = .ok (.iload 4, 2) := dk_21 4 (dk_at dksX0_summed_3 15 rfl rfl)
theorem dX0_summed_86 : decode cX0_summed 86 = .ok (.invokevirtual 260, 3) := dk_182 1 4 (dk_at dksX0_summed_3 17 rfl rfl)
theorem dX0_summed_89 : decode cX0_summed 89 = .ok (.aload_n 0, 1) := dk_42 (dk_at dksX0_summed_3 20 rfl rfl)
theorem dX0_summed_90 : decode cX0_summed 90 = .ok (.aload_n 0, 1) := dk_42 (dk_at dksX0_summed_3 21 rfl rfl)
theorem dX0_summed_91 : decode cX0_summed 91 = .ok (.getfield 122, 3) := dk_180 0 122 (dk_at dksX0_summed_4 0 rfl rfl)
theorem dX0_summed_94 : decode cX0_summed 94 = .ok (.iload 8, 2) := dk_21 8 (dk_at dksX0_summed_4 3 rfl rfl)
theorem dX0_summed_96 : decode cX0_summed 96 = .ok (.aload_n 0, 1) := dk_42 (dk_at dksX0_summed_4 5 rfl rfl)
theorem dX0_summed_97 : decode cX0_summed 97 = .ok (.getfield 71, 3) := dk_180 0 71 (dk_at dksX0_summed_4 6 rfl rfl)
theorem dX0_summed_100 : decode cX0_summed 100 = .ok (.invokevirtual 278, 3) := dk_182 1 22 (dk_at dksX0_summed_4 9 rfl rfl)
theorem dX0_summed_103 : decode cX0_summed 103 = .ok (.bipush (-6), 2) := dk_16 250 (dk_at dksX0_summed_4 12 rfl rfl)
theorem dX0_summed_105 : decode cX0_summed 105 = .ok (.invokevirtual 229, 3) := dk_182 0 229 (dk_at dksX0_summed_4 14 rfl rfl)
theorem dX0_summed_108 : decode cX0_summed 108 = .ok (.iinc 8 1, 3) := dk_132 8 1 (dk_at dksX0_summed_4 17 rfl rfl)
theorem dX0_summed_111 : decode cX0_summed 111 = .ok (.goto (-78), 3) := dk_167 255 178 (dk_at dksX0_summed_4 20 rfl rfl)
theorem dX0_summed_114 : decode cX0_summed 114 = .ok (.aload_n 0, 1) := dk_42 (dk_at dksX0_summed_4 23 rfl rfl)
theorem dX0_summed_115 : decode cX0_summed 115 = .ok (.aload_n 0, 1) := dk_42 (dk_at dksX0_summed_5 0 rfl rfl)
theorem dX0_summed_116 : decode cX0_summed 116 = .ok (.getfield 122, 3) := dk_180 0 122 (dk_at dksX0_summed_5 1 rfl rfl)
theorem dX0_summed_119 : decode cX0_summed 119 = .ok (.invokevirtual 282, 3) := dk_182 1 26 (dk_at dksX0_summed_5 4 rfl rfl)
theorem dX0_summed_122 : decode cX0_summed 122 = .ok (.bipush (-6), 2) := dk_16 250 (dk_at dksX0_summed_5 7 rfl rfl)
theorem dX0_summed_124 : decode cX0_summed 124 = .ok (.invokevirtual 229, 3) := dk_182 0 229 (dk_at dksX0_summed_5 9 rfl rfl)
theorem dX0_summed_127 : decode cX0_summed 127 = .ok (.aload_n 0, 1) := dk_42 (dk_at dksX0_summed_5 12 rfl rfl)
theorem dX0_summed_128 : decode cX0_summed 128 = .ok (.aload_n 0, 1) := dk_42 (dk_at dksX0_summed_5 13 rfl rfl)
theorem dX0_summed_129 : decode cX0_summed 129 = .ok (.getfield 122, 3) := dk_180 0 122 (dk_at dksX0_summed_5 14 rfl rfl)
theorem dX0_summed_132 : decode cX0_summed 132 = .ok (.aload 7, 2) := dk_25 7 (dk_at dksX0_summed_5 17 rfl rfl)
theorem dX0_summed_134 : decode cX0_summed 134 = .ok (.invokevirtual 285, 3) := dk_182 1 29 (dk_at dksX0_summed_5 19 rfl rfl)
theorem dX0_summed_137 : decode cX0_summed 137 = .ok (.ireturn, 1) := dk_172 (dk_at dksX0_summed_5 22 rfl rfl)
theorem dX0_summed_138 : decode cX0_summed 138 = .ok (.astore 5, 2) := dk_58 5 (dk_at dksX0_summed_6 0 rfl rfl)
theorem dX0_summed_140 : decode cX0_summed 140 = .ok (.aload_n 0, 1) := dk_42 (dk_at dksX0_summed_6 2 rfl rfl)
theorem dX0_summed_141 : decode cX0_summed 141 = .ok (.aload 5, 2) := dk_25 5 (dk_at dksX0_summed_6 3 rfl rfl)
theorem dX0_summed_143 : decode cX0_summed 143 = .ok (.invokevirtual 233, 3) := dk_182 0 233 (dk_at dksX0_summed_6 5 rfl rfl)
theorem dX0_summed_146 : decode cX0_summed 146 = .ok (.ireturn, 1) := dk_172 (dk_at dksX0_summed_6 8 rfl rfl)
abbrev cX0_goes : ByteArray := prog_1_method_12_code
def yX0_goes : MethodName := ⟨RX0, "goes", "(LIdealCourt$Poly;LIdealCourt$Stand;)I"⟩
def dkwX0_goes_0 : List UInt8 := [42, 44, 182, 0, 218, 43, 182, 0, 222, 43, 180, 0, 226, 172]
abbrev dktX0_goes_0 : List UInt8 := dkwX0_goes_0 ++ []
theorem dksX0_goes_0 : cX0_goes.data.toList.drop 0 = dktX0_goes_0 := by decide +kernel
theorem dX0_goes_0 : decode cX0_goes 0 = .ok (.aload_n 0, 1) := dk_42 (dk_at dksX0_goes_0 0 rfl rfl)
theorem dX0_goes_1 : decode cX0_goes 1 = .ok (.aload_n 2, 1) := dk_44 (dk_at dksX0_goes_0 1 rfl rfl)
theorem dX0_goes_2 : decode cX0_goes 2 = .ok (.invokevirtual 218, 3) := dk_182 0 218 (dk_at dksX0_goes_0 2 rfl rfl)
theorem dX0_goes_5 : decode cX0_goes 5 = .ok (.aload_n 1, 1) := dk_43 (dk_at dksX0_goes_0 5 rfl rfl)
theorem dX0_goes_6 : decode cX0_goes 6 = .ok (.invokevirtual 222, 3) := dk_182 0 222 (dk_at dksX0_goes_0 6 rfl rfl)
theorem dX0_goes_9 : decode cX0_goes 9 = .ok (.aload_n 1, 1) := dk_43 (dk_at dksX0_goes_0 9 rfl rfl)
theorem dX0_goes_10 : decode cX0_goes 10 = .ok (.getfield 226, 3) := dk_180 0 226 (dk_at dksX0_goes_0 10 rfl rfl)
theorem dX0_goes_13 : decode cX0_goes 13 = .ok (.ireturn, 1) := dk_172 (dk_at dksX0_goes_0 13 rfl rfl)
abbrev cX0_less : ByteArray := prog_1_method_19_code
def yX0_less : MethodName := ⟨RX0, "less", "(III)I"⟩
def dkwX0_less_0 : List UInt8 := [42, 27, 28, 29, 2, 182, 1, 33, 172]
abbrev dktX0_less_0 : List UInt8 := dkwX0_less_0 ++ []
theorem dksX0_less_0 : cX0_less.data.toList.drop 0 = dktX0_less_0 := by decide +kernel
theorem dX0_less_0 : decode cX0_less 0 = .ok (.aload_n 0, 1) := dk_42 (dk_at dksX0_less_0 0 rfl rfl)
theorem dX0_less_1 : decode cX0_less 1 = .ok (.iload_n 1, 1) := dk_27 (dk_at dksX0_less_0 1 rfl rfl)
theorem dX0_less_2 : decode cX0_less 2 = .ok (.iload_n 2, 1) := dk_28 (dk_at dksX0_less_0 2 rfl rfl)
theorem dX0_less_3 : decode cX0_less 3 = .ok (.iload_n 3, 1) := dk_29 (dk_at dksX0_less_0 3 rfl rfl)
theorem dX0_less_4 : decode cX0_less 4 = .ok (.iconst (-1), 1) := dk_2 (dk_at dksX0_less_0 4 rfl rfl)
theorem dX0_less_5 : decode cX0_less 5 = .ok (.invokevirtual 289, 3) := dk_182 1 33 (dk_at dksX0_less_0 5 rfl rfl)
theorem dX0_less_8 : decode cX0_less 8 = .ok (.ireturn, 1) := dk_172 (dk_at dksX0_less_0 8 rfl rfl)
abbrev cX0_times : ByteArray := prog_1_method_20_code
def yX0_times : MethodName := ⟨RX0, "times", "(III)I"⟩
def dkwX0_times_6 : List UInt8 := [42, 25, 4, 182, 0, 233, 172]
abbrev dktX0_times_6 : List UInt8 := dkwX0_times_6 ++ []
def dkwX0_times_5 : List UInt8 := [180, 0, 122, 182, 1, 26, 16, 250, 182, 0, 229, 42, 42, 180, 0, 122, 25, 6, 182, 1, 29, 172, 58, 4]
abbrev dktX0_times_5 : List UInt8 := dkwX0_times_5 ++ dktX0_times_6
def dkwX0_times_4 : List UInt8 := [182, 1, 12, 153, 0, 13, 42, 25, 4, 21, 7, 25, 5, 182, 1, 41, 132, 7, 255, 167, 255, 228, 42, 42]
abbrev dktX0_times_4 : List UInt8 := dkwX0_times_4 ++ dktX0_times_5
def dkwX0_times_3 : List UInt8 := [4, 167, 0, 4, 3, 16, 250, 182, 0, 229, 17, 1, 198, 54, 7, 21, 7, 155, 0, 29, 25, 4, 21, 7]
abbrev dktX0_times_3 : List UInt8 := dkwX0_times_3 ++ dktX0_times_4
def dkwX0_times_2 : List UInt8 := [25, 4, 42, 180, 0, 22, 182, 1, 37, 25, 5, 42, 180, 0, 22, 182, 1, 37, 96, 16, 12, 163, 0, 7]
abbrev dktX0_times_2 : List UInt8 := dkwX0_times_2 ++ dktX0_times_3
def dkwX0_times_1 : List UInt8 := [180, 0, 122, 182, 0, 237, 42, 25, 4, 180, 0, 226, 153, 0, 35, 25, 5, 180, 0, 226, 153, 0, 27]
abbrev dktX0_times_1 : List UInt8 := dkwX0_times_1 ++ dktX0_times_2
def dkwX0_times_0 : List UInt8 := [42, 27, 182, 0, 242, 58, 4, 42, 28, 182, 0, 242, 58, 5, 42, 29, 182, 0, 190, 58, 6, 42]
abbrev dktX0_times_0 : List UInt8 := dkwX0_times_0 ++ dktX0_times_1
theorem dksX0_times_0 : cX0_times.data.toList.drop 0 = dktX0_times_0 := by decide +kernel
theorem dksX0_times_1 : cX0_times.data.toList.drop 22 = dktX0_times_1 := dk_seg dksX0_times_0 22 rfl rfl
theorem dksX0_times_2 : cX0_times.data.toList.drop 45 = dktX0_times_2 := dk_seg dksX0_times_1 23 rfl rfl
theorem dksX0_times_3 : cX0_times.data.toList.drop 69 = dktX0_times_3 := dk_seg dksX0_times_2 24 rfl rfl
theorem dksX0_times_4 : cX0_times.data.toList.drop 93 = dktX0_times_4 := dk_seg dksX0_times_3 24 rfl rfl
theorem dksX0_times_5 : cX0_times.data.toList.drop 117 = dktX0_times_5 := dk_seg dksX0_times_4 24 rfl rfl
theorem dksX0_times_6 : cX0_times.data.toList.drop 141 = dktX0_times_6 := dk_seg dksX0_times_5 24 rfl rfl
theorem dX0_times_0 : decode cX0_times 0 = .ok (.aload_n 0, 1) := dk_42 (dk_at dksX0_times_0 0 rfl rfl)
theorem dX0_times_1 : decode cX0_times 1 = .ok (.iload_n 1, 1) := dk_27 (dk_at dksX0_times_0 1 rfl rfl)
theorem dX0_times_2 : decode cX0_times 2 = .ok (.invokevirtual 242, 3) := dk_182 0 242 (dk_at dksX0_times_0 2 rfl rfl)
theorem dX0_times_5 : decode cX0_times 5 = .ok (.astore 4, 2) := dk_58 4 (dk_at dksX0_times_0 5 rfl rfl)
theorem dX0_times_7 : decode cX0_times 7 = .ok (.aload_n 0, 1) := dk_42 (dk_at dksX0_times_0 7 rfl rfl)
theorem dX0_times_8 : decode cX0_times 8 = .ok (.iload_n 2, 1) := dk_28 (dk_at dksX0_times_0 8 rfl rfl)
theorem dX0_times_9 : decode cX0_times 9 = .ok (.invokevirtual 242, 3) := dk_182 0 242 (dk_at dksX0_times_0 9 rfl rfl)
theorem dX0_times_12 : decode cX0_times 12 = .ok (.astore 5, 2) := dk_58 5 (dk_at dksX0_times_0 12 rfl rfl)
theorem dX0_times_14 : decode cX0_times 14 = .ok (.aload_n 0, 1) := dk_42 (dk_at dksX0_times_0 14 rfl rfl)
theorem dX0_times_15 : decode cX0_times 15 = .ok (.iload_n 3, 1) := dk_29 (dk_at dksX0_times_0 15 rfl rfl)
theorem dX0_times_16 : decode cX0_times 16 = .ok (.invokevirtual 190, 3) := dk_182 0 190 (dk_at dksX0_times_0 16 rfl rfl)
theorem dX0_times_19 : decode cX0_times 19 = .ok (.astore 6, 2) := dk_58 6 (dk_at dksX0_times_0 19 rfl rfl)
theorem dX0_times_21 : decode cX0_times 21 = .ok (.aload_n 0, 1) := dk_42 (dk_at dksX0_times_0 21 rfl rfl)
theorem dX0_times_22 : decode cX0_times 22 = .ok (.getfield 122, 3) := dk_180 0 122 (dk_at dksX0_times_1 0 rfl rfl)
theorem dX0_times_25 : decode cX0_times 25 = .ok (.invokevirtual 237, 3) := dk_182 0 237 (dk_at dksX0_times_1 3 rfl rfl)
theorem dX0_times_28 : decode cX0_times 28 = .ok (.aload_n 0, 1) := dk_42 (dk_at dksX0_times_1 6 rfl rfl)
theorem dX0_times_29 : decode cX0_times 29 = .ok (.aload 4, 2) := dk_25 4 (dk_at dksX0_times_1 7 rfl rfl)
theorem dX0_times_31 : decode cX0_times 31 = .ok (.getfield 226, 3) := dk_180 0 226 (dk_at dksX0_times_1 9 rfl rfl)
theorem dX0_times_34 : decode cX0_times 34 = .ok (.ifCond .eq 35, 3) := dk_153 0 35 (dk_at dksX0_times_1 12 rfl rfl)
theorem dX0_times_37 : decode cX0_times 37 = .ok (.aload 5, 2) := dk_25 5 (dk_at dksX0_times_1 15 rfl rfl)
theorem dX0_times_39 : decode cX0_times 39 = .ok (.getfield 226, 3) := dk_180 0 226 (dk_at dksX0_times_1 17 rfl rfl)
theorem dX0_times_42 : decode cX0_times 42 = .ok (.ifCond .eq 27, 3) := dk_153 0 27 (dk_at dksX0_times_1 20 rfl rfl)
theorem dX0_times_45 : decode cX0_times 45 = .ok (.aload 4, 2) := dk_25 4 (dk_at dksX0_times_2 0 rfl rfl)
theorem dX0_times_47 : decode cX0_times 47 = .ok (.aload_n 0, 1) := dk_42 (dk_at dksX0_times_2 2 rfl rfl)
theorem dX0_times_48 : decode cX0_times 48 = .ok (.getfield 22, 3) := dk_180 0 22 (dk_at dksX0_times_2 3 rfl rfl)
theorem dX0_times_51 : decode cX0_times 51 = .ok (.invokevirtual 293, 3) := dk_182 1 37 (dk_at dksX0_times_2 6 rfl rfl)
theorem dX0_times_54 : decode cX0_times 54 = .ok (.aload 5, 2) := dk_25 5 (dk_at dksX0_times_2 9 rfl rfl)
theorem dX0_times_56 : decode cX0_times 56 = .ok (.aload_n 0, 1) := dk_42 (dk_at dksX0_times_2 11 rfl rfl)
theorem dX0_times_57 : decode cX0_times 57 = .ok (.getfield 22, 3) := dk_180 0 22 (dk_at dksX0_times_2 12 rfl rfl)
theorem dX0_times_60 : decode cX0_times 60 = .ok (.invokevirtual 293, 3) := dk_182 1 37 (dk_at dksX0_times_2 15 rfl rfl)
theorem dX0_times_63 : decode cX0_times 63 = .ok (.iadd, 1) := dk_96 (dk_at dksX0_times_2 18 rfl rfl)
theorem dX0_times_64 : decode cX0_times 64 = .ok (.bipush 12, 2) := dk_16 12 (dk_at dksX0_times_2 19 rfl rfl)
theorem dX0_times_66 : decode cX0_times 66 = .ok (.if_icmp .gt 7, 3) := dk_163 0 7 (dk_at dksX0_times_2 21 rfl rfl)
theorem dX0_times_69 : decode cX0_times 69 = .ok (.iconst 1, 1) := dk_4 (dk_at dksX0_times_3 0 rfl rfl)
theorem dX0_times_70 : decode cX0_times 70 = .ok (.goto 4, 3) := dk_167 0 4 (dk_at dksX0_times_3 1 rfl rfl)
theorem dX0_times_73 : decode cX0_times 73 = .ok (.iconst 0, 1) := dk_3 (dk_at dksX0_times_3 4 rfl rfl)
theorem dX0_times_74 : decode cX0_times 74 = .ok (.bipush (-6), 2) := dk_16 250 (dk_at dksX0_times_3 5 rfl rfl)
theorem dX0_times_76 : decode cX0_times 76 = .ok (.invokevirtual 229, 3) := dk_182 0 229 (dk_at dksX0_times_3 7 rfl rfl)
theorem dX0_times_79 : decode cX0_times 79 = .ok (.sipush 454, 3) := dk_17 1 198 (dk_at dksX0_times_3 10 rfl rfl)
theorem dX0_times_82 : decode cX0_times 82 = .ok (.istore 7, 2) := dk_54 7 (dk_at dksX0_times_3 13 rfl rfl)
theorem dX0_times_84 : decode cX0_times 84 = .ok (.iload 7, 2) := dk_21 7 (dk_at dksX0_times_3 15 rfl rfl)
theorem dX0_times_86 : decode cX0_times 86 = .ok (.ifCond .lt 29, 3) := dk_155 0 29 (dk_at dksX0_times_3 17 rfl rfl)
theorem dX0_times_89 : decode cX0_times 89 = .ok (.aload 4, 2) := dk_25 4 (dk_at dksX0_times_3 20 rfl rfl)
theorem dX0_times_91 : decode cX0_times 91 = .ok (.iload 7, 2) := dk_21 7 (dk_at dksX0_times_3 22 rfl rfl)
theorem dX0_times_93 : decode cX0_times 93 = .ok (.invokevirtual 268, 3) := dk_182 1 12 (dk_at dksX0_times_4 0 rfl rfl)
theorem dX0_times_96 : decode cX0_times 96 = .ok (.ifCond .eq 13, 3) := dk_153 0 13 (dk_at dksX0_times_4 3 rfl rfl)
theorem dX0_times_99 : decode cX0_times 99 = .ok (.aload_n 0, 1) := dk_42 (dk_at dksX0_times_4 6 rfl rfl)
theorem dX0_times_100 : decode cX0_times 100 = .ok (.aload 4, 2) := dk_25 4 (dk_at dksX0_times_4 7 rfl rfl)
theorem dX0_times_102 : decode cX0_times 102 = .ok (.iload 7, 2) := dk_21 7 (dk_at dksX0_times_4 9 rfl rfl)
theorem dX0_times_104 : decode cX0_times 104 = .ok (.aload 5, 2) := dk_25 5 (dk_at dksX0_times_4 11 rfl rfl)
theorem dX0_times_106 : decode cX0_times 106 = .ok (.invokevirtual 297, 3) := dk_182 1 41 (dk_at dksX0_times_4 13 rfl rfl)
theorem dX0_times_109 : decode cX0_times 109 = .ok (.iinc 7 (-1), 3) := dk_132 7 255 (dk_at dksX0_times_4 16 rfl rfl)
theorem dX0_times_112 : decode cX0_times 112 = .ok (.goto (-28), 3) := dk_167 255 228 (dk_at dksX0_times_4 19 rfl rfl)
theorem dX0_times_115 : decode cX0_times 115 = .ok (.aload_n 0, 1) := dk_42 (dk_at dksX0_times_4 22 rfl rfl)
theorem dX0_times_116 : decode cX0_times 116 = .ok (.aload_n 0, 1) := dk_42 (dk_at dksX0_times_4 23 rfl rfl)
theorem dX0_times_117 : decode cX0_times 117 = .ok (.getfield 122, 3) := dk_180 0 122 (dk_at dksX0_times_5 0 rfl rfl)
theorem dX0_times_120 : decode cX0_times 120 = .ok (.invokevirtual 282, 3) := dk_182 1 26 (dk_at dksX0_times_5 3 rfl rfl)
theorem dX0_times_123 : decode cX0_times 123 = .ok (.bipush (-6), 2) := dk_16 250 (dk_at dksX0_times_5 6 rfl rfl)
theorem dX0_times_125 : decode cX0_times 125 = .ok (.invokevirtual 229, 3) := dk_182 0 229 (dk_at dksX0_times_5 8 rfl rfl)
theorem dX0_times_128 : decode cX0_times 128 = .ok (.aload_n 0, 1) := dk_42 (dk_at dksX0_times_5 11 rfl rfl)
theorem dX0_times_129 : decode cX0_times 129 = .ok (.aload_n 0, 1) := dk_42 (dk_at dksX0_times_5 12 rfl rfl)
theorem dX0_times_130 : decode cX0_times 130 = .ok (.getfield 122, 3) := dk_180 0 122 (dk_at dksX0_times_5 13 rfl rfl)
theorem dX0_times_133 : decode cX0_times 133 = .ok (.aload 6, 2) := dk_25 6 (dk_at dksX0_times_5 16 rfl rfl)
theorem dX0_times_135 : decode cX0_times 135 = .ok (.invokevirtual 285, 3) := dk_182 1 29 (dk_at dksX0_times_5 18 rfl rfl)
theorem dX0_times_138 : decode cX0_times 138 = .ok (.ireturn, 1) := dk_172 (dk_at dksX0_times_5 21 rfl rfl)
theorem dX0_times_139 : decode cX0_times 139 = .ok (.astore 4, 2) := dk_58 4 (dk_at dksX0_times_5 22 rfl rfl)
theorem dX0_times_141 : decode cX0_times 141 = .ok (.aload_n 0, 1) := dk_42 (dk_at dksX0_times_6 0 rfl rfl)
theorem dX0_times_142 : decode cX0_times 142 = .ok (.aload 4, 2) := dk_25 4 (dk_at dksX0_times_6 1 rfl rfl)
theorem dX0_times_144 : decode cX0_times 144 = .ok (.invokevirtual 233, 3) := dk_182 0 233 (dk_at dksX0_times_6 3 rfl rfl)
theorem dX0_times_147 : decode cX0_times 147 = .ok (.ireturn, 1) := dk_172 (dk_at dksX0_times_6 6 rfl rfl)
abbrev cX0_timesTerm : ByteArray := prog_1_method_21_code
def yX0_timesTerm : MethodName := ⟨RX0, "timesTerm", "(LIdealCourt$Poly;ILIdealCourt$Poly;)V"⟩
def dkwX0_timesTerm_4 : List UInt8 := [21, 5, 42, 180, 0, 71, 182, 1, 22, 16, 250, 182, 0, 229, 132, 4, 255, 167, 255, 159, 177]
abbrev dktX0_timesTerm_4 : List UInt8 := dkwX0_timesTerm_4 ++ []
def dkwX0_timesTerm_3 : List UInt8 := [42, 180, 0, 71, 182, 0, 252, 42, 180, 0, 71, 42, 180, 0, 64, 4, 182, 1, 4, 42, 42, 180, 0, 122]
abbrev dktX0_timesTerm_3 : List UInt8 := dkwX0_timesTerm_3 ++ dktX0_timesTerm_4
def dkwX0_timesTerm_2 : List UInt8 := [42, 180, 0, 64, 182, 0, 252, 42, 180, 0, 64, 42, 180, 0, 68, 182, 1, 49, 42, 180, 0, 122, 21, 5]
abbrev dktX0_timesTerm_2 : List UInt8 := dkwX0_timesTerm_2 ++ dktX0_timesTerm_3
def dkwX0_timesTerm_1 : List UInt8 := [182, 1, 12, 154, 0, 6, 167, 0, 80, 42, 180, 0, 22, 28, 21, 4, 182, 1, 45, 54, 5, 45, 21, 4]
abbrev dktX0_timesTerm_1 : List UInt8 := dkwX0_timesTerm_1 ++ dktX0_timesTerm_2
def dkwX0_timesTerm_0 : List UInt8 := [43, 28, 42, 180, 0, 68, 182, 0, 252, 17, 1, 198, 54, 4, 21, 4, 155, 0, 98, 45, 21, 4]
abbrev dktX0_timesTerm_0 : List UInt8 := dkwX0_timesTerm_0 ++ dktX0_timesTerm_1
theorem dksX0_timesTerm_0 : cX0_timesTerm.data.toList.drop 0 = dktX0_timesTerm_0 := by decide +kernel
theorem dksX0_timesTerm_1 : cX0_timesTerm.data.toList.drop 22 = dktX0_timesTerm_1 := dk_seg dksX0_timesTerm_0 22 rfl rfl
theorem dksX0_timesTerm_2 : cX0_timesTerm.data.toList.drop 46 = dktX0_timesTerm_2 := dk_seg dksX0_timesTerm_1 24 rfl rfl
theorem dksX0_timesTerm_3 : cX0_timesTerm.data.toList.drop 70 = dktX0_timesTerm_3 := dk_seg dksX0_timesTerm_2 24 rfl rfl
theorem dksX0_timesTerm_4 : cX0_timesTerm.data.toList.drop 94 = dktX0_timesTerm_4 := dk_seg dksX0_timesTerm_3 24 rfl rfl
theorem dX0_timesTerm_0 : decode cX0_timesTerm 0 = .ok (.aload_n 1, 1) := dk_43 (dk_at dksX0_timesTerm_0 0 rfl rfl)
theorem dX0_timesTerm_1 : decode cX0_timesTerm 1 = .ok (.iload_n 2, 1) := dk_28 (dk_at dksX0_timesTerm_0 1 rfl rfl)
theorem dX0_timesTerm_2 : decode cX0_timesTerm 2 = .ok (.aload_n 0, 1) := dk_42 (dk_at dksX0_timesTerm_0 2 rfl rfl)
theorem dX0_timesTerm_3 : decode cX0_timesTerm 3 = .ok (.getfield 68, 3) := dk_180 0 68 (dk_at dksX0_timesTerm_0 3 rfl rfl)
theorem dX0_timesTerm_6 : decode cX0_timesTerm 6 = .ok (.invokevirtual 252, 3) := dk_182 0 252 (dk_at dksX0_timesTerm_0 6 rfl rfl)
theorem dX0_timesTerm_9 : decode cX0_timesTerm 9 = .ok (.sipush 454, 3) := dk_17 1 198 (dk_at dksX0_timesTerm_0 9 rfl rfl)
theorem dX0_timesTerm_12 : decode cX0_timesTerm 12 = .ok (.istore 4, 2) := dk_54 4 (dk_at dksX0_timesTerm_0 12 rfl rfl)
theorem dX0_timesTerm_14 : decode cX0_timesTerm 14 = .ok (.iload 4, 2) := dk_21 4 (dk_at dksX0_timesTerm_0 14 rfl rfl)
theorem dX0_timesTerm_16 : decode cX0_timesTerm 16 = .ok (.ifCond .lt 98, 3) := dk_155 0 98 (dk_at dksX0_timesTerm_0 16 rfl rfl)
theorem dX0_timesTerm_19 : decode cX0_timesTerm 19 = .ok (.aload_n 3, 1) := dk_45 (dk_at dksX0_timesTerm_0 19 rfl rfl)
theorem dX0_timesTerm_20 : decode cX0_timesTerm 20 = .ok (.iload 4, 2) := dk_21 4 (dk_at dksX0_timesTerm_0 20 rfl rfl)
theorem dX0_timesTerm_22 : decode cX0_timesTerm 22 = .ok (.invokevirtual 268, 3) := dk_182 1 12 (dk_at dksX0_timesTerm_1 0 rfl rfl)
theorem dX0_timesTerm_25 : decode cX0_timesTerm 25 = .ok (.ifCond .ne 6, 3) := dk_154 0 6 (dk_at dksX0_timesTerm_1 3 rfl rfl)
theorem dX0_timesTerm_28 : decode cX0_timesTerm 28 = .ok (.goto 80, 3) := dk_167 0 80 (dk_at dksX0_timesTerm_1 6 rfl rfl)
theorem dX0_timesTerm_31 : decode cX0_timesTerm 31 = .ok (.aload_n 0, 1) := dk_42 (dk_at dksX0_timesTerm_1 9 rfl rfl)
theorem dX0_timesTerm_32 : decode cX0_timesTerm 32 = .ok (.getfield 22, 3) := dk_180 0 22 (dk_at dksX0_timesTerm_1 10 rfl rfl)
theorem dX0_timesTerm_35 : decode cX0_timesTerm 35 = .ok (.iload_n 2, 1) := dk_28 (dk_at dksX0_timesTerm_1 13 rfl rfl)
theorem dX0_timesTerm_36 : decode cX0_timesTerm 36 = .ok (.iload 4, 2) := dk_21 4 (dk_at dksX0_timesTerm_1 14 rfl rfl)
theorem dX0_timesTerm_38 : decode cX0_timesTerm 38 = .ok (.invokevirtual 301, 3) := dk_182 1 45 (dk_at dksX0_timesTerm_1 16 rfl rfl)
theorem dX0_timesTerm_41 : decode cX0_timesTerm 41 = .ok (.istore 5, 2) := dk_54 5 (dk_at dksX0_timesTerm_1 19 rfl rfl)
theorem dX0_timesTerm_43 : decode cX0_timesTerm 43 = .ok (.aload_n 3, 1) := dk_45 (dk_at dksX0_timesTerm_1 21 rfl rfl)
theorem dX0_timesTerm_44 : decode cX0_timesTerm 44 = .ok (.iload 4, 2) := dk_21 4 (dk_at dksX0_timesTerm_1 22 rfl rfl)
theorem dX0_timesTerm_46 : decode cX0_timesTerm 46 = .ok (.aload_n 0, 1) := dk_42 (dk_at dksX0_timesTerm_2 0 rfl rfl)
theorem dX0_timesTerm_47 : decode cX0_timesTerm 47 = .ok (.getfield 64, 3) := dk_180 0 64 (dk_at dksX0_timesTerm_2 1 rfl rfl)
theorem dX0_timesTerm_50 : decode cX0_timesTerm 50 = .ok (.invokevirtual 252, 3) := dk_182 0 252 (dk_at dksX0_timesTerm_2 4 rfl rfl)
theorem dX0_timesTerm_53 : decode cX0_timesTerm 53 = .ok (.aload_n 0, 1) := dk_42 (dk_at dksX0_timesTerm_2 7 rfl rfl)
theorem dX0_timesTerm_54 : decode cX0_timesTerm 54 = .ok (.getfield 64, 3) := dk_180 0 64 (dk_at dksX0_timesTerm_2 8 rfl rfl)
theorem dX0_timesTerm_57 : decode cX0_timesTerm 57 = .ok (.aload_n 0, 1) := dk_42 (dk_at dksX0_timesTerm_2 11 rfl rfl)
theorem dX0_timesTerm_58 : decode cX0_timesTerm 58 = .ok (.getfield 68, 3) := dk_180 0 68 (dk_at dksX0_timesTerm_2 12 rfl rfl)
theorem dX0_timesTerm_61 : decode cX0_timesTerm 61 = .ok (.invokevirtual 305, 3) := dk_182 1 49 (dk_at dksX0_timesTerm_2 15 rfl rfl)
theorem dX0_timesTerm_64 : decode cX0_timesTerm 64 = .ok (.aload_n 0, 1) := dk_42 (dk_at dksX0_timesTerm_2 18 rfl rfl)
theorem dX0_timesTerm_65 : decode cX0_timesTerm 65 = .ok (.getfield 122, 3) := dk_180 0 122 (dk_at dksX0_timesTerm_2 19 rfl rfl)
theorem dX0_timesTerm_68 : decode cX0_timesTerm 68 = .ok (.iload 5, 2) := dk_21 5 (dk_at dksX0_timesTerm_2 22 rfl rfl)
theorem dX0_timesTerm_70 : decode cX0_timesTerm 70 = .ok (.aload_n 0, 1) := dk_42 (dk_at dksX0_timesTerm_3 0 rfl rfl)
theorem dX0_timesTerm_71 : decode cX0_timesTerm 71 = .ok (.getfield 71, 3) := dk_180 0 71 (dk_at dksX0_timesTerm_3 1 rfl rfl)
theorem dX0_timesTerm_74 : decode cX0_timesTerm 74 = .ok (.invokevirtual 252, 3) := dk_182 0 252 (dk_at dksX0_timesTerm_3 4 rfl rfl)
theorem dX0_timesTerm_77 : decode cX0_timesTerm 77 = .ok (.aload_n 0, 1) := dk_42 (dk_at dksX0_timesTerm_3 7 rfl rfl)
theorem dX0_timesTerm_78 : decode cX0_timesTerm 78 = .ok (.getfield 71, 3) := dk_180 0 71 (dk_at dksX0_timesTerm_3 8 rfl rfl)
theorem dX0_timesTerm_81 : decode cX0_timesTerm 81 = .ok (.aload_n 0, 1) := dk_42 (dk_at dksX0_timesTerm_3 11 rfl rfl)
theorem dX0_timesTerm_82 : decode cX0_timesTerm 82 = .ok (.getfield 64, 3) := dk_180 0 64 (dk_at dksX0_timesTerm_3 12 rfl rfl)
theorem dX0_timesTerm_85 : decode cX0_timesTerm 85 = .ok (.iconst 1, 1) := dk_4 (dk_at dksX0_timesTerm_3 15 rfl rfl)
theorem dX0_timesTerm_86 : decode cX0_timesTerm 86 = .ok (.invokevirtual 260, 3) := dk_182 1 4 (dk_at dksX0_timesTerm_3 16 rfl rfl)
theorem dX0_timesTerm_89 : decode cX0_timesTerm 89 = .ok (.aload_n 0, 1) := dk_42 (dk_at dksX0_timesTerm_3 19 rfl rfl)
theorem dX0_timesTerm_90 : decode cX0_timesTerm 90 = .ok (.aload_n 0, 1) := dk_42 (dk_at dksX0_timesTerm_3 20 rfl rfl)
theorem dX0_timesTerm_91 : decode cX0_timesTerm 91 = .ok (.getfield 122, 3) := dk_180 0 122 (dk_at dksX0_timesTerm_3 21 rfl rfl)
theorem dX0_timesTerm_94 : decode cX0_timesTerm 94 = .ok (.iload 5, 2) := dk_21 5 (dk_at dksX0_timesTerm_4 0 rfl rfl)
theorem dX0_timesTerm_96 : decode cX0_timesTerm 96 = .ok (.aload_n 0, 1) := dk_42 (dk_at dksX0_timesTerm_4 2 rfl rfl)
theorem dX0_timesTerm_97 : decode cX0_timesTerm 97 = .ok (.getfield 71, 3) := dk_180 0 71 (dk_at dksX0_timesTerm_4 3 rfl rfl)
theorem dX0_timesTerm_100 : decode cX0_timesTerm 100 = .ok (.invokevirtual 278, 3) := dk_182 1 22 (dk_at dksX0_timesTerm_4 6 rfl rfl)
theorem dX0_timesTerm_103 : decode cX0_timesTerm 103 = .ok (.bipush (-6), 2) := dk_16 250 (dk_at dksX0_timesTerm_4 9 rfl rfl)
theorem dX0_timesTerm_105 : decode cX0_timesTerm 105 = .ok (.invokevirtual 229, 3) := dk_182 0 229 (dk_at dksX0_timesTerm_4 11 rfl rfl)
theorem dX0_timesTerm_108 : decode cX0_timesTerm 108 = .ok (.iinc 4 (-1), 3) := dk_132 4 255 (dk_at dksX0_timesTerm_4 14 rfl rfl)
theorem dX0_timesTerm_111 : decode cX0_timesTerm 111 = .ok (.goto (-97), 3) := dk_167 255 159 (dk_at dksX0_timesTerm_4 17 rfl rfl)
theorem dX0_timesTerm_114 : decode cX0_timesTerm 114 = .ok (.return_, 1) := dk_177 (dk_at dksX0_timesTerm_4 20 rfl rfl)
abbrev cX0_part : ByteArray := prog_1_method_24_code
def yX0_part : MethodName := ⟨RX0, "part", "(IIII)I"⟩
def dkwX0_part_7 : List UInt8 := [182, 0, 233, 172]
abbrev dktX0_part_7 : List UInt8 := dkwX0_part_7 ++ []
def dkwX0_part_6 : List UInt8 := [132, 10, 1, 167, 255, 215, 42, 42, 180, 0, 122, 25, 6, 182, 1, 29, 172, 58, 5, 42, 25, 5]
abbrev dktX0_part_6 : List UInt8 := dkwX0_part_6 ++ dktX0_part_7
def dkwX0_part_5 : List UInt8 := [42, 180, 0, 64, 182, 0, 252, 42, 180, 0, 122, 25, 7, 21, 10, 53, 42, 180, 0, 64, 182, 1, 22, 87]
abbrev dktX0_part_5 : List UInt8 := dkwX0_part_5 ++ dktX0_part_6
def dkwX0_part_4 : List UInt8 := [42, 180, 0, 122, 182, 0, 237, 3, 54, 10, 21, 10, 21, 4, 162, 0, 40, 25, 5, 25, 7, 21, 10, 53]
abbrev dktX0_part_4 : List UInt8 := dkwX0_part_4 ++ dktX0_part_5
def dkwX0_part_3 : List UInt8 := [132, 9, 1, 132, 10, 255, 167, 255, 224, 25, 8, 29, 25, 7, 21, 4, 42, 2, 182, 0, 178, 184, 1, 65]
abbrev dktX0_part_3 : List UInt8 := dkwX0_part_3 ++ dktX0_part_4
def dkwX0_part_2 : List UInt8 := [155, 0, 33, 25, 5, 21, 10, 182, 1, 12, 154, 0, 6, 167, 0, 14, 25, 8, 21, 9, 21, 10, 147, 86]
abbrev dktX0_part_2 : List UInt8 := dkwX0_part_2 ++ dktX0_part_3
def dkwX0_part_1 : List UInt8 := [184, 1, 62, 58, 7, 25, 5, 180, 0, 226, 188, 9, 58, 8, 3, 54, 9, 17, 1, 198, 54, 10, 21, 10]
abbrev dktX0_part_1 : List UInt8 := dkwX0_part_1 ++ dktX0_part_2
def dkwX0_part_0 : List UInt8 := [42, 27, 182, 0, 242, 58, 5, 42, 28, 182, 0, 190, 58, 6, 21, 4, 42, 16, 252, 182, 0, 178]
abbrev dktX0_part_0 : List UInt8 := dkwX0_part_0 ++ dktX0_part_1
theorem dksX0_part_0 : cX0_part.data.toList.drop 0 = dktX0_part_0 := by decide +kernel
theorem dksX0_part_1 : cX0_part.data.toList.drop 22 = dktX0_part_1 := dk_seg dksX0_part_0 22 rfl rfl
theorem dksX0_part_2 : cX0_part.data.toList.drop 46 = dktX0_part_2 := dk_seg dksX0_part_1 24 rfl rfl
theorem dksX0_part_3 : cX0_part.data.toList.drop 70 = dktX0_part_3 := dk_seg dksX0_part_2 24 rfl rfl
theorem dksX0_part_4 : cX0_part.data.toList.drop 94 = dktX0_part_4 := dk_seg dksX0_part_3 24 rfl rfl
theorem dksX0_part_5 : cX0_part.data.toList.drop 118 = dktX0_part_5 := dk_seg dksX0_part_4 24 rfl rfl
theorem dksX0_part_6 : cX0_part.data.toList.drop 142 = dktX0_part_6 := dk_seg dksX0_part_5 24 rfl rfl
theorem dksX0_part_7 : cX0_part.data.toList.drop 164 = dktX0_part_7 := dk_seg dksX0_part_6 22 rfl rfl
theorem dX0_part_0 : decode cX0_part 0 = .ok (.aload_n 0, 1) := dk_42 (dk_at dksX0_part_0 0 rfl rfl)
theorem dX0_part_1 : decode cX0_part 1 = .ok (.iload_n 1, 1) := dk_27 (dk_at dksX0_part_0 1 rfl rfl)
theorem dX0_part_2 : decode cX0_part 2 = .ok (.invokevirtual 242, 3) := dk_182 0 242 (dk_at dksX0_part_0 2 rfl rfl)
theorem dX0_part_5 : decode cX0_part 5 = .ok (.astore 5, 2) := dk_58 5 (dk_at dksX0_part_0 5 rfl rfl)
theorem dX0_part_7 : decode cX0_part 7 = .ok (.aload_n 0, 1) := dk_42 (dk_at dksX0_part_0 7 rfl rfl)
theorem dX0_part_8 : decode cX0_part 8 = .ok (.iload_n 2, 1) := dk_28 (dk_at dksX0_part_0 8 rfl rfl)
theorem dX0_part_9 : decode cX0_part 9 = .ok (.invokevirtual 190, 3) := dk_182 0 190 (dk_at dksX0_part_0 9 rfl rfl)
theorem dX0_part_12 : decode cX0_part 12 = .ok (.astore 6, 2) := dk_58 6 (dk_at dksX0_part_0 12 rfl rfl)
theorem dX0_part_14 : decode cX0_part 14 = .ok (.iload 4, 2) := dk_21 4 (dk_at dksX0_part_0 14 rfl rfl)
theorem dX0_part_16 : decode cX0_part 16 = .ok (.aload_n 0, 1) := dk_42 (dk_at dksX0_part_0 16 rfl rfl)
theorem dX0_part_17 : decode cX0_part 17 = .ok (.bipush (-4), 2) := dk_16 252 (dk_at dksX0_part_0 17 rfl rfl)
theorem dX0_part_19 : decode cX0_part 19 = .ok (.invokevirtual 178, 3) := dk_182 0 178 (dk_at dksX0_part_0 19 rfl rfl)
theorem dX0_part_22 : decode cX0_part 22 = .ok (.invokestatic 318, 3) := dk_184 1 62 (dk_at dksX0_part_1 0 rfl rfl)
theorem dX0_part_25 : decode cX0_part 25 = .ok (.astore 7, 2) := dk_58 7 (dk_at dksX0_part_1 3 rfl rfl)
theorem dX0_part_27 : decode cX0_part 27 = .ok (.aload 5, 2) := dk_25 5 (dk_at dksX0_part_1 5 rfl rfl)
theorem dX0_part_29 : decode cX0_part 29 = .ok (.getfield 226, 3) := dk_180 0 226 (dk_at dksX0_part_1 7 rfl rfl)
theorem dX0_part_32 : decode cX0_part 32 = .ok (.newarray .short, 2) := dk_188_9 (dk_at dksX0_part_1 10 rfl rfl)
theorem dX0_part_34 : decode cX0_part 34 = .ok (.astore 8, 2) := dk_58 8 (dk_at dksX0_part_1 12 rfl rfl)
theorem dX0_part_36 : decode cX0_part 36 = .ok (.iconst 0, 1) := dk_3 (dk_at dksX0_part_1 14 rfl rfl)
theorem dX0_part_37 : decode cX0_part 37 = .ok (.istore 9, 2) := dk_54 9 (dk_at dksX0_part_1 15 rfl rfl)
theorem dX0_part_39 : decode cX0_part 39 = .ok (.sipush 454, 3) := dk_17 1 198 (dk_at dksX0_part_1 17 rfl rfl)
theorem dX0_part_42 : decode cX0_part 42 = .ok (.istore 10, 2) := dk_54 10 (dk_at dksX0_part_1 20 rfl rfl)
theorem dX0_part_44 : decode cX0_part 44 = .ok (.iload 10, 2) := dk_21 10 (dk_at dksX0_part_1 22 rfl rfl)
theorem dX0_part_46 : decode cX0_part 46 = .ok (.ifCond .lt 33, 3) := dk_155 0 33 (dk_at dksX0_part_2 0 rfl rfl)
theorem dX0_part_49 : decode cX0_part 49 = .ok (.aload 5, 2) := dk_25 5 (dk_at dksX0_part_2 3 rfl rfl)
theorem dX0_part_51 : decode cX0_part 51 = .ok (.iload 10, 2) := dk_21 10 (dk_at dksX0_part_2 5 rfl rfl)
theorem dX0_part_53 : decode cX0_part 53 = .ok (.invokevirtual 268, 3) := dk_182 1 12 (dk_at dksX0_part_2 7 rfl rfl)
theorem dX0_part_56 : decode cX0_part 56 = .ok (.ifCond .ne 6, 3) := dk_154 0 6 (dk_at dksX0_part_2 10 rfl rfl)
theorem dX0_part_59 : decode cX0_part 59 = .ok (.goto 14, 3) := dk_167 0 14 (dk_at dksX0_part_2 13 rfl rfl)
theorem dX0_part_62 : decode cX0_part 62 = .ok (.aload 8, 2) := dk_25 8 (dk_at dksX0_part_2 16 rfl rfl)
theorem dX0_part_64 : decode cX0_part 64 = .ok (.iload 9, 2) := dk_21 9 (dk_at dksX0_part_2 18 rfl rfl)
theorem dX0_part_66 : decode cX0_part 66 = .ok (.iload 10, 2) := dk_21 10 (dk_at dksX0_part_2 20 rfl rfl)
theorem dX0_part_68 : decode cX0_part 68 = .ok (.i2s, 1) := dk_147 (dk_at dksX0_part_2 22 rfl rfl)
theorem dX0_part_69 : decode cX0_part 69 = .ok (.sastore, 1) := dk_86 (dk_at dksX0_part_2 23 rfl rfl)
theorem dX0_part_70 : decode cX0_part 70 = .ok (.iinc 9 1, 3) := dk_132 9 1 (dk_at dksX0_part_3 0 rfl rfl)
theorem dX0_part_73 : decode cX0_part 73 = .ok (.iinc 10 (-1), 3) := dk_132 10 255 (dk_at dksX0_part_3 3 rfl rfl)
theorem dX0_part_76 : decode cX0_part 76 = .ok (.goto (-32), 3) := dk_167 255 224 (dk_at dksX0_part_3 6 rfl rfl)
theorem dX0_part_79 : decode cX0_part 79 = .ok (.aload 8, 2) := dk_25 8 (dk_at dksX0_part_3 9 rfl rfl)
theorem dX0_part_81 : decode cX0_part 81 = .ok (.iload_n 3, 1) := dk_29 (dk_at dksX0_part_3 11 rfl rfl)
theorem dX0_part_82 : decode cX0_part 82 = .ok (.aload 7, 2) := dk_25 7 (dk_at dksX0_part_3 12 rfl rfl)
theorem dX0_part_84 : decode cX0_part 84 = .ok (.iload 4, 2) := dk_21 4 (dk_at dksX0_part_3 14 rfl rfl)
theorem dX0_part_86 : decode cX0_part 86 = .ok (.aload_n 0, 1) := dk_42 (dk_at dksX0_part_3 16 rfl rfl)
theorem dX0_part_87 : decode cX0_part 87 = .ok (.iconst (-1), 1) := dk_2 (dk_at dksX0_part_3 17 rfl rfl)
theorem dX0_part_88 : decode cX0_part 88 = .ok (.invokevirtual 178, 3) := dk_182 0 178 (dk_at dksX0_part_3 18 rfl rfl)
theorem dX0_part_91 : decode cX0_part 91 = .ok (.invokestatic 321, 3) := dk_184 1 65 (dk_at dksX0_part_3 21 rfl rfl)
theorem dX0_part_94 : decode cX0_part 94 = .ok (.aload_n 0, 1) := dk_42 (dk_at dksX0_part_4 0 rfl rfl)
theorem dX0_part_95 : decode cX0_part 95 = .ok (.getfield 122, 3) := dk_180 0 122 (dk_at dksX0_part_4 1 rfl rfl)
theorem dX0_part_98 : decode cX0_part 98 = .ok (.invokevirtual 237, 3) := dk_182 0 237 (dk_at dksX0_part_4 4 rfl rfl)
theorem dX0_part_101 : decode cX0_part 101 = .ok (.iconst 0, 1) := dk_3 (dk_at dksX0_part_4 7 rfl rfl)
theorem dX0_part_102 : decode cX0_part 102 = .ok (.istore 10, 2) := dk_54 10 (dk_at dksX0_part_4 8 rfl rfl)
theorem dX0_part_104 : decode cX0_part 104 = .ok (.iload 10, 2) := dk_21 10 (dk_at dksX0_part_4 10 rfl rfl)
theorem dX0_part_106 : decode cX0_part 106 = .ok (.iload 4, 2) := dk_21 4 (dk_at dksX0_part_4 12 rfl rfl)
theorem dX0_part_108 : decode cX0_part 108 = .ok (.if_icmp .ge 40, 3) := dk_162 0 40 (dk_at dksX0_part_4 14 rfl rfl)
theorem dX0_part_111 : decode cX0_part 111 = .ok (.aload 5, 2) := dk_25 5 (dk_at dksX0_part_4 17 rfl rfl)
theorem dX0_part_113 : decode cX0_part 113 = .ok (.aload 7, 2) := dk_25 7 (dk_at dksX0_part_4 19 rfl rfl)
theorem dX0_part_115 : decode cX0_part 115 = .ok (.iload 10, 2) := dk_21 10 (dk_at dksX0_part_4 21 rfl rfl)
theorem dX0_part_117 : decode cX0_part 117 = .ok (.saload, 1) := dk_53 (dk_at dksX0_part_4 23 rfl rfl)
theorem dX0_part_118 : decode cX0_part 118 = .ok (.aload_n 0, 1) := dk_42 (dk_at dksX0_part_5 0 rfl rfl)
theorem dX0_part_119 : decode cX0_part 119 = .ok (.getfield 64, 3) := dk_180 0 64 (dk_at dksX0_part_5 1 rfl rfl)
theorem dX0_part_122 : decode cX0_part 122 = .ok (.invokevirtual 252, 3) := dk_182 0 252 (dk_at dksX0_part_5 4 rfl rfl)
theorem dX0_part_125 : decode cX0_part 125 = .ok (.aload_n 0, 1) := dk_42 (dk_at dksX0_part_5 7 rfl rfl)
theorem dX0_part_126 : decode cX0_part 126 = .ok (.getfield 122, 3) := dk_180 0 122 (dk_at dksX0_part_5 8 rfl rfl)
theorem dX0_part_129 : decode cX0_part 129 = .ok (.aload 7, 2) := dk_25 7 (dk_at dksX0_part_5 11 rfl rfl)
theorem dX0_part_131 : decode cX0_part 131 = .ok (.iload 10, 2) := dk_21 10 (dk_at dksX0_part_5 13 rfl rfl)
theorem dX0_part_133 : decode cX0_part 133 = .ok (.saload, 1) := dk_53 (dk_at dksX0_part_5 15 rfl rfl)
theorem dX0_part_134 : decode cX0_part 134 = .ok (.aload_n 0, 1) := dk_42 (dk_at dksX0_part_5 16 rfl rfl)
theorem dX0_part_135 : decode cX0_part 135 = .ok (.getfield 64, 3) := dk_180 0 64 (dk_at dksX0_part_5 17 rfl rfl)
theorem dX0_part_138 : decode cX0_part 138 = .ok (.invokevirtual 278, 3) := dk_182 1 22 (dk_at dksX0_part_5 20 rfl rfl)
theorem dX0_part_141 : decode cX0_part 141 = .ok (.pop, 1) := dk_87 (dk_at dksX0_part_5 23 rfl rfl)
theorem dX0_part_142 : decode cX0_part 142 = .ok (.iinc 10 1, 3) := dk_132 10 1 (dk_at dksX0_part_6 0 rfl rfl)
theorem dX0_part_145 : decode cX0_part 145 = .ok (.goto (-41), 3) := dk_167 255 215 (dk_at dksX0_part_6 3 rfl rfl)
theorem dX0_part_148 : decode cX0_part 148 = .ok (.aload_n 0, 1) := dk_42 (dk_at dksX0_part_6 6 rfl rfl)
theorem dX0_part_149 : decode cX0_part 149 = .ok (.aload_n 0, 1) := dk_42 (dk_at dksX0_part_6 7 rfl rfl)
theorem dX0_part_150 : decode cX0_part 150 = .ok (.getfield 122, 3) := dk_180 0 122 (dk_at dksX0_part_6 8 rfl rfl)
theorem dX0_part_153 : decode cX0_part 153 = .ok (.aload 6, 2) := dk_25 6 (dk_at dksX0_part_6 11 rfl rfl)
theorem dX0_part_155 : decode cX0_part 155 = .ok (.invokevirtual 285, 3) := dk_182 1 29 (dk_at dksX0_part_6 13 rfl rfl)
theorem dX0_part_158 : decode cX0_part 158 = .ok (.ireturn, 1) := dk_172 (dk_at dksX0_part_6 16 rfl rfl)
theorem dX0_part_159 : decode cX0_part 159 = .ok (.astore 5, 2) := dk_58 5 (dk_at dksX0_part_6 17 rfl rfl)
theorem dX0_part_161 : decode cX0_part 161 = .ok (.aload_n 0, 1) := dk_42 (dk_at dksX0_part_6 19 rfl rfl)
theorem dX0_part_162 : decode cX0_part 162 = .ok (.aload 5, 2) := dk_25 5 (dk_at dksX0_part_6 20 rfl rfl)
theorem dX0_part_164 : decode cX0_part 164 = .ok (.invokevirtual 233, 3) := dk_182 0 233 (dk_at dksX0_part_7 0 rfl rfl)
theorem dX0_part_167 : decode cX0_part 167 = .ok (.ireturn, 1) := dk_172 (dk_at dksX0_part_7 3 rfl rfl)
abbrev cX0_row : ByteArray := prog_1_method_22_code
def yX0_row : MethodName := ⟨RX0, "row", "(ILIdealCourt$Failure;)[S"⟩
def dkwX0_row_0 : List UInt8 := [26, 16, 60, 164, 0, 8, 16, 61, 167, 0, 4, 26, 188, 9, 176, 77, 43, 191]
abbrev dktX0_row_0 : List UInt8 := dkwX0_row_0 ++ []
theorem dksX0_row_0 : cX0_row.data.toList.drop 0 = dktX0_row_0 := by decide +kernel
theorem dX0_row_0 : decode cX0_row 0 = .ok (.iload_n 0, 1) := dk_26 (dk_at dksX0_row_0 0 rfl rfl)
theorem dX0_row_1 : decode cX0_row 1 = .ok (.bipush 60, 2) := dk_16 60 (dk_at dksX0_row_0 1 rfl rfl)
theorem dX0_row_3 : decode cX0_row 3 = .ok (.if_icmp .le 8, 3) := dk_164 0 8 (dk_at dksX0_row_0 3 rfl rfl)
theorem dX0_row_6 : decode cX0_row 6 = .ok (.bipush 61, 2) := dk_16 61 (dk_at dksX0_row_0 6 rfl rfl)
theorem dX0_row_8 : decode cX0_row 8 = .ok (.goto 4, 3) := dk_167 0 4 (dk_at dksX0_row_0 8 rfl rfl)
theorem dX0_row_11 : decode cX0_row 11 = .ok (.iload_n 0, 1) := dk_26 (dk_at dksX0_row_0 11 rfl rfl)
theorem dX0_row_12 : decode cX0_row 12 = .ok (.newarray .short, 2) := dk_188_9 (dk_at dksX0_row_0 12 rfl rfl)
theorem dX0_row_14 : decode cX0_row 14 = .ok (.areturn, 1) := dk_176 (dk_at dksX0_row_0 14 rfl rfl)
theorem dX0_row_15 : decode cX0_row 15 = .ok (.astore_n 2, 1) := dk_77 (dk_at dksX0_row_0 15 rfl rfl)
theorem dX0_row_16 : decode cX0_row 16 = .ok (.aload_n 1, 1) := dk_43 (dk_at dksX0_row_0 16 rfl rfl)
theorem dX0_row_17 : decode cX0_row 17 = .ok (.athrow, 1) := dk_191 (dk_at dksX0_row_0 17 rfl rfl)
abbrev cX0_copy : ByteArray := prog_1_method_23_code
def yX0_copy : MethodName := ⟨RX0, "copy", "([SI[SILIdealCourt$Failure;)V"⟩
def dkwX0_copy_0 : List UInt8 := [42, 27, 44, 3, 29, 184, 1, 54, 167, 0, 8, 58, 5, 25, 4, 191, 177]
abbrev dktX0_copy_0 : List UInt8 := dkwX0_copy_0 ++ []
theorem dksX0_copy_0 : cX0_copy.data.toList.drop 0 = dktX0_copy_0 := by decide +kernel
theorem dX0_copy_0 : decode cX0_copy 0 = .ok (.aload_n 0, 1) := dk_42 (dk_at dksX0_copy_0 0 rfl rfl)
theorem dX0_copy_1 : decode cX0_copy 1 = .ok (.iload_n 1, 1) := dk_27 (dk_at dksX0_copy_0 1 rfl rfl)
theorem dX0_copy_2 : decode cX0_copy 2 = .ok (.aload_n 2, 1) := dk_44 (dk_at dksX0_copy_0 2 rfl rfl)
theorem dX0_copy_3 : decode cX0_copy 3 = .ok (.iconst 0, 1) := dk_3 (dk_at dksX0_copy_0 3 rfl rfl)
theorem dX0_copy_4 : decode cX0_copy 4 = .ok (.iload_n 3, 1) := dk_29 (dk_at dksX0_copy_0 4 rfl rfl)
theorem dX0_copy_5 : decode cX0_copy 5 = .ok (.invokestatic 310, 3) := dk_184 1 54 (dk_at dksX0_copy_0 5 rfl rfl)
theorem dX0_copy_8 : decode cX0_copy 8 = .ok (.goto 8, 3) := dk_167 0 8 (dk_at dksX0_copy_0 8 rfl rfl)
theorem dX0_copy_11 : decode cX0_copy 11 = .ok (.astore 5, 2) := dk_58 5 (dk_at dksX0_copy_0 11 rfl rfl)
theorem dX0_copy_13 : decode cX0_copy 13 = .ok (.aload 4, 2) := dk_25 4 (dk_at dksX0_copy_0 13 rfl rfl)
theorem dX0_copy_15 : decode cX0_copy 15 = .ok (.athrow, 1) := dk_191 (dk_at dksX0_copy_0 15 rfl rfl)
theorem dX0_copy_16 : decode cX0_copy 16 = .ok (.return_, 1) := dk_177 (dk_at dksX0_copy_0 16 rfl rfl)
abbrev cX0_size : ByteArray := prog_1_method_25_code
def yX0_size : MethodName := ⟨RX0, "size", "(IZ)I"⟩
def dkwX0_size_2 : List UInt8 := [172, 78, 42, 45, 182, 0, 233, 172]
abbrev dktX0_size_2 : List UInt8 := dkwX0_size_2 ++ []
def dkwX0_size_1 : List UInt8 := [16, 249, 182, 0, 229, 28, 153, 0, 14, 45, 42, 180, 0, 22, 182, 1, 37, 167, 0, 7, 45, 180, 0, 226]
abbrev dktX0_size_1 : List UInt8 := dkwX0_size_1 ++ dktX0_size_2
def dkwX0_size_0 : List UInt8 := [42, 27, 182, 0, 242, 78, 42, 28, 153, 0, 10, 45, 180, 0, 226, 158, 0, 7, 4, 167, 0, 4, 3]
abbrev dktX0_size_0 : List UInt8 := dkwX0_size_0 ++ dktX0_size_1
theorem dksX0_size_0 : cX0_size.data.toList.drop 0 = dktX0_size_0 := by decide +kernel
theorem dksX0_size_1 : cX0_size.data.toList.drop 23 = dktX0_size_1 := dk_seg dksX0_size_0 23 rfl rfl
theorem dksX0_size_2 : cX0_size.data.toList.drop 47 = dktX0_size_2 := dk_seg dksX0_size_1 24 rfl rfl
theorem dX0_size_0 : decode cX0_size 0 = .ok (.aload_n 0, 1) := dk_42 (dk_at dksX0_size_0 0 rfl rfl)
theorem dX0_size_1 : decode cX0_size 1 = .ok (.iload_n 1, 1) := dk_27 (dk_at dksX0_size_0 1 rfl rfl)
theorem dX0_size_2 : decode cX0_size 2 = .ok (.invokevirtual 242, 3) := dk_182 0 242 (dk_at dksX0_size_0 2 rfl rfl)
theorem dX0_size_5 : decode cX0_size 5 = .ok (.astore_n 3, 1) := dk_78 (dk_at dksX0_size_0 5 rfl rfl)
theorem dX0_size_6 : decode cX0_size 6 = .ok (.aload_n 0, 1) := dk_42 (dk_at dksX0_size_0 6 rfl rfl)
theorem dX0_size_7 : decode cX0_size 7 = .ok (.iload_n 2, 1) := dk_28 (dk_at dksX0_size_0 7 rfl rfl)
theorem dX0_size_8 : decode cX0_size 8 = .ok (.ifCond .eq 10, 3) := dk_153 0 10 (dk_at dksX0_size_0 8 rfl rfl)
theorem dX0_size_11 : decode cX0_size 11 = .ok (.aload_n 3, 1) := dk_45 (dk_at dksX0_size_0 11 rfl rfl)
theorem dX0_size_12 : decode cX0_size 12 = .ok (.getfield 226, 3) := dk_180 0 226 (dk_at dksX0_size_0 12 rfl rfl)
theorem dX0_size_15 : decode cX0_size 15 = .ok (.ifCond .le 7, 3) := dk_158 0 7 (dk_at dksX0_size_0 15 rfl rfl)
theorem dX0_size_18 : decode cX0_size 18 = .ok (.iconst 1, 1) := dk_4 (dk_at dksX0_size_0 18 rfl rfl)
theorem dX0_size_19 : decode cX0_size 19 = .ok (.goto 4, 3) := dk_167 0 4 (dk_at dksX0_size_0 19 rfl rfl)
theorem dX0_size_22 : decode cX0_size 22 = .ok (.iconst 0, 1) := dk_3 (dk_at dksX0_size_0 22 rfl rfl)
theorem dX0_size_23 : decode cX0_size 23 = .ok (.bipush (-7), 2) := dk_16 249 (dk_at dksX0_size_1 0 rfl rfl)
theorem dX0_size_25 : decode cX0_size 25 = .ok (.invokevirtual 229, 3) := dk_182 0 229 (dk_at dksX0_size_1 2 rfl rfl)
theorem dX0_size_28 : decode cX0_size 28 = .ok (.iload_n 2, 1) := dk_28 (dk_at dksX0_size_1 5 rfl rfl)
theorem dX0_size_29 : decode cX0_size 29 = .ok (.ifCond .eq 14, 3) := dk_153 0 14 (dk_at dksX0_size_1 6 rfl rfl)
theorem dX0_size_32 : decode cX0_size 32 = .ok (.aload_n 3, 1) := dk_45 (dk_at dksX0_size_1 9 rfl rfl)
theorem dX0_size_33 : decode cX0_size 33 = .ok (.aload_n 0, 1) := dk_42 (dk_at dksX0_size_1 10 rfl rfl)
theorem dX0_size_34 : decode cX0_size 34 = .ok (.getfield 22, 3) := dk_180 0 22 (dk_at dksX0_size_1 11 rfl rfl)
theorem dX0_size_37 : decode cX0_size 37 = .ok (.invokevirtual 293, 3) := dk_182 1 37 (dk_at dksX0_size_1 14 rfl rfl)
theorem dX0_size_40 : decode cX0_size 40 = .ok (.goto 7, 3) := dk_167 0 7 (dk_at dksX0_size_1 17 rfl rfl)
theorem dX0_size_43 : decode cX0_size 43 = .ok (.aload_n 3, 1) := dk_45 (dk_at dksX0_size_1 20 rfl rfl)
theorem dX0_size_44 : decode cX0_size 44 = .ok (.getfield 226, 3) := dk_180 0 226 (dk_at dksX0_size_1 21 rfl rfl)
theorem dX0_size_47 : decode cX0_size 47 = .ok (.ireturn, 1) := dk_172 (dk_at dksX0_size_2 0 rfl rfl)
theorem dX0_size_48 : decode cX0_size 48 = .ok (.astore_n 3, 1) := dk_78 (dk_at dksX0_size_2 1 rfl rfl)
theorem dX0_size_49 : decode cX0_size 49 = .ok (.aload_n 0, 1) := dk_42 (dk_at dksX0_size_2 2 rfl rfl)
theorem dX0_size_50 : decode cX0_size 50 = .ok (.aload_n 3, 1) := dk_45 (dk_at dksX0_size_2 3 rfl rfl)
theorem dX0_size_51 : decode cX0_size 51 = .ok (.invokevirtual 233, 3) := dk_182 0 233 (dk_at dksX0_size_2 4 rfl rfl)
theorem dX0_size_54 : decode cX0_size 54 = .ok (.ireturn, 1) := dk_172 (dk_at dksX0_size_2 7 rfl rfl)
abbrev cX0_lead : ByteArray := prog_1_method_26_code
def yX0_lead : MethodName := ⟨RX0, "lead", "(II)I"⟩
def dkwX0_lead_2 : List UInt8 := [42, 45, 182, 0, 233, 172]
abbrev dktX0_lead_2 : List UInt8 := dkwX0_lead_2 ++ []
def dkwX0_lead_1 : List UInt8 := [167, 0, 4, 3, 16, 249, 182, 0, 229, 42, 180, 0, 22, 45, 25, 4, 182, 1, 73, 182, 1, 77, 172, 78]
abbrev dktX0_lead_1 : List UInt8 := dkwX0_lead_1 ++ dktX0_lead_2
def dkwX0_lead_0 : List UInt8 := [42, 27, 182, 0, 242, 78, 42, 28, 182, 1, 69, 58, 4, 42, 45, 180, 0, 226, 158, 0, 7, 4]
abbrev dktX0_lead_0 : List UInt8 := dkwX0_lead_0 ++ dktX0_lead_1
theorem dksX0_lead_0 : cX0_lead.data.toList.drop 0 = dktX0_lead_0 := by decide +kernel
theorem dksX0_lead_1 : cX0_lead.data.toList.drop 22 = dktX0_lead_1 := dk_seg dksX0_lead_0 22 rfl rfl
theorem dksX0_lead_2 : cX0_lead.data.toList.drop 46 = dktX0_lead_2 := dk_seg dksX0_lead_1 24 rfl rfl
theorem dX0_lead_0 : decode cX0_lead 0 = .ok (.aload_n 0, 1) := dk_42 (dk_at dksX0_lead_0 0 rfl rfl)
theorem dX0_lead_1 : decode cX0_lead 1 = .ok (.iload_n 1, 1) := dk_27 (dk_at dksX0_lead_0 1 rfl rfl)
theorem dX0_lead_2 : decode cX0_lead 2 = .ok (.invokevirtual 242, 3) := dk_182 0 242 (dk_at dksX0_lead_0 2 rfl rfl)
theorem dX0_lead_5 : decode cX0_lead 5 = .ok (.astore_n 3, 1) := dk_78 (dk_at dksX0_lead_0 5 rfl rfl)
theorem dX0_lead_6 : decode cX0_lead 6 = .ok (.aload_n 0, 1) := dk_42 (dk_at dksX0_lead_0 6 rfl rfl)
theorem dX0_lead_7 : decode cX0_lead 7 = .ok (.iload_n 2, 1) := dk_28 (dk_at dksX0_lead_0 7 rfl rfl)
theorem dX0_lead_8 : decode cX0_lead 8 = .ok (.invokevirtual 325, 3) := dk_182 1 69 (dk_at dksX0_lead_0 8 rfl rfl)
theorem dX0_lead_11 : decode cX0_lead 11 = .ok (.astore 4, 2) := dk_58 4 (dk_at dksX0_lead_0 11 rfl rfl)
theorem dX0_lead_13 : decode cX0_lead 13 = .ok (.aload_n 0, 1) := dk_42 (dk_at dksX0_lead_0 13 rfl rfl)
theorem dX0_lead_14 : decode cX0_lead 14 = .ok (.aload_n 3, 1) := dk_45 (dk_at dksX0_lead_0 14 rfl rfl)
theorem dX0_lead_15 : decode cX0_lead 15 = .ok (.getfield 226, 3) := dk_180 0 226 (dk_at dksX0_lead_0 15 rfl rfl)
theorem dX0_lead_18 : decode cX0_lead 18 = .ok (.ifCond .le 7, 3) := dk_158 0 7 (dk_at dksX0_lead_0 18 rfl rfl)
theorem dX0_lead_21 : decode cX0_lead 21 = .ok (.iconst 1, 1) := dk_4 (dk_at dksX0_lead_0 21 rfl rfl)
theorem dX0_lead_22 : decode cX0_lead 22 = .ok (.goto 4, 3) := dk_167 0 4 (dk_at dksX0_lead_1 0 rfl rfl)
theorem dX0_lead_25 : decode cX0_lead 25 = .ok (.iconst 0, 1) := dk_3 (dk_at dksX0_lead_1 3 rfl rfl)
theorem dX0_lead_26 : decode cX0_lead 26 = .ok (.bipush (-7), 2) := dk_16 249 (dk_at dksX0_lead_1 4 rfl rfl)
theorem dX0_lead_28 : decode cX0_lead 28 = .ok (.invokevirtual 229, 3) := dk_182 0 229 (dk_at dksX0_lead_1 6 rfl rfl)
theorem dX0_lead_31 : decode cX0_lead 31 = .ok (.aload_n 0, 1) := dk_42 (dk_at dksX0_lead_1 9 rfl rfl)
theorem dX0_lead_32 : decode cX0_lead 32 = .ok (.getfield 22, 3) := dk_180 0 22 (dk_at dksX0_lead_1 10 rfl rfl)
theorem dX0_lead_35 : decode cX0_lead 35 = .ok (.aload_n 3, 1) := dk_45 (dk_at dksX0_lead_1 13 rfl rfl)
theorem dX0_lead_36 : decode cX0_lead 36 = .ok (.aload 4, 2) := dk_25 4 (dk_at dksX0_lead_1 14 rfl rfl)
theorem dX0_lead_38 : decode cX0_lead 38 = .ok (.invokevirtual 329, 3) := dk_182 1 73 (dk_at dksX0_lead_1 16 rfl rfl)
theorem dX0_lead_41 : decode cX0_lead 41 = .ok (.invokevirtual 333, 3) := dk_182 1 77 (dk_at dksX0_lead_1 19 rfl rfl)
theorem dX0_lead_44 : decode cX0_lead 44 = .ok (.ireturn, 1) := dk_172 (dk_at dksX0_lead_1 22 rfl rfl)
theorem dX0_lead_45 : decode cX0_lead 45 = .ok (.astore_n 3, 1) := dk_78 (dk_at dksX0_lead_1 23 rfl rfl)
theorem dX0_lead_46 : decode cX0_lead 46 = .ok (.aload_n 0, 1) := dk_42 (dk_at dksX0_lead_2 0 rfl rfl)
theorem dX0_lead_47 : decode cX0_lead 47 = .ok (.aload_n 3, 1) := dk_45 (dk_at dksX0_lead_2 1 rfl rfl)
theorem dX0_lead_48 : decode cX0_lead 48 = .ok (.invokevirtual 233, 3) := dk_182 0 233 (dk_at dksX0_lead_2 2 rfl rfl)
theorem dX0_lead_51 : decode cX0_lead 51 = .ok (.ireturn, 1) := dk_172 (dk_at dksX0_lead_2 5 rfl rfl)
abbrev cX0_orderAt : ByteArray := prog_1_method_9_code
def yX0_orderAt : MethodName := ⟨RX0, "orderAt", "(I)LIdealCourt$Lex;"⟩
def dkwX0_orderAt_0 : List UInt8 := [42, 27, 182, 0, 210, 77, 44, 192, 0, 95, 176, 78, 42, 16, 253, 182, 0, 178, 191]
abbrev dktX0_orderAt_0 : List UInt8 := dkwX0_orderAt_0 ++ []
theorem dksX0_orderAt_0 : cX0_orderAt.data.toList.drop 0 = dktX0_orderAt_0 := by decide +kernel
theorem dX0_orderAt_0 : decode cX0_orderAt 0 = .ok (.aload_n 0, 1) := dk_42 (dk_at dksX0_orderAt_0 0 rfl rfl)
theorem dX0_orderAt_1 : decode cX0_orderAt 1 = .ok (.iload_n 1, 1) := dk_27 (dk_at dksX0_orderAt_0 1 rfl rfl)
theorem dX0_orderAt_2 : decode cX0_orderAt 2 = .ok (.invokevirtual 210, 3) := dk_182 0 210 (dk_at dksX0_orderAt_0 2 rfl rfl)
theorem dX0_orderAt_5 : decode cX0_orderAt 5 = .ok (.astore_n 2, 1) := dk_77 (dk_at dksX0_orderAt_0 5 rfl rfl)
theorem dX0_orderAt_6 : decode cX0_orderAt 6 = .ok (.aload_n 2, 1) := dk_44 (dk_at dksX0_orderAt_0 6 rfl rfl)
theorem dX0_orderAt_7 : decode cX0_orderAt 7 = .ok (.checkcast 95, 3) := dk_192 0 95 (dk_at dksX0_orderAt_0 7 rfl rfl)
theorem dX0_orderAt_10 : decode cX0_orderAt 10 = .ok (.areturn, 1) := dk_176 (dk_at dksX0_orderAt_0 10 rfl rfl)
theorem dX0_orderAt_11 : decode cX0_orderAt 11 = .ok (.astore_n 3, 1) := dk_78 (dk_at dksX0_orderAt_0 11 rfl rfl)
theorem dX0_orderAt_12 : decode cX0_orderAt 12 = .ok (.aload_n 0, 1) := dk_42 (dk_at dksX0_orderAt_0 12 rfl rfl)
theorem dX0_orderAt_13 : decode cX0_orderAt 13 = .ok (.bipush (-3), 2) := dk_16 253 (dk_at dksX0_orderAt_0 13 rfl rfl)
theorem dX0_orderAt_15 : decode cX0_orderAt 15 = .ok (.invokevirtual 178, 3) := dk_182 0 178 (dk_at dksX0_orderAt_0 15 rfl rfl)
theorem dX0_orderAt_18 : decode cX0_orderAt 18 = .ok (.athrow, 1) := dk_191 (dk_at dksX0_orderAt_0 18 rfl rfl)
abbrev cX0_write : ByteArray := prog_1_method_33_code
def yX0_write : MethodName := ⟨RX0, "write", "(II)I"⟩
def dkwX0_write_7 : List UInt8 := [192, 0, 7, 180, 0, 182, 100, 182, 1, 87, 42, 180, 1, 81, 172, 78, 42, 45, 182, 0, 233, 172]
abbrev dktX0_write_7 : List UInt8 := dkwX0_write_7 ++ []
def dkwX0_write_6 : List UInt8 := [42, 45, 192, 0, 154, 4, 182, 1, 160, 167, 0, 23, 42, 16, 45, 182, 1, 87, 42, 16, 48, 45]
abbrev dktX0_write_6 : List UInt8 := dkwX0_write_6 ++ dktX0_write_7
def dkwX0_write_5 : List UInt8 := [132, 6, 1, 167, 255, 232, 167, 0, 50, 42, 45, 192, 0, 154, 3, 182, 1, 160, 42, 16, 32, 182, 1, 87]
abbrev dktX0_write_5 : List UInt8 := dkwX0_write_5 ++ dktX0_write_6
def dkwX0_write_4 : List UInt8 := [3, 54, 6, 21, 6, 25, 5, 182, 1, 151, 162, 0, 20, 42, 25, 5, 21, 6, 182, 1, 156, 182, 1, 87]
abbrev dktX0_write_4 : List UInt8 := dkwX0_write_4 ++ dktX0_write_5
def dkwX0_write_3 : List UInt8 := [42, 45, 192, 0, 119, 25, 4, 182, 1, 141, 167, 0, 94, 45, 192, 1, 145, 185, 1, 147, 1, 0, 58, 5]
abbrev dktX0_write_3 : List UInt8 := dkwX0_write_3 ++ dktX0_write_4
def dkwX0_write_2 : List UInt8 := [170, 0, 0, 0, 0, 0, 111, 0, 0, 0, 1, 0, 0, 0, 3, 0, 0, 0, 27, 0, 0, 0, 40, 0, 0, 0, 84]
abbrev dktX0_write_2 : List UInt8 := dkwX0_write_2 ++ dktX0_write_3
def dkwX0_write_1 : List UInt8 := [42, 180, 0, 100, 58, 4, 42, 3, 181, 1, 81, 45, 185, 0, 204, 1, 0]
abbrev dktX0_write_1 : List UInt8 := dkwX0_write_1 ++ dktX0_write_2
def dkwX0_write_0 : List UInt8 := [42, 27, 182, 0, 210, 78, 45, 185, 0, 204, 1, 0, 4, 160, 0, 11, 42, 28, 182, 1, 69, 167, 0, 7]
abbrev dktX0_write_0 : List UInt8 := dkwX0_write_0 ++ dktX0_write_1
theorem dksX0_write_0 : cX0_write.data.toList.drop 0 = dktX0_write_0 := by decide +kernel
theorem dksX0_write_1 : cX0_write.data.toList.drop 24 = dktX0_write_1 := dk_seg dksX0_write_0 24 rfl rfl
theorem dksX0_write_2 : cX0_write.data.toList.drop 41 = dktX0_write_2 := dk_seg dksX0_write_1 17 rfl rfl
theorem dksX0_write_3 : cX0_write.data.toList.drop 68 = dktX0_write_3 := dk_seg dksX0_write_2 27 rfl rfl
theorem dksX0_write_4 : cX0_write.data.toList.drop 92 = dktX0_write_4 := dk_seg dksX0_write_3 24 rfl rfl
theorem dksX0_write_5 : cX0_write.data.toList.drop 116 = dktX0_write_5 := dk_seg dksX0_write_4 24 rfl rfl
theorem dksX0_write_6 : cX0_write.data.toList.drop 140 = dktX0_write_6 := dk_seg dksX0_write_5 24 rfl rfl
theorem dksX0_write_7 : cX0_write.data.toList.drop 162 = dktX0_write_7 := dk_seg dksX0_write_6 22 rfl rfl
theorem dX0_write_0 : decode cX0_write 0 = .ok (.aload_n 0, 1) := dk_42 (dk_at dksX0_write_0 0 rfl rfl)
theorem dX0_write_1 : decode cX0_write 1 = .ok (.iload_n 1, 1) := dk_27 (dk_at dksX0_write_0 1 rfl rfl)
theorem dX0_write_2 : decode cX0_write 2 = .ok (.invokevirtual 210, 3) := dk_182 0 210 (dk_at dksX0_write_0 2 rfl rfl)
theorem dX0_write_5 : decode cX0_write 5 = .ok (.astore_n 3, 1) := dk_78 (dk_at dksX0_write_0 5 rfl rfl)
theorem dX0_write_6 : decode cX0_write 6 = .ok (.aload_n 3, 1) := dk_45 (dk_at dksX0_write_0 6 rfl rfl)
theorem dX0_write_7 : decode cX0_write 7 = .ok (.invokeinterface 204 1, 5) := by decide +kernel
theorem dX0_write_12 : decode cX0_write 12 = .ok (.iconst 1, 1) := dk_4 (dk_at dksX0_write_0 12 rfl rfl)
theorem dX0_write_13 : decode cX0_write 13 = .ok (.if_icmp .ne 11, 3) := dk_160 0 11 (dk_at dksX0_write_0 13 rfl rfl)
theorem dX0_write_16 : decode cX0_write 16 = .ok (.aload_n 0, 1) := dk_42 (dk_at dksX0_write_0 16 rfl rfl)
theorem dX0_write_17 : decode cX0_write 17 = .ok (.iload_n 2, 1) := dk_28 (dk_at dksX0_write_0 17 rfl rfl)
theorem dX0_write_18 : decode cX0_write 18 = .ok (.invokevirtual 325, 3) := dk_182 1 69 (dk_at dksX0_write_0 18 rfl rfl)
theorem dX0_write_21 : decode cX0_write 21 = .ok (.goto 7, 3) := dk_167 0 7 (dk_at dksX0_write_0 21 rfl rfl)
theorem dX0_write_24 : decode cX0_write 24 = .ok (.aload_n 0, 1) := dk_42 (dk_at dksX0_write_1 0 rfl rfl)
theorem dX0_write_25 : decode cX0_write 25 = .ok (.getfield 100, 3) := dk_180 0 100 (dk_at dksX0_write_1 1 rfl rfl)
theorem dX0_write_28 : decode cX0_write 28 = .ok (.astore 4, 2) := dk_58 4 (dk_at dksX0_write_1 4 rfl rfl)
theorem dX0_write_30 : decode cX0_write 30 = .ok (.aload_n 0, 1) := dk_42 (dk_at dksX0_write_1 6 rfl rfl)
theorem dX0_write_31 : decode cX0_write 31 = .ok (.iconst 0, 1) := dk_3 (dk_at dksX0_write_1 7 rfl rfl)
theorem dX0_write_32 : decode cX0_write 32 = .ok (.putfield 337, 3) := dk_181 1 81 (dk_at dksX0_write_1 8 rfl rfl)
theorem dX0_write_35 : decode cX0_write 35 = .ok (.aload_n 3, 1) := dk_45 (dk_at dksX0_write_1 11 rfl rfl)
theorem dX0_write_36 : decode cX0_write 36 = .ok (.invokeinterface 204 1, 5) := by decide +kernel
theorem dX0_write_41 : decode cX0_write 41 = .ok (.tableswitch 111 1 3 #[27, 40, 84], 27) := by decide +kernel
theorem dX0_write_68 : decode cX0_write 68 = .ok (.aload_n 0, 1) := dk_42 (dk_at dksX0_write_3 0 rfl rfl)
theorem dX0_write_69 : decode cX0_write 69 = .ok (.aload_n 3, 1) := dk_45 (dk_at dksX0_write_3 1 rfl rfl)
theorem dX0_write_70 : decode cX0_write 70 = .ok (.checkcast 119, 3) := dk_192 0 119 (dk_at dksX0_write_3 2 rfl rfl)
theorem dX0_write_73 : decode cX0_write 73 = .ok (.aload 4, 2) := dk_25 4 (dk_at dksX0_write_3 5 rfl rfl)
theorem dX0_write_75 : decode cX0_write 75 = .ok (.invokevirtual 397, 3) := dk_182 1 141 (dk_at dksX0_write_3 7 rfl rfl)
theorem dX0_write_78 : decode cX0_write 78 = .ok (.goto 94, 3) := dk_167 0 94 (dk_at dksX0_write_3 10 rfl rfl)
theorem dX0_write_81 : decode cX0_write 81 = .ok (.aload_n 3, 1) := dk_45 (dk_at dksX0_write_3 13 rfl rfl)
theorem dX0_write_82 : decode cX0_write 82 = .ok (.checkcast 401, 3) := dk_192 1 145 (dk_at dksX0_write_3 14 rfl rfl)
theorem dX0_write_85 : decode cX0_write 85 = .ok (.invokeinterface 403 1, 5) := by decide +kernel
theorem dX0_write_90 : decode cX0_write 90 = .ok (.astore 5, 2) := dk_58 5 (dk_at dksX0_write_3 22 rfl rfl)
theorem dX0_write_92 : decode cX0_write 92 = .ok (.iconst 0, 1) := dk_3 (dk_at dksX0_write_4 0 rfl rfl)
theorem dX0_write_93 : decode cX0_write 93 = .ok (.istore 6, 2) := dk_54 6 (dk_at dksX0_write_4 1 rfl rfl)
theorem dX0_write_95 : decode cX0_write 95 = .ok (.iload 6, 2) := dk_21 6 (dk_at dksX0_write_4 3 rfl rfl)
theorem dX0_write_97 : decode cX0_write 97 = .ok (.aload 5, 2) := dk_25 5 (dk_at dksX0_write_4 5 rfl rfl)
theorem dX0_write_99 : decode cX0_write 99 = .ok (.invokevirtual 407, 3) := dk_182 1 151 (dk_at dksX0_write_4 7 rfl rfl)
theorem dX0_write_102 : decode cX0_write 102 = .ok (.if_icmp .ge 20, 3) := dk_162 0 20 (dk_at dksX0_write_4 10 rfl rfl)
theorem dX0_write_105 : decode cX0_write 105 = .ok (.aload_n 0, 1) := dk_42 (dk_at dksX0_write_4 13 rfl rfl)
theorem dX0_write_106 : decode cX0_write 106 = .ok (.aload 5, 2) := dk_25 5 (dk_at dksX0_write_4 14 rfl rfl)
theorem dX0_write_108 : decode cX0_write 108 = .ok (.iload 6, 2) := dk_21 6 (dk_at dksX0_write_4 16 rfl rfl)
theorem dX0_write_110 : decode cX0_write 110 = .ok (.invokevirtual 412, 3) := dk_182 1 156 (dk_at dksX0_write_4 18 rfl rfl)
theorem dX0_write_113 : decode cX0_write 113 = .ok (.invokevirtual 343, 3) := dk_182 1 87 (dk_at dksX0_write_4 21 rfl rfl)
theorem dX0_write_116 : decode cX0_write 116 = .ok (.iinc 6 1, 3) := dk_132 6 1 (dk_at dksX0_write_5 0 rfl rfl)
theorem dX0_write_119 : decode cX0_write 119 = .ok (.goto (-24), 3) := dk_167 255 232 (dk_at dksX0_write_5 3 rfl rfl)
theorem dX0_write_122 : decode cX0_write 122 = .ok (.goto 50, 3) := dk_167 0 50 (dk_at dksX0_write_5 6 rfl rfl)
theorem dX0_write_125 : decode cX0_write 125 = .ok (.aload_n 0, 1) := dk_42 (dk_at dksX0_write_5 9 rfl rfl)
theorem dX0_write_126 : decode cX0_write 126 = .ok (.aload_n 3, 1) := dk_45 (dk_at dksX0_write_5 10 rfl rfl)
theorem dX0_write_127 : decode cX0_write 127 = .ok (.checkcast 154, 3) := dk_192 0 154 (dk_at dksX0_write_5 11 rfl rfl)
theorem dX0_write_130 : decode cX0_write 130 = .ok (.iconst 0, 1) := dk_3 (dk_at dksX0_write_5 14 rfl rfl)
theorem dX0_write_131 : decode cX0_write 131 = .ok (.invokevirtual 416, 3) := dk_182 1 160 (dk_at dksX0_write_5 15 rfl rfl)
theorem dX0_write_134 : decode cX0_write 134 = .ok (.aload_n 0, 1) := dk_42 (dk_at dksX0_write_5 18 rfl rfl)
theorem dX0_write_135 : decode cX0_write 135 = .ok (.bipush 32, 2) := dk_16 32 (dk_at dksX0_write_5 19 rfl rfl)
theorem dX0_write_137 : decode cX0_write 137 = .ok (.invokevirtual 343, 3) := dk_182 1 87 (dk_at dksX0_write_5 21 rfl rfl)
theorem dX0_write_140 : decode cX0_write 140 = .ok (.aload_n 0, 1) := dk_42 (dk_at dksX0_write_6 0 rfl rfl)
theorem dX0_write_141 : decode cX0_write 141 = .ok (.aload_n 3, 1) := dk_45 (dk_at dksX0_write_6 1 rfl rfl)
theorem dX0_write_142 : decode cX0_write 142 = .ok (.checkcast 154, 3) := dk_192 0 154 (dk_at dksX0_write_6 2 rfl rfl)
theorem dX0_write_145 : decode cX0_write 145 = .ok (.iconst 1, 1) := dk_4 (dk_at dksX0_write_6 5 rfl rfl)
theorem dX0_write_146 : decode cX0_write 146 = .ok (.invokevirtual 416, 3) := dk_182 1 160 (dk_at dksX0_write_6 6 rfl rfl)
theorem dX0_write_149 : decode cX0_write 149 = .ok (.goto 23, 3) := dk_167 0 23 (dk_at dksX0_write_6 9 rfl rfl)
theorem dX0_write_152 : decode cX0_write 152 = .ok (.aload_n 0, 1) := dk_42 (dk_at dksX0_write_6 12 rfl rfl)
theorem dX0_write_153 : decode cX0_write 153 = .ok (.bipush 45, 2) := dk_16 45 (dk_at dksX0_write_6 13 rfl rfl)
theorem dX0_write_155 : decode cX0_write 155 = .ok (.invokevirtual 343, 3) := dk_182 1 87 (dk_at dksX0_write_6 15 rfl rfl)
theorem dX0_write_158 : decode cX0_write 158 = .ok (.aload_n 0, 1) := dk_42 (dk_at dksX0_write_6 18 rfl rfl)
theorem dX0_write_159 : decode cX0_write 159 = .ok (.bipush 48, 2) := dk_16 48 (dk_at dksX0_write_6 19 rfl rfl)
theorem dX0_write_161 : decode cX0_write 161 = .ok (.aload_n 3, 1) := dk_45 (dk_at dksX0_write_6 21 rfl rfl)
theorem dX0_write_162 : decode cX0_write 162 = .ok (.checkcast 7, 3) := dk_192 0 7 (dk_at dksX0_write_7 0 rfl rfl)
theorem dX0_write_165 : decode cX0_write 165 = .ok (.getfield 182, 3) := dk_180 0 182 (dk_at dksX0_write_7 3 rfl rfl)
theorem dX0_write_168 : decode cX0_write 168 = .ok (.isub, 1) := dk_100 (dk_at dksX0_write_7 6 rfl rfl)
theorem dX0_write_169 : decode cX0_write 169 = .ok (.invokevirtual 343, 3) := dk_182 1 87 (dk_at dksX0_write_7 7 rfl rfl)
theorem dX0_write_172 : decode cX0_write 172 = .ok (.aload_n 0, 1) := dk_42 (dk_at dksX0_write_7 10 rfl rfl)
theorem dX0_write_173 : decode cX0_write 173 = .ok (.getfield 337, 3) := dk_180 1 81 (dk_at dksX0_write_7 11 rfl rfl)
theorem dX0_write_176 : decode cX0_write 176 = .ok (.ireturn, 1) := dk_172 (dk_at dksX0_write_7 14 rfl rfl)
theorem dX0_write_177 : decode cX0_write 177 = .ok (.astore_n 3, 1) := dk_78 (dk_at dksX0_write_7 15 rfl rfl)
theorem dX0_write_178 : decode cX0_write 178 = .ok (.aload_n 0, 1) := dk_42 (dk_at dksX0_write_7 16 rfl rfl)
theorem dX0_write_179 : decode cX0_write 179 = .ok (.aload_n 3, 1) := dk_45 (dk_at dksX0_write_7 17 rfl rfl)
theorem dX0_write_180 : decode cX0_write 180 = .ok (.invokevirtual 233, 3) := dk_182 0 233 (dk_at dksX0_write_7 18 rfl rfl)
theorem dX0_write_183 : decode cX0_write 183 = .ok (.ireturn, 1) := dk_172 (dk_at dksX0_write_7 21 rfl rfl)
abbrev cX0_sayPoly : ByteArray := prog_1_method_31_code
def yX0_sayPoly : MethodName := ⟨RX0, "sayPoly", "(LIdealCourt$Poly;LIdealCourt$Ranks;)V"⟩
def dkwX0_sayPoly_5 : List UInt8 := [21, 5, 62, 132, 4, 1, 167, 255, 152, 177]
abbrev dktX0_sayPoly_5 : List UInt8 := dkwX0_sayPoly_5 ++ []
def dkwX0_sayPoly_4 : List UInt8 := [132, 6, 1, 167, 255, 194, 42, 43, 21, 5, 21, 4, 154, 0, 7, 4, 167, 0, 4, 3, 182, 1, 118]
abbrev dktX0_sayPoly_4 : List UInt8 := dkwX0_sayPoly_4 ++ dktX0_sayPoly_5
def dkwX0_sayPoly_3 : List UInt8 := [21, 5, 16, 249, 159, 0, 16, 44, 21, 6, 21, 5, 185, 1, 113, 3, 0, 158, 0, 7, 21, 6, 54, 5]
abbrev dktX0_sayPoly_3 : List UInt8 := dkwX0_sayPoly_3 ++ dktX0_sayPoly_4
def dkwX0_sayPoly_2 : List UInt8 := [182, 1, 12, 153, 0, 45, 29, 16, 249, 159, 0, 15, 44, 21, 6, 29, 185, 1, 113, 3, 0, 156, 0, 27]
abbrev dktX0_sayPoly_2 : List UInt8 := dkwX0_sayPoly_2 ++ dktX0_sayPoly_3
def dkwX0_sayPoly_1 : List UInt8 := [180, 0, 226, 162, 0, 101, 16, 249, 54, 5, 3, 54, 6, 21, 6, 17, 1, 199, 162, 0, 60, 43, 21, 6]
abbrev dktX0_sayPoly_1 : List UInt8 := dkwX0_sayPoly_1 ++ dktX0_sayPoly_2
def dkwX0_sayPoly_0 : List UInt8 := [43, 180, 0, 226, 154, 0, 9, 42, 16, 48, 182, 1, 87, 16, 249, 62, 3, 54, 4, 21, 4, 43]
abbrev dktX0_sayPoly_0 : List UInt8 := dkwX0_sayPoly_0 ++ dktX0_sayPoly_1
theorem dksX0_sayPoly_0 : cX0_sayPoly.data.toList.drop 0 = dktX0_sayPoly_0 := by decide +kernel
theorem dksX0_sayPoly_1 : cX0_sayPoly.data.toList.drop 22 = dktX0_sayPoly_1 := dk_seg dksX0_sayPoly_0 22 rfl rfl
theorem dksX0_sayPoly_2 : cX0_sayPoly.data.toList.drop 46 = dktX0_sayPoly_2 := dk_seg dksX0_sayPoly_1 24 rfl rfl
theorem dksX0_sayPoly_3 : cX0_sayPoly.data.toList.drop 70 = dktX0_sayPoly_3 := dk_seg dksX0_sayPoly_2 24 rfl rfl
theorem dksX0_sayPoly_4 : cX0_sayPoly.data.toList.drop 94 = dktX0_sayPoly_4 := dk_seg dksX0_sayPoly_3 24 rfl rfl
theorem dksX0_sayPoly_5 : cX0_sayPoly.data.toList.drop 117 = dktX0_sayPoly_5 := dk_seg dksX0_sayPoly_4 23 rfl rfl
theorem dX0_sayPoly_0 : decode cX0_sayPoly 0 = .ok (.aload_n 1, 1) := dk_43 (dk_at dksX0_sayPoly_0 0 rfl rfl)
theorem dX0_sayPoly_1 : decode cX0_sayPoly 1 = .ok (.getfield 226, 3) := dk_180 0 226 (dk_at dksX0_sayPoly_0 1 rfl rfl)
theorem dX0_sayPoly_4 : decode cX0_sayPoly 4 = .ok (.ifCond .ne 9, 3) := dk_154 0 9 (dk_at dksX0_sayPoly_0 4 rfl rfl)
theorem dX0_sayPoly_7 : decode cX0_sayPoly 7 = .ok (.aload_n 0, 1) := dk_42 (dk_at dksX0_sayPoly_0 7 rfl rfl)
theorem dX0_sayPoly_8 : decode cX0_sayPoly 8 = .ok (.bipush 48, 2) := dk_16 48 (dk_at dksX0_sayPoly_0 8 rfl rfl)
theorem dX0_sayPoly_10 : decode cX0_sayPoly 10 = .ok (.invokevirtual 343, 3) := dk_182 1 87 (dk_at dksX0_sayPoly_0 10 rfl rfl)
theorem dX0_sayPoly_13 : decode cX0_sayPoly 13 = .ok (.bipush (-7), 2) := dk_16 249 (dk_at dksX0_sayPoly_0 13 rfl rfl)
theorem dX0_sayPoly_15 : decode cX0_sayPoly 15 = .ok (.istore_n 3, 1) := dk_62 (dk_at dksX0_sayPoly_0 15 rfl rfl)
theorem dX0_sayPoly_16 : decode cX0_sayPoly 16 = .ok (.iconst 0, 1) := dk_3 (dk_at dksX0_sayPoly_0 16 rfl rfl)
theorem dX0_sayPoly_17 : decode cX0_sayPoly 17 = .ok (.istore 4, 2) := dk_54 4 (dk_at dksX0_sayPoly_0 17 rfl rfl)
theorem dX0_sayPoly_19 : decode cX0_sayPoly 19 = .ok (.iload 4, 2) := dk_21 4 (dk_at dksX0_sayPoly_0 19 rfl rfl)
theorem dX0_sayPoly_21 : decode cX0_sayPoly 21 = .ok (.aload_n 1, 1) := dk_43 (dk_at dksX0_sayPoly_0 21 rfl rfl)
theorem dX0_sayPoly_22 : decode cX0_sayPoly 22 = .ok (.getfield 226, 3) := dk_180 0 226 (dk_at dksX0_sayPoly_1 0 rfl rfl)
theorem dX0_sayPoly_25 : decode cX0_sayPoly 25 = .ok (.if_icmp .ge 101, 3) := dk_162 0 101 (dk_at dksX0_sayPoly_1 3 rfl rfl)
theorem dX0_sayPoly_28 : decode cX0_sayPoly 28 = .ok (.bipush (-7), 2) := dk_16 249 (dk_at dksX0_sayPoly_1 6 rfl rfl)
theorem dX0_sayPoly_30 : decode cX0_sayPoly 30 = .ok (.istore 5, 2) := dk_54 5 (dk_at dksX0_sayPoly_1 8 rfl rfl)
theorem dX0_sayPoly_32 : decode cX0_sayPoly 32 = .ok (.iconst 0, 1) := dk_3 (dk_at dksX0_sayPoly_1 10 rfl rfl)
theorem dX0_sayPoly_33 : decode cX0_sayPoly 33 = .ok (.istore 6, 2) := dk_54 6 (dk_at dksX0_sayPoly_1 11 rfl rfl)
theorem dX0_sayPoly_35 : decode cX0_sayPoly 35 = .ok (.iload 6, 2) := dk_21 6 (dk_at dksX0_sayPoly_1 13 rfl rfl)
theorem dX0_sayPoly_37 : decode cX0_sayPoly 37 = .ok (.sipush 455, 3) := dk_17 1 199 (dk_at dksX0_sayPoly_1 15 rfl rfl)
theorem dX0_sayPoly_40 : decode cX0_sayPoly 40 = .ok (.if_icmp .ge 60, 3) := dk_162 0 60 (dk_at dksX0_sayPoly_1 18 rfl rfl)
theorem dX0_sayPoly_43 : decode cX0_sayPoly 43 = .ok (.aload_n 1, 1) := dk_43 (dk_at dksX0_sayPoly_1 21 rfl rfl)
theorem dX0_sayPoly_44 : decode cX0_sayPoly 44 = .ok (.iload 6, 2) := dk_21 6 (dk_at dksX0_sayPoly_1 22 rfl rfl)
theorem dX0_sayPoly_46 : decode cX0_sayPoly 46 = .ok (.invokevirtual 268, 3) := dk_182 1 12 (dk_at dksX0_sayPoly_2 0 rfl rfl)
theorem dX0_sayPoly_49 : decode cX0_sayPoly 49 = .ok (.ifCond .eq 45, 3) := dk_153 0 45 (dk_at dksX0_sayPoly_2 3 rfl rfl)
theorem dX0_sayPoly_52 : decode cX0_sayPoly 52 = .ok (.iload_n 3, 1) := dk_29 (dk_at dksX0_sayPoly_2 6 rfl rfl)
theorem dX0_sayPoly_53 : decode cX0_sayPoly 53 = .ok (.bipush (-7), 2) := dk_16 249 (dk_at dksX0_sayPoly_2 7 rfl rfl)
theorem dX0_sayPoly_55 : decode cX0_sayPoly 55 = .ok (.if_icmp .eq 15, 3) := dk_159 0 15 (dk_at dksX0_sayPoly_2 9 rfl rfl)
theorem dX0_sayPoly_58 : decode cX0_sayPoly 58 = .ok (.aload_n 2, 1) := dk_44 (dk_at dksX0_sayPoly_2 12 rfl rfl)
theorem dX0_sayPoly_59 : decode cX0_sayPoly 59 = .ok (.iload 6, 2) := dk_21 6 (dk_at dksX0_sayPoly_2 13 rfl rfl)
theorem dX0_sayPoly_61 : decode cX0_sayPoly 61 = .ok (.iload_n 3, 1) := dk_29 (dk_at dksX0_sayPoly_2 15 rfl rfl)
theorem dX0_sayPoly_62 : decode cX0_sayPoly 62 = .ok (.invokeinterface 369 3, 5) := by decide +kernel
theorem dX0_sayPoly_67 : decode cX0_sayPoly 67 = .ok (.ifCond .ge 27, 3) := dk_156 0 27 (dk_at dksX0_sayPoly_2 21 rfl rfl)
theorem dX0_sayPoly_70 : decode cX0_sayPoly 70 = .ok (.iload 5, 2) := dk_21 5 (dk_at dksX0_sayPoly_3 0 rfl rfl)
theorem dX0_sayPoly_72 : decode cX0_sayPoly 72 = .ok (.bipush (-7), 2) := dk_16 249 (dk_at dksX0_sayPoly_3 2 rfl rfl)
theorem dX0_sayPoly_74 : decode cX0_sayPoly 74 = .ok (.if_icmp .eq 16, 3) := dk_159 0 16 (dk_at dksX0_sayPoly_3 4 rfl rfl)
theorem dX0_sayPoly_77 : decode cX0_sayPoly 77 = .ok (.aload_n 2, 1) := dk_44 (dk_at dksX0_sayPoly_3 7 rfl rfl)
theorem dX0_sayPoly_78 : decode cX0_sayPoly 78 = .ok (.iload 6, 2) := dk_21 6 (dk_at dksX0_sayPoly_3 8 rfl rfl)
theorem dX0_sayPoly_80 : decode cX0_sayPoly 80 = .ok (.iload 5, 2) := dk_21 5 (dk_at dksX0_sayPoly_3 10 rfl rfl)
theorem dX0_sayPoly_82 : decode cX0_sayPoly 82 = .ok (.invokeinterface 369 3, 5) := by decide +kernel
theorem dX0_sayPoly_87 : decode cX0_sayPoly 87 = .ok (.ifCond .le 7, 3) := dk_158 0 7 (dk_at dksX0_sayPoly_3 17 rfl rfl)
theorem dX0_sayPoly_90 : decode cX0_sayPoly 90 = .ok (.iload 6, 2) := dk_21 6 (dk_at dksX0_sayPoly_3 20 rfl rfl)
theorem dX0_sayPoly_92 : decode cX0_sayPoly 92 = .ok (.istore 5, 2) := dk_54 5 (dk_at dksX0_sayPoly_3 22 rfl rfl)
theorem dX0_sayPoly_94 : decode cX0_sayPoly 94 = .ok (.iinc 6 1, 3) := dk_132 6 1 (dk_at dksX0_sayPoly_4 0 rfl rfl)
theorem dX0_sayPoly_97 : decode cX0_sayPoly 97 = .ok (.goto (-62), 3) := dk_167 255 194 (dk_at dksX0_sayPoly_4 3 rfl rfl)
theorem dX0_sayPoly_100 : decode cX0_sayPoly 100 = .ok (.aload_n 0, 1) := dk_42 (dk_at dksX0_sayPoly_4 6 rfl rfl)
theorem dX0_sayPoly_101 : decode cX0_sayPoly 101 = .ok (.aload_n 1, 1) := dk_43 (dk_at dksX0_sayPoly_4 7 rfl rfl)
theorem dX0_sayPoly_102 : decode cX0_sayPoly 102 = .ok (.iload 5, 2) := dk_21 5 (dk_at dksX0_sayPoly_4 8 rfl rfl)
theorem dX0_sayPoly_104 : decode cX0_sayPoly 104 = .ok (.iload 4, 2) := dk_21 4 (dk_at dksX0_sayPoly_4 10 rfl rfl)
theorem dX0_sayPoly_106 : decode cX0_sayPoly 106 = .ok (.ifCond .ne 7, 3) := dk_154 0 7 (dk_at dksX0_sayPoly_4 12 rfl rfl)
theorem dX0_sayPoly_109 : decode cX0_sayPoly 109 = .ok (.iconst 1, 1) := dk_4 (dk_at dksX0_sayPoly_4 15 rfl rfl)
theorem dX0_sayPoly_110 : decode cX0_sayPoly 110 = .ok (.goto 4, 3) := dk_167 0 4 (dk_at dksX0_sayPoly_4 16 rfl rfl)
theorem dX0_sayPoly_113 : decode cX0_sayPoly 113 = .ok (.iconst 0, 1) := dk_3 (dk_at dksX0_sayPoly_4 19 rfl rfl)
theorem dX0_sayPoly_114 : decode cX0_sayPoly 114 = .ok (.invokevirtual 374, 3) := dk_182 1 118 (dk_at dksX0_sayPoly_4 20 rfl rfl)
theorem dX0_sayPoly_117 : decode cX0_sayPoly 117 = .ok (.iload 5, 2) := dk_21 5 (dk_at dksX0_sayPoly_5 0 rfl rfl)
theorem dX0_sayPoly_119 : decode cX0_sayPoly 119 = .ok (.istore_n 3, 1) := dk_62 (dk_at dksX0_sayPoly_5 2 rfl rfl)
theorem dX0_sayPoly_120 : decode cX0_sayPoly 120 = .ok (.iinc 4 1, 3) := dk_132 4 1 (dk_at dksX0_sayPoly_5 3 rfl rfl)
theorem dX0_sayPoly_123 : decode cX0_sayPoly 123 = .ok (.goto (-104), 3) := dk_167 255 152 (dk_at dksX0_sayPoly_5 6 rfl rfl)
theorem dX0_sayPoly_126 : decode cX0_sayPoly 126 = .ok (.return_, 1) := dk_177 (dk_at dksX0_sayPoly_5 9 rfl rfl)
abbrev cX0_say : ByteArray := prog_1_method_27_code
def yX0_say : MethodName := ⟨RX0, "say", "(I)V"⟩
def dkwX0_say_0 : List UInt8 := [42, 180, 0, 169, 42, 180, 1, 81, 27, 145, 84, 42, 89, 180, 1, 81, 4, 96, 181, 1, 81, 177]
abbrev dktX0_say_0 : List UInt8 := dkwX0_say_0 ++ []
theorem dksX0_say_0 : cX0_say.data.toList.drop 0 = dktX0_say_0 := by decide +kernel
theorem dX0_say_0 : decode cX0_say 0 = .ok (.aload_n 0, 1) := dk_42 (dk_at dksX0_say_0 0 rfl rfl)
theorem dX0_say_1 : decode cX0_say 1 = .ok (.getfield 169, 3) := dk_180 0 169 (dk_at dksX0_say_0 1 rfl rfl)
theorem dX0_say_4 : decode cX0_say 4 = .ok (.aload_n 0, 1) := dk_42 (dk_at dksX0_say_0 4 rfl rfl)
theorem dX0_say_5 : decode cX0_say 5 = .ok (.getfield 337, 3) := dk_180 1 81 (dk_at dksX0_say_0 5 rfl rfl)
theorem dX0_say_8 : decode cX0_say 8 = .ok (.iload_n 1, 1) := dk_27 (dk_at dksX0_say_0 8 rfl rfl)
theorem dX0_say_9 : decode cX0_say 9 = .ok (.i2b, 1) := dk_145 (dk_at dksX0_say_0 9 rfl rfl)
theorem dX0_say_10 : decode cX0_say 10 = .ok (.bastore, 1) := dk_84 (dk_at dksX0_say_0 10 rfl rfl)
theorem dX0_say_11 : decode cX0_say 11 = .ok (.aload_n 0, 1) := dk_42 (dk_at dksX0_say_0 11 rfl rfl)
theorem dX0_say_12 : decode cX0_say 12 = .ok (.dup, 1) := dk_89 (dk_at dksX0_say_0 12 rfl rfl)
theorem dX0_say_13 : decode cX0_say 13 = .ok (.getfield 337, 3) := dk_180 1 81 (dk_at dksX0_say_0 13 rfl rfl)
theorem dX0_say_16 : decode cX0_say 16 = .ok (.iconst 1, 1) := dk_4 (dk_at dksX0_say_0 16 rfl rfl)
theorem dX0_say_17 : decode cX0_say 17 = .ok (.iadd, 1) := dk_96 (dk_at dksX0_say_0 17 rfl rfl)
theorem dX0_say_18 : decode cX0_say 18 = .ok (.putfield 337, 3) := dk_181 1 81 (dk_at dksX0_say_0 18 rfl rfl)
theorem dX0_say_21 : decode cX0_say 21 = .ok (.return_, 1) := dk_177 (dk_at dksX0_say_0 21 rfl rfl)
abbrev cX0_sayTerm : ByteArray := prog_1_method_30_code
def yX0_sayTerm : MethodName := ⟨RX0, "sayTerm", "(LIdealCourt$Poly;IZ)V"⟩
def dkwX0_sayTerm_9 : List UInt8 := [96, 182, 1, 87, 132, 6, 1, 167, 255, 176, 177]
abbrev dktX0_sayTerm_9 : List UInt8 := dkwX0_sayTerm_9 ++ []
def dkwX0_sayTerm_8 : List UInt8 := [182, 1, 87, 21, 7, 16, 9, 164, 0, 9, 42, 16, 49, 182, 1, 87, 42, 16, 48, 21, 7, 16, 10, 112]
abbrev dktX0_sayTerm_8 : List UInt8 := dkwX0_sayTerm_8 ++ dktX0_sayTerm_9
def dkwX0_sayTerm_7 : List UInt8 := [167, 0, 52, 42, 16, 120, 21, 6, 96, 182, 1, 87, 21, 7, 4, 160, 0, 6, 167, 0, 34, 42, 16, 94]
abbrev dktX0_sayTerm_7 : List UInt8 := dkwX0_sayTerm_7 ++ dktX0_sayTerm_8
def dkwX0_sayTerm_6 : List UInt8 := [162, 0, 80, 42, 180, 0, 22, 180, 1, 109, 21, 6, 50, 28, 51, 54, 7, 21, 7, 154, 0, 6]
abbrev dktX0_sayTerm_6 : List UInt8 := dkwX0_sayTerm_6 ++ dktX0_sayTerm_7
def dkwX0_sayTerm_5 : List UInt8 := [180, 0, 64, 180, 1, 16, 42, 180, 0, 64, 180, 1, 102, 182, 1, 105, 3, 54, 6, 21, 6, 6]
abbrev dktX0_sayTerm_5 : List UInt8 := dkwX0_sayTerm_5 ++ dktX0_sayTerm_6
def dkwX0_sayTerm_4 : List UInt8 := [160, 0, 7, 4, 167, 0, 4, 3, 54, 5, 21, 5, 153, 0, 8, 21, 4, 154, 0, 21, 42, 42]
abbrev dktX0_sayTerm_4 : List UInt8 := dkwX0_sayTerm_4 ++ dktX0_sayTerm_5
def dkwX0_sayTerm_3 : List UInt8 := [180, 1, 16, 180, 1, 84, 4, 160, 0, 23, 42, 180, 0, 64, 180, 1, 16, 180, 1, 91, 3, 46, 4]
abbrev dktX0_sayTerm_3 : List UInt8 := dkwX0_sayTerm_3 ++ dktX0_sayTerm_4
def dkwX0_sayTerm_2 : List UInt8 := [182, 1, 100, 54, 4, 42, 180, 0, 64, 180, 1, 102, 182, 1, 97, 153, 0, 37, 42, 180, 0, 64]
abbrev dktX0_sayTerm_2 : List UInt8 := dkwX0_sayTerm_2 ++ dktX0_sayTerm_3
def dkwX0_sayTerm_1 : List UInt8 := [16, 45, 182, 1, 87, 167, 0, 13, 29, 154, 0, 9, 42, 16, 43, 182, 1, 87, 42, 180, 0, 22, 28]
abbrev dktX0_sayTerm_1 : List UInt8 := dkwX0_sayTerm_1 ++ dktX0_sayTerm_2
def dkwX0_sayTerm_0 : List UInt8 := [43, 28, 42, 180, 0, 64, 182, 0, 252, 42, 180, 0, 64, 180, 1, 16, 180, 1, 19, 156, 0, 12, 42]
abbrev dktX0_sayTerm_0 : List UInt8 := dkwX0_sayTerm_0 ++ dktX0_sayTerm_1
theorem dksX0_sayTerm_0 : cX0_sayTerm.data.toList.drop 0 = dktX0_sayTerm_0 := by decide +kernel
theorem dksX0_sayTerm_1 : cX0_sayTerm.data.toList.drop 23 = dktX0_sayTerm_1 := dk_seg dksX0_sayTerm_0 23 rfl rfl
theorem dksX0_sayTerm_2 : cX0_sayTerm.data.toList.drop 46 = dktX0_sayTerm_2 := dk_seg dksX0_sayTerm_1 23 rfl rfl
theorem dksX0_sayTerm_3 : cX0_sayTerm.data.toList.drop 68 = dktX0_sayTerm_3 := dk_seg dksX0_sayTerm_2 22 rfl rfl
theorem dksX0_sayTerm_4 : cX0_sayTerm.data.toList.drop 91 = dktX0_sayTerm_4 := dk_seg dksX0_sayTerm_3 23 rfl rfl
theorem dksX0_sayTerm_5 : cX0_sayTerm.data.toList.drop 113 = dktX0_sayTerm_5 := dk_seg dksX0_sayTerm_4 22 rfl rfl
theorem dksX0_sayTerm_6 : cX0_sayTerm.data.toList.drop 135 = dktX0_sayTerm_6 := dk_seg dksX0_sayTerm_5 22 rfl rfl
theorem dksX0_sayTerm_7 : cX0_sayTerm.data.toList.drop 157 = dktX0_sayTerm_7 := dk_seg dksX0_sayTerm_6 22 rfl rfl
theorem dksX0_sayTerm_8 : cX0_sayTerm.data.toList.drop 181 = dktX0_sayTerm_8 := dk_seg dksX0_sayTerm_7 24 rfl rfl
theorem dksX0_sayTerm_9 : cX0_sayTerm.data.toList.drop 205 = dktX0_sayTerm_9 := dk_seg dksX0_sayTerm_8 24 rfl rfl
theorem dX0_sayTerm_0 : decode cX0_sayTerm 0 = .ok (.aload_n 1, 1) := dk_43 (dk_at dksX0_sayTerm_0 0 rfl rfl)
theorem dX0_sayTerm_1 : decode cX0_sayTerm 1 = .ok (.iload_n 2, 1) := dk_28 (dk_at dksX0_sayTerm_0 1 rfl rfl)
theorem dX0_sayTerm_2 : decode cX0_sayTerm 2 = .ok (.aload_n 0, 1) := dk_42 (dk_at dksX0_sayTerm_0 2 rfl rfl)
theorem dX0_sayTerm_3 : decode cX0_sayTerm 3 = .ok (.getfield 64, 3) := dk_180 0 64 (dk_at dksX0_sayTerm_0 3 rfl rfl)
theorem dX0_sayTerm_6 : decode cX0_sayTerm 6 = .ok (.invokevirtual 252, 3) := dk_182 0 252 (dk_at dksX0_sayTerm_0 6 rfl rfl)
theorem dX0_sayTerm_9 : decode cX0_sayTerm 9 = .ok (.aload_n 0, 1) := dk_42 (dk_at dksX0_sayTerm_0 9 rfl rfl)
theorem dX0_sayTerm_10 : decode cX0_sayTerm 10 = .ok (.getfield 64, 3) := dk_180 0 64 (dk_at dksX0_sayTerm_0 10 rfl rfl)
theorem dX0_sayTerm_13 : decode cX0_sayTerm 13 = .ok (.getfield 272, 3) := dk_180 1 16 (dk_at dksX0_sayTerm_0 13 rfl rfl)
theorem dX0_sayTerm_16 : decode cX0_sayTerm 16 = .ok (.getfield 275, 3) := dk_180 1 19 (dk_at dksX0_sayTerm_0 16 rfl rfl)
theorem dX0_sayTerm_19 : decode cX0_sayTerm 19 = .ok (.ifCond .ge 12, 3) := dk_156 0 12 (dk_at dksX0_sayTerm_0 19 rfl rfl)
theorem dX0_sayTerm_22 : decode cX0_sayTerm 22 = .ok (.aload_n 0, 1) := dk_42 (dk_at dksX0_sayTerm_0 22 rfl rfl)
theorem dX0_sayTerm_23 : decode cX0_sayTerm 23 = .ok (.bipush 45, 2) := dk_16 45 (dk_at dksX0_sayTerm_1 0 rfl rfl)
theorem dX0_sayTerm_25 : decode cX0_sayTerm 25 = .ok (.invokevirtual 343, 3) := dk_182 1 87 (dk_at dksX0_sayTerm_1 2 rfl rfl)
theorem dX0_sayTerm_28 : decode cX0_sayTerm 28 = .ok (.goto 13, 3) := dk_167 0 13 (dk_at dksX0_sayTerm_1 5 rfl rfl)
theorem dX0_sayTerm_31 : decode cX0_sayTerm 31 = .ok (.iload_n 3, 1) := dk_29 (dk_at dksX0_sayTerm_1 8 rfl rfl)
theorem dX0_sayTerm_32 : decode cX0_sayTerm 32 = .ok (.ifCond .ne 9, 3) := dk_154 0 9 (dk_at dksX0_sayTerm_1 9 rfl rfl)
theorem dX0_sayTerm_35 : decode cX0_sayTerm 35 = .ok (.aload_n 0, 1) := dk_42 (dk_at dksX0_sayTerm_1 12 rfl rfl)
theorem dX0_sayTerm_36 : decode cX0_sayTerm 36 = .ok (.bipush 43, 2) := dk_16 43 (dk_at dksX0_sayTerm_1 13 rfl rfl)
theorem dX0_sayTerm_38 : decode cX0_sayTerm 38 = .ok (.invokevirtual 343, 3) := dk_182 1 87 (dk_at dksX0_sayTerm_1 15 rfl rfl)
theorem dX0_sayTerm_41 : decode cX0_sayTerm 41 = .ok (.aload_n 0, 1) := dk_42 (dk_at dksX0_sayTerm_1 18 rfl rfl)
theorem dX0_sayTerm_42 : decode cX0_sayTerm 42 = .ok (.getfield 22, 3) := dk_180 0 22 (dk_at dksX0_sayTerm_1 19 rfl rfl)
theorem dX0_sayTerm_45 : decode cX0_sayTerm 45 = .ok (.iload_n 2, 1) := dk_28 (dk_at dksX0_sayTerm_1 22 rfl rfl)
theorem dX0_sayTerm_46 : decode cX0_sayTerm 46 = .ok (.invokevirtual 356, 3) := dk_182 1 100 (dk_at dksX0_sayTerm_2 0 rfl rfl)
theorem dX0_sayTerm_49 : decode cX0_sayTerm 49 = .ok (.istore 4, 2) := dk_54 4 (dk_at dksX0_sayTerm_2 3 rfl rfl)
theorem dX0_sayTerm_51 : decode cX0_sayTerm 51 = .ok (.aload_n 0, 1) := dk_42 (dk_at dksX0_sayTerm_2 5 rfl rfl)
theorem dX0_sayTerm_52 : decode cX0_sayTerm 52 = .ok (.getfield 64, 3) := dk_180 0 64 (dk_at dksX0_sayTerm_2 6 rfl rfl)
theorem dX0_sayTerm_55 : decode cX0_sayTerm 55 = .ok (.getfield 358, 3) := dk_180 1 102 (dk_at dksX0_sayTerm_2 9 rfl rfl)
theorem dX0_sayTerm_58 : decode cX0_sayTerm 58 = .ok (.invokevirtual 353, 3) := dk_182 1 97 (dk_at dksX0_sayTerm_2 12 rfl rfl)
theorem dX0_sayTerm_61 : decode cX0_sayTerm 61 = .ok (.ifCond .eq 37, 3) := dk_153 0 37 (dk_at dksX0_sayTerm_2 15 rfl rfl)
theorem dX0_sayTerm_64 : decode cX0_sayTerm 64 = .ok (.aload_n 0, 1) := dk_42 (dk_at dksX0_sayTerm_2 18 rfl rfl)
theorem dX0_sayTerm_65 : decode cX0_sayTerm 65 = .ok (.getfield 64, 3) := dk_180 0 64 (dk_at dksX0_sayTerm_2 19 rfl rfl)
theorem dX0_sayTerm_68 : decode cX0_sayTerm 68 = .ok (.getfield 272, 3) := dk_180 1 16 (dk_at dksX0_sayTerm_3 0 rfl rfl)
theorem dX0_sayTerm_71 : decode cX0_sayTerm 71 = .ok (.getfield 340, 3) := dk_180 1 84 (dk_at dksX0_sayTerm_3 3 rfl rfl)
theorem dX0_sayTerm_74 : decode cX0_sayTerm 74 = .ok (.iconst 1, 1) := dk_4 (dk_at dksX0_sayTerm_3 6 rfl rfl)
theorem dX0_sayTerm_75 : decode cX0_sayTerm 75 = .ok (.if_icmp .ne 23, 3) := dk_160 0 23 (dk_at dksX0_sayTerm_3 7 rfl rfl)
theorem dX0_sayTerm_78 : decode cX0_sayTerm 78 = .ok (.aload_n 0, 1) := dk_42 (dk_at dksX0_sayTerm_3 10 rfl rfl)
theorem dX0_sayTerm_79 : decode cX0_sayTerm 79 = .ok (.getfield 64, 3) := dk_180 0 64 (dk_at dksX0_sayTerm_3 11 rfl rfl)
theorem dX0_sayTerm_82 : decode cX0_sayTerm 82 = .ok (.getfield 272, 3) := dk_180 1 16 (dk_at dksX0_sayTerm_3 14 rfl rfl)
theorem dX0_sayTerm_85 : decode cX0_sayTerm 85 = .ok (.getfield 347, 3) := dk_180 1 91 (dk_at dksX0_sayTerm_3 17 rfl rfl)
theorem dX0_sayTerm_88 : decode cX0_sayTerm 88 = .ok (.iconst 0, 1) := dk_3 (dk_at dksX0_sayTerm_3 20 rfl rfl)
theorem dX0_sayTerm_89 : decode cX0_sayTerm 89 = .ok (.iaload, 1) := dk_46 (dk_at dksX0_sayTerm_3 21 rfl rfl)
theorem dX0_sayTerm_90 : decode cX0_sayTerm 90 = .ok (.iconst 1, 1) := dk_4 (dk_at dksX0_sayTerm_3 22 rfl rfl)
theorem dX0_sayTerm_91 : decode cX0_sayTerm 91 = .ok (.if_icmp .ne 7, 3) := dk_160 0 7 (dk_at dksX0_sayTerm_4 0 rfl rfl)
theorem dX0_sayTerm_94 : decode cX0_sayTerm 94 = .ok (.iconst 1, 1) := dk_4 (dk_at dksX0_sayTerm_4 3 rfl rfl)
theorem dX0_sayTerm_95 : decode cX0_sayTerm 95 = .ok (.goto 4, 3) := dk_167 0 4 (dk_at dksX0_sayTerm_4 4 rfl rfl)
theorem dX0_sayTerm_98 : decode cX0_sayTerm 98 = .ok (.iconst 0, 1) := dk_3 (dk_at dksX0_sayTerm_4 7 rfl rfl)
theorem dX0_sayTerm_99 : decode cX0_sayTerm 99 = .ok (.istore 5, 2) := dk_54 5 (dk_at dksX0_sayTerm_4 8 rfl rfl)
theorem dX0_sayTerm_101 : decode cX0_sayTerm 101 = .ok (.iload 5, 2) := dk_21 5 (dk_at dksX0_sayTerm_4 10 rfl rfl)
theorem dX0_sayTerm_103 : decode cX0_sayTerm 103 = .ok (.ifCond .eq 8, 3) := dk_153 0 8 (dk_at dksX0_sayTerm_4 12 rfl rfl)
theorem dX0_sayTerm_106 : decode cX0_sayTerm 106 = .ok (.iload 4, 2) := dk_21 4 (dk_at dksX0_sayTerm_4 15 rfl rfl)
theorem dX0_sayTerm_108 : decode cX0_sayTerm 108 = .ok (.ifCond .ne 21, 3) := dk_154 0 21 (dk_at dksX0_sayTerm_4 17 rfl rfl)
theorem dX0_sayTerm_111 : decode cX0_sayTerm 111 = .ok (.aload_n 0, 1) := dk_42 (dk_at dksX0_sayTerm_4 20 rfl rfl)
theorem dX0_sayTerm_112 : decode cX0_sayTerm 112 = .ok (.aload_n 0, 1) := dk_42 (dk_at dksX0_sayTerm_4 21 rfl rfl)
theorem dX0_sayTerm_113 : decode cX0_sayTerm 113 = .ok (.getfield 64, 3) := dk_180 0 64 (dk_at dksX0_sayTerm_5 0 rfl rfl)
theorem dX0_sayTerm_116 : decode cX0_sayTerm 116 = .ok (.getfield 272, 3) := dk_180 1 16 (dk_at dksX0_sayTerm_5 3 rfl rfl)
theorem dX0_sayTerm_119 : decode cX0_sayTerm 119 = .ok (.aload_n 0, 1) := dk_42 (dk_at dksX0_sayTerm_5 6 rfl rfl)
theorem dX0_sayTerm_120 : decode cX0_sayTerm 120 = .ok (.getfield 64, 3) := dk_180 0 64 (dk_at dksX0_sayTerm_5 7 rfl rfl)
theorem dX0_sayTerm_123 : decode cX0_sayTerm 123 = .ok (.getfield 358, 3) := dk_180 1 102 (dk_at dksX0_sayTerm_5 10 rfl rfl)
theorem dX0_sayTerm_126 : decode cX0_sayTerm 126 = .ok (.invokevirtual 361, 3) := dk_182 1 105 (dk_at dksX0_sayTerm_5 13 rfl rfl)
theorem dX0_sayTerm_129 : decode cX0_sayTerm 129 = .ok (.iconst 0, 1) := dk_3 (dk_at dksX0_sayTerm_5 16 rfl rfl)
theorem dX0_sayTerm_130 : decode cX0_sayTerm 130 = .ok (.istore 6, 2) := dk_54 6 (dk_at dksX0_sayTerm_5 17 rfl rfl)
theorem dX0_sayTerm_132 : decode cX0_sayTerm 132 = .ok (.iload 6, 2) := dk_21 6 (dk_at dksX0_sayTerm_5 19 rfl rfl)
theorem dX0_sayTerm_134 : decode cX0_sayTerm 134 = .ok (.iconst 3, 1) := dk_6 (dk_at dksX0_sayTerm_5 21 rfl rfl)
theorem dX0_sayTerm_135 : decode cX0_sayTerm 135 = .ok (.if_icmp .ge 80, 3) := dk_162 0 80 (dk_at dksX0_sayTerm_6 0 rfl rfl)
theorem dX0_sayTerm_138 : decode cX0_sayTerm 138 = .ok (.aload_n 0, 1) := dk_42 (dk_at dksX0_sayTerm_6 3 rfl rfl)
theorem dX0_sayTerm_139 : decode cX0_sayTerm 139 = .ok (.getfield 22, 3) := dk_180 0 22 (dk_at dksX0_sayTerm_6 4 rfl rfl)
theorem dX0_sayTerm_142 : decode cX0_sayTerm 142 = .ok (.getfield 365, 3) := dk_180 1 109 (dk_at dksX0_sayTerm_6 7 rfl rfl)
theorem dX0_sayTerm_145 : decode cX0_sayTerm 145 = .ok (.iload 6, 2) := dk_21 6 (dk_at dksX0_sayTerm_6 10 rfl rfl)
theorem dX0_sayTerm_147 : decode cX0_sayTerm 147 = .ok (.aaload, 1) := dk_50 (dk_at dksX0_sayTerm_6 12 rfl rfl)
theorem dX0_sayTerm_148 : decode cX0_sayTerm 148 = .ok (.iload_n 2, 1) := dk_28 (dk_at dksX0_sayTerm_6 13 rfl rfl)
theorem dX0_sayTerm_149 : decode cX0_sayTerm 149 = .ok (.baload, 1) := dk_51 (dk_at dksX0_sayTerm_6 14 rfl rfl)
theorem dX0_sayTerm_150 : decode cX0_sayTerm 150 = .ok (.istore 7, 2) := dk_54 7 (dk_at dksX0_sayTerm_6 15 rfl rfl)
theorem dX0_sayTerm_152 : decode cX0_sayTerm 152 = .ok (.iload 7, 2) := dk_21 7 (dk_at dksX0_sayTerm_6 17 rfl rfl)
theorem dX0_sayTerm_154 : decode cX0_sayTerm 154 = .ok (.ifCond .ne 6, 3) := dk_154 0 6 (dk_at dksX0_sayTerm_6 19 rfl rfl)
theorem dX0_sayTerm_157 : decode cX0_sayTerm 157 = .ok (.goto 52, 3) := dk_167 0 52 (dk_at dksX0_sayTerm_7 0 rfl rfl)
theorem dX0_sayTerm_160 : decode cX0_sayTerm 160 = .ok (.aload_n 0, 1) := dk_42 (dk_at dksX0_sayTerm_7 3 rfl rfl)
theorem dX0_sayTerm_161 : decode cX0_sayTerm 161 = .ok (.bipush 120, 2) := dk_16 120 (dk_at dksX0_sayTerm_7 4 rfl rfl)
theorem dX0_sayTerm_163 : decode cX0_sayTerm 163 = .ok (.iload 6, 2) := dk_21 6 (dk_at dksX0_sayTerm_7 6 rfl rfl)
theorem dX0_sayTerm_165 : decode cX0_sayTerm 165 = .ok (.iadd, 1) := dk_96 (dk_at dksX0_sayTerm_7 8 rfl rfl)
theorem dX0_sayTerm_166 : decode cX0_sayTerm 166 = .ok (.invokevirtual 343, 3) := dk_182 1 87 (dk_at dksX0_sayTerm_7 9 rfl rfl)
theorem dX0_sayTerm_169 : decode cX0_sayTerm 169 = .ok (.iload 7, 2) := dk_21 7 (dk_at dksX0_sayTerm_7 12 rfl rfl)
theorem dX0_sayTerm_171 : decode cX0_sayTerm 171 = .ok (.iconst 1, 1) := dk_4 (dk_at dksX0_sayTerm_7 14 rfl rfl)
theorem dX0_sayTerm_172 : decode cX0_sayTerm 172 = .ok (.if_icmp .ne 6, 3) := dk_160 0 6 (dk_at dksX0_sayTerm_7 15 rfl rfl)
theorem dX0_sayTerm_175 : decode cX0_sayTerm 175 = .ok (.goto 34, 3) := dk_167 0 34 (dk_at dksX0_sayTerm_7 18 rfl rfl)
theorem dX0_sayTerm_178 : decode cX0_sayTerm 178 = .ok (.aload_n 0, 1) := dk_42 (dk_at dksX0_sayTerm_7 21 rfl rfl)
theorem dX0_sayTerm_179 : decode cX0_sayTerm 179 = .ok (.bipush 94, 2) := dk_16 94 (dk_at dksX0_sayTerm_7 22 rfl rfl)
theorem dX0_sayTerm_181 : decode cX0_sayTerm 181 = .ok (.invokevirtual 343, 3) := dk_182 1 87 (dk_at dksX0_sayTerm_8 0 rfl rfl)
theorem dX0_sayTerm_184 : decode cX0_sayTerm 184 = .ok (.iload 7, 2) := dk_21 7 (dk_at dksX0_sayTerm_8 3 rfl rfl)
theorem dX0_sayTerm_186 : decode cX0_sayTerm 186 = .ok (.bipush 9, 2) := dk_16 9 (dk_at dksX0_sayTerm_8 5 rfl rfl)
theorem dX0_sayTerm_188 : decode cX0_sayTerm 188 = .ok (.if_icmp .le 9, 3) := dk_164 0 9 (dk_at dksX0_sayTerm_8 7 rfl rfl)
theorem dX0_sayTerm_191 : decode cX0_sayTerm 191 = .ok (.aload_n 0, 1) := dk_42 (dk_at dksX0_sayTerm_8 10 rfl rfl)
theorem dX0_sayTerm_192 : decode cX0_sayTerm 192 = .ok (.bipush 49, 2) := dk_16 49 (dk_at dksX0_sayTerm_8 11 rfl rfl)
theorem dX0_sayTerm_194 : decode cX0_sayTerm 194 = .ok (.invokevirtual 343, 3) := dk_182 1 87 (dk_at dksX0_sayTerm_8 13 rfl rfl)
theorem dX0_sayTerm_197 : decode cX0_sayTerm 197 = .ok (.aload_n 0, 1) := dk_42 (dk_at dksX0_sayTerm_8 16 rfl rfl)
theorem dX0_sayTerm_198 : decode cX0_sayTerm 198 = .ok (.bipush 48, 2) := dk_16 48 (dk_at dksX0_sayTerm_8 17 rfl rfl)
theorem dX0_sayTerm_200 : decode cX0_sayTerm 200 = .ok (.iload 7, 2) := dk_21 7 (dk_at dksX0_sayTerm_8 19 rfl rfl)
theorem dX0_sayTerm_202 : decode cX0_sayTerm 202 = .ok (.bipush 10, 2) := dk_16 10 (dk_at dksX0_sayTerm_8 21 rfl rfl)
theorem dX0_sayTerm_204 : decode cX0_sayTerm 204 = .ok (.irem, 1) := dk_112 (dk_at dksX0_sayTerm_8 23 rfl rfl)
theorem dX0_sayTerm_205 : decode cX0_sayTerm 205 = .ok (.iadd, 1) := dk_96 (dk_at dksX0_sayTerm_9 0 rfl rfl)
theorem dX0_sayTerm_206 : decode cX0_sayTerm 206 = .ok (.invokevirtual 343, 3) := dk_182 1 87 (dk_at dksX0_sayTerm_9 1 rfl rfl)
theorem dX0_sayTerm_209 : decode cX0_sayTerm 209 = .ok (.iinc 6 1, 3) := dk_132 6 1 (dk_at dksX0_sayTerm_9 4 rfl rfl)
theorem dX0_sayTerm_212 : decode cX0_sayTerm 212 = .ok (.goto (-80), 3) := dk_167 255 176 (dk_at dksX0_sayTerm_9 7 rfl rfl)
theorem dX0_sayTerm_215 : decode cX0_sayTerm 215 = .ok (.return_, 1) := dk_177 (dk_at dksX0_sayTerm_9 10 rfl rfl)
abbrev cX0_sayRatio : ByteArray := prog_1_method_29_code
def yX0_sayRatio : MethodName := ⟨RX0, "sayRatio", "(LIdealCourt$Whole;LIdealCourt$Whole;)V"⟩
def dkwX0_sayRatio_1 : List UInt8 := [177]
abbrev dktX0_sayRatio_1 : List UInt8 := dkwX0_sayRatio_1 ++ []
def dkwX0_sayRatio_0 : List UInt8 := [42, 43, 182, 1, 94, 44, 182, 1, 97, 153, 0, 4, 177, 42, 16, 47, 182, 1, 87, 42, 44, 182, 1, 94]
abbrev dktX0_sayRatio_0 : List UInt8 := dkwX0_sayRatio_0 ++ dktX0_sayRatio_1
theorem dksX0_sayRatio_0 : cX0_sayRatio.data.toList.drop 0 = dktX0_sayRatio_0 := by decide +kernel
theorem dksX0_sayRatio_1 : cX0_sayRatio.data.toList.drop 24 = dktX0_sayRatio_1 := dk_seg dksX0_sayRatio_0 24 rfl rfl
theorem dX0_sayRatio_0 : decode cX0_sayRatio 0 = .ok (.aload_n 0, 1) := dk_42 (dk_at dksX0_sayRatio_0 0 rfl rfl)
theorem dX0_sayRatio_1 : decode cX0_sayRatio 1 = .ok (.aload_n 1, 1) := dk_43 (dk_at dksX0_sayRatio_0 1 rfl rfl)
theorem dX0_sayRatio_2 : decode cX0_sayRatio 2 = .ok (.invokevirtual 350, 3) := dk_182 1 94 (dk_at dksX0_sayRatio_0 2 rfl rfl)
theorem dX0_sayRatio_5 : decode cX0_sayRatio 5 = .ok (.aload_n 2, 1) := dk_44 (dk_at dksX0_sayRatio_0 5 rfl rfl)
theorem dX0_sayRatio_6 : decode cX0_sayRatio 6 = .ok (.invokevirtual 353, 3) := dk_182 1 97 (dk_at dksX0_sayRatio_0 6 rfl rfl)
theorem dX0_sayRatio_9 : decode cX0_sayRatio 9 = .ok (.ifCond .eq 4, 3) := dk_153 0 4 (dk_at dksX0_sayRatio_0 9 rfl rfl)
theorem dX0_sayRatio_12 : decode cX0_sayRatio 12 = .ok (.return_, 1) := dk_177 (dk_at dksX0_sayRatio_0 12 rfl rfl)
theorem dX0_sayRatio_13 : decode cX0_sayRatio 13 = .ok (.aload_n 0, 1) := dk_42 (dk_at dksX0_sayRatio_0 13 rfl rfl)
theorem dX0_sayRatio_14 : decode cX0_sayRatio 14 = .ok (.bipush 47, 2) := dk_16 47 (dk_at dksX0_sayRatio_0 14 rfl rfl)
theorem dX0_sayRatio_16 : decode cX0_sayRatio 16 = .ok (.invokevirtual 343, 3) := dk_182 1 87 (dk_at dksX0_sayRatio_0 16 rfl rfl)
theorem dX0_sayRatio_19 : decode cX0_sayRatio 19 = .ok (.aload_n 0, 1) := dk_42 (dk_at dksX0_sayRatio_0 19 rfl rfl)
theorem dX0_sayRatio_20 : decode cX0_sayRatio 20 = .ok (.aload_n 2, 1) := dk_44 (dk_at dksX0_sayRatio_0 20 rfl rfl)
theorem dX0_sayRatio_21 : decode cX0_sayRatio 21 = .ok (.invokevirtual 350, 3) := dk_182 1 94 (dk_at dksX0_sayRatio_0 21 rfl rfl)
theorem dX0_sayRatio_24 : decode cX0_sayRatio 24 = .ok (.return_, 1) := dk_177 (dk_at dksX0_sayRatio_1 0 rfl rfl)
abbrev cX0_say_2 : ByteArray := prog_1_method_28_code
def yX0_say_2 : MethodName := ⟨RX0, "say", "(LIdealCourt$Whole;)V"⟩
def dkwX0_say_2_4 : List UInt8 := [132, 2, 255, 167, 255, 181, 177]
abbrev dktX0_say_2_4 : List UInt8 := dkwX0_say_2_4 ++ []
def dkwX0_say_2_3 : List UInt8 := [180, 1, 91, 28, 46, 29, 108, 16, 10, 112, 96, 182, 1, 87, 29, 16, 10, 108, 62, 167, 255, 229]
abbrev dktX0_say_2_3 : List UInt8 := dkwX0_say_2_3 ++ dktX0_say_2_4
def dkwX0_say_2_2 : List UInt8 := [46, 29, 108, 154, 0, 11, 29, 16, 10, 108, 62, 167, 255, 225, 29, 158, 0, 29, 42, 16, 48, 43]
abbrev dktX0_say_2_2 : List UInt8 := dkwX0_say_2_2 ++ dktX0_say_2_3
def dkwX0_say_2_1 : List UInt8 := [19, 1, 90, 62, 28, 43, 180, 1, 84, 4, 100, 160, 0, 27, 29, 4, 164, 0, 22, 43, 180, 1, 91, 28]
abbrev dktX0_say_2_1 : List UInt8 := dkwX0_say_2_1 ++ dktX0_say_2_2
def dkwX0_say_2_0 : List UInt8 := [43, 180, 1, 84, 154, 0, 9, 42, 16, 48, 182, 1, 87, 43, 180, 1, 84, 4, 100, 61, 28, 155, 0, 77]
abbrev dktX0_say_2_0 : List UInt8 := dkwX0_say_2_0 ++ dktX0_say_2_1
theorem dksX0_say_2_0 : cX0_say_2.data.toList.drop 0 = dktX0_say_2_0 := by decide +kernel
theorem dksX0_say_2_1 : cX0_say_2.data.toList.drop 24 = dktX0_say_2_1 := dk_seg dksX0_say_2_0 24 rfl rfl
theorem dksX0_say_2_2 : cX0_say_2.data.toList.drop 48 = dktX0_say_2_2 := dk_seg dksX0_say_2_1 24 rfl rfl
theorem dksX0_say_2_3 : cX0_say_2.data.toList.drop 70 = dktX0_say_2_3 := dk_seg dksX0_say_2_2 22 rfl rfl
theorem dksX0_say_2_4 : cX0_say_2.data.toList.drop 92 = dktX0_say_2_4 := dk_seg dksX0_say_2_3 22 rfl rfl
theorem dX0_say_2_0 : decode cX0_say_2 0 = .ok (.aload_n 1, 1) := dk_43 (dk_at dksX0_say_2_0 0 rfl rfl)
theorem dX0_say_2_1 : decode cX0_say_2 1 = .ok (.getfield 340, 3) := dk_180 1 84 (dk_at dksX0_say_2_0 1 rfl rfl)
theorem dX0_say_2_4 : decode cX0_say_2 4 = .ok (.ifCond .ne 9, 3) := dk_154 0 9 (dk_at dksX0_say_2_0 4 rfl rfl)
theorem dX0_say_2_7 : decode cX0_say_2 7 = .ok (.aload_n 0, 1) := dk_42 (dk_at dksX0_say_2_0 7 rfl rfl)
theorem dX0_say_2_8 : decode cX0_say_2 8 = .ok (.bipush 48, 2) := dk_16 48 (dk_at dksX0_say_2_0 8 rfl rfl)
theorem dX0_say_2_10 : decode cX0_say_2 10 = .ok (.invokevirtual 343, 3) := dk_182 1 87 (dk_at dksX0_say_2_0 10 rfl rfl)
theorem dX0_say_2_13 : decode cX0_say_2 13 = .ok (.aload_n 1, 1) := dk_43 (dk_at dksX0_say_2_0 13 rfl rfl)
theorem dX0_say_2_14 : decode cX0_say_2 14 = .ok (.getfield 340, 3) := dk_180 1 84 (dk_at dksX0_say_2_0 14 rfl rfl)
theorem dX0_say_2_17 : decode cX0_say_2 17 = .ok (.iconst 1, 1) := dk_4 (dk_at dksX0_say_2_0 17 rfl rfl)
theorem dX0_say_2_18 : decode cX0_say_2 18 = .ok (.isub, 1) := dk_100 (dk_at dksX0_say_2_0 18 rfl rfl)
theorem dX0_say_2_19 : decode cX0_say_2 19 = .ok (.istore_n 2, 1) := dk_61 (dk_at dksX0_say_2_0 19 rfl rfl)
theorem dX0_say_2_20 : decode cX0_say_2 20 = .ok (.iload_n 2, 1) := dk_28 (dk_at dksX0_say_2_0 20 rfl rfl)
theorem dX0_say_2_21 : decode cX0_say_2 21 = .ok (.ifCond .lt 77, 3) := dk_155 0 77 (dk_at dksX0_say_2_0 21 rfl rfl)
theorem dX0_say_2_24 : decode cX0_say_2 24 = .ok (.ldc_w 346, 3) := dk_19 1 90 (dk_at dksX0_say_2_1 0 rfl rfl)
theorem dX0_say_2_27 : decode cX0_say_2 27 = .ok (.istore_n 3, 1) := dk_62 (dk_at dksX0_say_2_1 3 rfl rfl)
theorem dX0_say_2_28 : decode cX0_say_2 28 = .ok (.iload_n 2, 1) := dk_28 (dk_at dksX0_say_2_1 4 rfl rfl)
theorem dX0_say_2_29 : decode cX0_say_2 29 = .ok (.aload_n 1, 1) := dk_43 (dk_at dksX0_say_2_1 5 rfl rfl)
theorem dX0_say_2_30 : decode cX0_say_2 30 = .ok (.getfield 340, 3) := dk_180 1 84 (dk_at dksX0_say_2_1 6 rfl rfl)
theorem dX0_say_2_33 : decode cX0_say_2 33 = .ok (.iconst 1, 1) := dk_4 (dk_at dksX0_say_2_1 9 rfl rfl)
theorem dX0_say_2_34 : decode cX0_say_2 34 = .ok (.isub, 1) := dk_100 (dk_at dksX0_say_2_1 10 rfl rfl)
theorem dX0_say_2_35 : decode cX0_say_2 35 = .ok (.if_icmp .ne 27, 3) := dk_160 0 27 (dk_at dksX0_say_2_1 11 rfl rfl)
theorem dX0_say_2_38 : decode cX0_say_2 38 = .ok (.iload_n 3, 1) := dk_29 (dk_at dksX0_say_2_1 14 rfl rfl)
theorem dX0_say_2_39 : decode cX0_say_2 39 = .ok (.iconst 1, 1) := dk_4 (dk_at dksX0_say_2_1 15 rfl rfl)
theorem dX0_say_2_40 : decode cX0_say_2 40 = .ok (.if_icmp .le 22, 3) := dk_164 0 22 (dk_at dksX0_say_2_1 16 rfl rfl)
theorem dX0_say_2_43 : decode cX0_say_2 43 = .ok (.aload_n 1, 1) := dk_43 (dk_at dksX0_say_2_1 19 rfl rfl)
theorem dX0_say_2_44 : decode cX0_say_2 44 = .ok (.getfield 347, 3) := dk_180 1 91 (dk_at dksX0_say_2_1 20 rfl rfl)
theorem dX0_say_2_47 : decode cX0_say_2 47 = .ok (.iload_n 2, 1) := dk_28 (dk_at dksX0_say_2_1 23 rfl rfl)
theorem dX0_say_2_48 : decode cX0_say_2 48 = .ok (.iaload, 1) := dk_46 (dk_at dksX0_say_2_2 0 rfl rfl)
theorem dX0_say_2_49 : decode cX0_say_2 49 = .ok (.iload_n 3, 1) := dk_29 (dk_at dksX0_say_2_2 1 rfl rfl)
theorem dX0_say_2_50 : decode cX0_say_2 50 = .ok (.idiv, 1) := dk_108 (dk_at dksX0_say_2_2 2 rfl rfl)
theorem dX0_say_2_51 : decode cX0_say_2 51 = .ok (.ifCond .ne 11, 3) := dk_154 0 11 (dk_at dksX0_say_2_2 3 rfl rfl)
theorem dX0_say_2_54 : decode cX0_say_2 54 = .ok (.iload_n 3, 1) := dk_29 (dk_at dksX0_say_2_2 6 rfl rfl)
theorem dX0_say_2_55 : decode cX0_say_2 55 = .ok (.bipush 10, 2) := dk_16 10 (dk_at dksX0_say_2_2 7 rfl rfl)
theorem dX0_say_2_57 : decode cX0_say_2 57 = .ok (.idiv, 1) := dk_108 (dk_at dksX0_say_2_2 9 rfl rfl)
theorem dX0_say_2_58 : decode cX0_say_2 58 = .ok (.istore_n 3, 1) := dk_62 (dk_at dksX0_say_2_2 10 rfl rfl)
theorem dX0_say_2_59 : decode cX0_say_2 59 = .ok (.goto (-31), 3) := dk_167 255 225 (dk_at dksX0_say_2_2 11 rfl rfl)
theorem dX0_say_2_62 : decode cX0_say_2 62 = .ok (.iload_n 3, 1) := dk_29 (dk_at dksX0_say_2_2 14 rfl rfl)
theorem dX0_say_2_63 : decode cX0_say_2 63 = .ok (.ifCond .le 29, 3) := dk_158 0 29 (dk_at dksX0_say_2_2 15 rfl rfl)
theorem dX0_say_2_66 : decode cX0_say_2 66 = .ok (.aload_n 0, 1) := dk_42 (dk_at dksX0_say_2_2 18 rfl rfl)
theorem dX0_say_2_67 : decode cX0_say_2 67 = .ok (.bipush 48, 2) := dk_16 48 (dk_at dksX0_say_2_2 19 rfl rfl)
theorem dX0_say_2_69 : decode cX0_say_2 69 = .ok (.aload_n 1, 1) := dk_43 (dk_at dksX0_say_2_2 21 rfl rfl)
theorem dX0_say_2_70 : decode cX0_say_2 70 = .ok (.getfield 347, 3) := dk_180 1 91 (dk_at dksX0_say_2_3 0 rfl rfl)
theorem dX0_say_2_73 : decode cX0_say_2 73 = .ok (.iload_n 2, 1) := dk_28 (dk_at dksX0_say_2_3 3 rfl rfl)
theorem dX0_say_2_74 : decode cX0_say_2 74 = .ok (.iaload, 1) := dk_46 (dk_at dksX0_say_2_3 4 rfl rfl)
theorem dX0_say_2_75 : decode cX0_say_2 75 = .ok (.iload_n 3, 1) := dk_29 (dk_at dksX0_say_2_3 5 rfl rfl)
theorem dX0_say_2_76 : decode cX0_say_2 76 = .ok (.idiv, 1) := dk_108 (dk_at dksX0_say_2_3 6 rfl rfl)
theorem dX0_say_2_77 : decode cX0_say_2 77 = .ok (.bipush 10, 2) := dk_16 10 (dk_at dksX0_say_2_3 7 rfl rfl)
theorem dX0_say_2_79 : decode cX0_say_2 79 = .ok (.irem, 1) := dk_112 (dk_at dksX0_say_2_3 9 rfl rfl)
theorem dX0_say_2_80 : decode cX0_say_2 80 = .ok (.iadd, 1) := dk_96 (dk_at dksX0_say_2_3 10 rfl rfl)
theorem dX0_say_2_81 : decode cX0_say_2 81 = .ok (.invokevirtual 343, 3) := dk_182 1 87 (dk_at dksX0_say_2_3 11 rfl rfl)
theorem dX0_say_2_84 : decode cX0_say_2 84 = .ok (.iload_n 3, 1) := dk_29 (dk_at dksX0_say_2_3 14 rfl rfl)
theorem dX0_say_2_85 : decode cX0_say_2 85 = .ok (.bipush 10, 2) := dk_16 10 (dk_at dksX0_say_2_3 15 rfl rfl)
theorem dX0_say_2_87 : decode cX0_say_2 87 = .ok (.idiv, 1) := dk_108 (dk_at dksX0_say_2_3 17 rfl rfl)
theorem dX0_say_2_88 : decode cX0_say_2 88 = .ok (.istore_n 3, 1) := dk_62 (dk_at dksX0_say_2_3 18 rfl rfl)
theorem dX0_say_2_89 : decode cX0_say_2 89 = .ok (.goto (-27), 3) := dk_167 255 229 (dk_at dksX0_say_2_3 19 rfl rfl)
theorem dX0_say_2_92 : decode cX0_say_2 92 = .ok (.iinc 2 (-1), 3) := dk_132 2 255 (dk_at dksX0_say_2_4 0 rfl rfl)
theorem dX0_say_2_95 : decode cX0_say_2 95 = .ok (.goto (-75), 3) := dk_167 255 181 (dk_at dksX0_say_2_4 3 rfl rfl)
theorem dX0_say_2_98 : decode cX0_say_2 98 = .ok (.return_, 1) := dk_177 (dk_at dksX0_say_2_4 6 rfl rfl)
abbrev cX0_sayEnd : ByteArray := prog_1_method_32_code
def yX0_sayEnd : MethodName := ⟨RX0, "sayEnd", "(LIdealCourt$Real;Z)V"⟩
def dkwX0_sayEnd_5 : List UInt8 := [182, 1, 105, 177]
abbrev dktX0_sayEnd_5 : List UInt8 := dkwX0_sayEnd_5 ++ []
def dkwX0_sayEnd_4 : List UInt8 := [180, 0, 79, 180, 1, 19, 156, 0, 9, 42, 16, 45, 182, 1, 87, 42, 42, 180, 0, 79, 42, 180, 0, 86]
abbrev dktX0_sayEnd_4 : List UInt8 := dkwX0_sayEnd_4 ++ dktX0_sayEnd_5
def dkwX0_sayEnd_3 : List UInt8 := [54, 4, 21, 4, 29, 162, 0, 17, 42, 180, 0, 86, 3, 182, 1, 138, 132, 4, 1, 167, 255, 239, 42]
abbrev dktX0_sayEnd_3 : List UInt8 := dkwX0_sayEnd_3 ++ dktX0_sayEnd_4
def dkwX0_sayEnd_2 : List UInt8 := [167, 255, 232, 42, 180, 0, 79, 180, 1, 19, 154, 0, 5, 3, 62, 42, 180, 0, 86, 10, 182, 1, 135, 3]
abbrev dktX0_sayEnd_2 : List UInt8 := dkwX0_sayEnd_2 ++ dktX0_sayEnd_3
def dkwX0_sayEnd_1 : List UInt8 := [158, 0, 26, 42, 180, 0, 79, 182, 1, 129, 154, 0, 16, 42, 180, 0, 79, 182, 1, 132, 132, 3, 255]
abbrev dktX0_sayEnd_1 : List UInt8 := dkwX0_sayEnd_1 ++ dktX0_sayEnd_2
def dkwX0_sayEnd_0 : List UInt8 := [43, 28, 42, 180, 0, 79, 42, 180, 0, 86, 42, 180, 0, 29, 182, 1, 122, 43, 182, 1, 126, 62, 29]
abbrev dktX0_sayEnd_0 : List UInt8 := dkwX0_sayEnd_0 ++ dktX0_sayEnd_1
theorem dksX0_sayEnd_0 : cX0_sayEnd.data.toList.drop 0 = dktX0_sayEnd_0 := by decide +kernel
theorem dksX0_sayEnd_1 : cX0_sayEnd.data.toList.drop 23 = dktX0_sayEnd_1 := dk_seg dksX0_sayEnd_0 23 rfl rfl
theorem dksX0_sayEnd_2 : cX0_sayEnd.data.toList.drop 46 = dktX0_sayEnd_2 := dk_seg dksX0_sayEnd_1 23 rfl rfl
theorem dksX0_sayEnd_3 : cX0_sayEnd.data.toList.drop 70 = dktX0_sayEnd_3 := dk_seg dksX0_sayEnd_2 24 rfl rfl
theorem dksX0_sayEnd_4 : cX0_sayEnd.data.toList.drop 93 = dktX0_sayEnd_4 := dk_seg dksX0_sayEnd_3 23 rfl rfl
theorem dksX0_sayEnd_5 : cX0_sayEnd.data.toList.drop 117 = dktX0_sayEnd_5 := dk_seg dksX0_sayEnd_4 24 rfl rfl
theorem dX0_sayEnd_0 : decode cX0_sayEnd 0 = .ok (.aload_n 1, 1) := dk_43 (dk_at dksX0_sayEnd_0 0 rfl rfl)
theorem dX0_sayEnd_1 : decode cX0_sayEnd 1 = .ok (.iload_n 2, 1) := dk_28 (dk_at dksX0_sayEnd_0 1 rfl rfl)
theorem dX0_sayEnd_2 : decode cX0_sayEnd 2 = .ok (.aload_n 0, 1) := dk_42 (dk_at dksX0_sayEnd_0 2 rfl rfl)
theorem dX0_sayEnd_3 : decode cX0_sayEnd 3 = .ok (.getfield 79, 3) := dk_180 0 79 (dk_at dksX0_sayEnd_0 3 rfl rfl)
theorem dX0_sayEnd_6 : decode cX0_sayEnd 6 = .ok (.aload_n 0, 1) := dk_42 (dk_at dksX0_sayEnd_0 6 rfl rfl)
theorem dX0_sayEnd_7 : decode cX0_sayEnd 7 = .ok (.getfield 86, 3) := dk_180 0 86 (dk_at dksX0_sayEnd_0 7 rfl rfl)
theorem dX0_sayEnd_10 : decode cX0_sayEnd 10 = .ok (.aload_n 0, 1) := dk_42 (dk_at dksX0_sayEnd_0 10 rfl rfl)
theorem dX0_sayEnd_11 : decode cX0_sayEnd 11 = .ok (.getfield 29, 3) := dk_180 0 29 (dk_at dksX0_sayEnd_0 11 rfl rfl)
theorem dX0_sayEnd_14 : decode cX0_sayEnd 14 = .ok (.invokevirtual 378, 3) := dk_182 1 122 (dk_at dksX0_sayEnd_0 14 rfl rfl)
theorem dX0_sayEnd_17 : decode cX0_sayEnd 17 = .ok (.aload_n 1, 1) := dk_43 (dk_at dksX0_sayEnd_0 17 rfl rfl)
theorem dX0_sayEnd_18 : decode cX0_sayEnd 18 = .ok (.invokevirtual 382, 3) := dk_182 1 126 (dk_at dksX0_sayEnd_0 18 rfl rfl)
theorem dX0_sayEnd_21 : decode cX0_sayEnd 21 = .ok (.istore_n 3, 1) := dk_62 (dk_at dksX0_sayEnd_0 21 rfl rfl)
theorem dX0_sayEnd_22 : decode cX0_sayEnd 22 = .ok (.iload_n 3, 1) := dk_29 (dk_at dksX0_sayEnd_0 22 rfl rfl)
theorem dX0_sayEnd_23 : decode cX0_sayEnd 23 = .ok (.ifCond .le 26, 3) := dk_158 0 26 (dk_at dksX0_sayEnd_1 0 rfl rfl)
theorem dX0_sayEnd_26 : decode cX0_sayEnd 26 = .ok (.aload_n 0, 1) := dk_42 (dk_at dksX0_sayEnd_1 3 rfl rfl)
theorem dX0_sayEnd_27 : decode cX0_sayEnd 27 = .ok (.getfield 79, 3) := dk_180 0 79 (dk_at dksX0_sayEnd_1 4 rfl rfl)
theorem dX0_sayEnd_30 : decode cX0_sayEnd 30 = .ok (.invokevirtual 385, 3) := dk_182 1 129 (dk_at dksX0_sayEnd_1 7 rfl rfl)
theorem dX0_sayEnd_33 : decode cX0_sayEnd 33 = .ok (.ifCond .ne 16, 3) := dk_154 0 16 (dk_at dksX0_sayEnd_1 10 rfl rfl)
theorem dX0_sayEnd_36 : decode cX0_sayEnd 36 = .ok (.aload_n 0, 1) := dk_42 (dk_at dksX0_sayEnd_1 13 rfl rfl)
theorem dX0_sayEnd_37 : decode cX0_sayEnd 37 = .ok (.getfield 79, 3) := dk_180 0 79 (dk_at dksX0_sayEnd_1 14 rfl rfl)
theorem dX0_sayEnd_40 : decode cX0_sayEnd 40 = .ok (.invokevirtual 388, 3) := dk_182 1 132 (dk_at dksX0_sayEnd_1 17 rfl rfl)
theorem dX0_sayEnd_43 : decode cX0_sayEnd 43 = .ok (.iinc 3 (-1), 3) := dk_132 3 255 (dk_at dksX0_sayEnd_1 20 rfl rfl)
theorem dX0_sayEnd_46 : decode cX0_sayEnd 46 = .ok (.goto (-24), 3) := dk_167 255 232 (dk_at dksX0_sayEnd_2 0 rfl rfl)
theorem dX0_sayEnd_49 : decode cX0_sayEnd 49 = .ok (.aload_n 0, 1) := dk_42 (dk_at dksX0_sayEnd_2 3 rfl rfl)
theorem dX0_sayEnd_50 : decode cX0_sayEnd 50 = .ok (.getfield 79, 3) := dk_180 0 79 (dk_at dksX0_sayEnd_2 4 rfl rfl)
theorem dX0_sayEnd_53 : decode cX0_sayEnd 53 = .ok (.getfield 275, 3) := dk_180 1 19 (dk_at dksX0_sayEnd_2 7 rfl rfl)
theorem dX0_sayEnd_56 : decode cX0_sayEnd 56 = .ok (.ifCond .ne 5, 3) := dk_154 0 5 (dk_at dksX0_sayEnd_2 10 rfl rfl)
theorem dX0_sayEnd_59 : decode cX0_sayEnd 59 = .ok (.iconst 0, 1) := dk_3 (dk_at dksX0_sayEnd_2 13 rfl rfl)
theorem dX0_sayEnd_60 : decode cX0_sayEnd 60 = .ok (.istore_n 3, 1) := dk_62 (dk_at dksX0_sayEnd_2 14 rfl rfl)
theorem dX0_sayEnd_61 : decode cX0_sayEnd 61 = .ok (.aload_n 0, 1) := dk_42 (dk_at dksX0_sayEnd_2 15 rfl rfl)
theorem dX0_sayEnd_62 : decode cX0_sayEnd 62 = .ok (.getfield 86, 3) := dk_180 0 86 (dk_at dksX0_sayEnd_2 16 rfl rfl)
theorem dX0_sayEnd_65 : decode cX0_sayEnd 65 = .ok (.lconst 1, 1) := dk_10 (dk_at dksX0_sayEnd_2 19 rfl rfl)
theorem dX0_sayEnd_66 : decode cX0_sayEnd 66 = .ok (.invokevirtual 391, 3) := dk_182 1 135 (dk_at dksX0_sayEnd_2 20 rfl rfl)
theorem dX0_sayEnd_69 : decode cX0_sayEnd 69 = .ok (.iconst 0, 1) := dk_3 (dk_at dksX0_sayEnd_2 23 rfl rfl)
theorem dX0_sayEnd_70 : decode cX0_sayEnd 70 = .ok (.istore 4, 2) := dk_54 4 (dk_at dksX0_sayEnd_3 0 rfl rfl)
theorem dX0_sayEnd_72 : decode cX0_sayEnd 72 = .ok (.iload 4, 2) := dk_21 4 (dk_at dksX0_sayEnd_3 2 rfl rfl)
theorem dX0_sayEnd_74 : decode cX0_sayEnd 74 = .ok (.iload_n 3, 1) := dk_29 (dk_at dksX0_sayEnd_3 4 rfl rfl)
theorem dX0_sayEnd_75 : decode cX0_sayEnd 75 = .ok (.if_icmp .ge 17, 3) := dk_162 0 17 (dk_at dksX0_sayEnd_3 5 rfl rfl)
theorem dX0_sayEnd_78 : decode cX0_sayEnd 78 = .ok (.aload_n 0, 1) := dk_42 (dk_at dksX0_sayEnd_3 8 rfl rfl)
theorem dX0_sayEnd_79 : decode cX0_sayEnd 79 = .ok (.getfield 86, 3) := dk_180 0 86 (dk_at dksX0_sayEnd_3 9 rfl rfl)
theorem dX0_sayEnd_82 : decode cX0_sayEnd 82 = .ok (.iconst 0, 1) := dk_3 (dk_at dksX0_sayEnd_3 12 rfl rfl)
theorem dX0_sayEnd_83 : decode cX0_sayEnd 83 = .ok (.invokevirtual 394, 3) := dk_182 1 138 (dk_at dksX0_sayEnd_3 13 rfl rfl)
theorem dX0_sayEnd_86 : decode cX0_sayEnd 86 = .ok (.iinc 4 1, 3) := dk_132 4 1 (dk_at dksX0_sayEnd_3 16 rfl rfl)
theorem dX0_sayEnd_89 : decode cX0_sayEnd 89 = .ok (.goto (-17), 3) := dk_167 255 239 (dk_at dksX0_sayEnd_3 19 rfl rfl)
theorem dX0_sayEnd_92 : decode cX0_sayEnd 92 = .ok (.aload_n 0, 1) := dk_42 (dk_at dksX0_sayEnd_3 22 rfl rfl)
theorem dX0_sayEnd_93 : decode cX0_sayEnd 93 = .ok (.getfield 79, 3) := dk_180 0 79 (dk_at dksX0_sayEnd_4 0 rfl rfl)
theorem dX0_sayEnd_96 : decode cX0_sayEnd 96 = .ok (.getfield 275, 3) := dk_180 1 19 (dk_at dksX0_sayEnd_4 3 rfl rfl)
theorem dX0_sayEnd_99 : decode cX0_sayEnd 99 = .ok (.ifCond .ge 9, 3) := dk_156 0 9 (dk_at dksX0_sayEnd_4 6 rfl rfl)
theorem dX0_sayEnd_102 : decode cX0_sayEnd 102 = .ok (.aload_n 0, 1) := dk_42 (dk_at dksX0_sayEnd_4 9 rfl rfl)
theorem dX0_sayEnd_103 : decode cX0_sayEnd 103 = .ok (.bipush 45, 2) := dk_16 45 (dk_at dksX0_sayEnd_4 10 rfl rfl)
theorem dX0_sayEnd_105 : decode cX0_sayEnd 105 = .ok (.invokevirtual 343, 3) := dk_182 1 87 (dk_at dksX0_sayEnd_4 12 rfl rfl)
theorem dX0_sayEnd_108 : decode cX0_sayEnd 108 = .ok (.aload_n 0, 1) := dk_42 (dk_at dksX0_sayEnd_4 15 rfl rfl)
theorem dX0_sayEnd_109 : decode cX0_sayEnd 109 = .ok (.aload_n 0, 1) := dk_42 (dk_at dksX0_sayEnd_4 16 rfl rfl)
theorem dX0_sayEnd_110 : decode cX0_sayEnd 110 = .ok (.getfield 79, 3) := dk_180 0 79 (dk_at dksX0_sayEnd_4 17 rfl rfl)
theorem dX0_sayEnd_113 : decode cX0_sayEnd 113 = .ok (.aload_n 0, 1) := dk_42 (dk_at dksX0_sayEnd_4 20 rfl rfl)
theorem dX0_sayEnd_114 : decode cX0_sayEnd 114 = .ok (.getfield 86, 3) := dk_180 0 86 (dk_at dksX0_sayEnd_4 21 rfl rfl)
theorem dX0_sayEnd_117 : decode cX0_sayEnd 117 = .ok (.invokevirtual 361, 3) := dk_182 1 105 (dk_at dksX0_sayEnd_5 0 rfl rfl)
theorem dX0_sayEnd_120 : decode cX0_sayEnd 120 = .ok (.return_, 1) := dk_177 (dk_at dksX0_sayEnd_5 3 rfl rfl)
abbrev cX0_letter : ByteArray := prog_1_method_34_code
def yX0_letter : MethodName := ⟨RX0, "letter", "(I)I"⟩
def dkwX0_letter_1 : List UInt8 := [180, 0, 169, 27, 51, 172, 77, 42, 44, 182, 0, 233, 172]
abbrev dktX0_letter_1 : List UInt8 := dkwX0_letter_1 ++ []
def dkwX0_letter_0 : List UInt8 := [42, 27, 155, 0, 15, 27, 42, 180, 1, 81, 162, 0, 7, 4, 167, 0, 4, 3, 16, 249, 182, 0, 229, 42]
abbrev dktX0_letter_0 : List UInt8 := dkwX0_letter_0 ++ dktX0_letter_1
theorem dksX0_letter_0 : cX0_letter.data.toList.drop 0 = dktX0_letter_0 := by decide +kernel
theorem dksX0_letter_1 : cX0_letter.data.toList.drop 24 = dktX0_letter_1 := dk_seg dksX0_letter_0 24 rfl rfl
theorem dX0_letter_0 : decode cX0_letter 0 = .ok (.aload_n 0, 1) := dk_42 (dk_at dksX0_letter_0 0 rfl rfl)
theorem dX0_letter_1 : decode cX0_letter 1 = .ok (.iload_n 1, 1) := dk_27 (dk_at dksX0_letter_0 1 rfl rfl)
theorem dX0_letter_2 : decode cX0_letter 2 = .ok (.ifCond .lt 15, 3) := dk_155 0 15 (dk_at dksX0_letter_0 2 rfl rfl)
theorem dX0_letter_5 : decode cX0_letter 5 = .ok (.iload_n 1, 1) := dk_27 (dk_at dksX0_letter_0 5 rfl rfl)
theorem dX0_letter_6 : decode cX0_letter 6 = .ok (.aload_n 0, 1) := dk_42 (dk_at dksX0_letter_0 6 rfl rfl)
theorem dX0_letter_7 : decode cX0_letter 7 = .ok (.getfield 337, 3) := dk_180 1 81 (dk_at dksX0_letter_0 7 rfl rfl)
theorem dX0_letter_10 : decode cX0_letter 10 = .ok (.if_icmp .ge 7, 3) := dk_162 0 7 (dk_at dksX0_letter_0 10 rfl rfl)
theorem dX0_letter_13 : decode cX0_letter 13 = .ok (.iconst 1, 1) := dk_4 (dk_at dksX0_letter_0 13 rfl rfl)
theorem dX0_letter_14 : decode cX0_letter 14 = .ok (.goto 4, 3) := dk_167 0 4 (dk_at dksX0_letter_0 14 rfl rfl)
theorem dX0_letter_17 : decode cX0_letter 17 = .ok (.iconst 0, 1) := dk_3 (dk_at dksX0_letter_0 17 rfl rfl)
theorem dX0_letter_18 : decode cX0_letter 18 = .ok (.bipush (-7), 2) := dk_16 249 (dk_at dksX0_letter_0 18 rfl rfl)
theorem dX0_letter_20 : decode cX0_letter 20 = .ok (.invokevirtual 229, 3) := dk_182 0 229 (dk_at dksX0_letter_0 20 rfl rfl)
theorem dX0_letter_23 : decode cX0_letter 23 = .ok (.aload_n 0, 1) := dk_42 (dk_at dksX0_letter_0 23 rfl rfl)
theorem dX0_letter_24 : decode cX0_letter 24 = .ok (.getfield 169, 3) := dk_180 0 169 (dk_at dksX0_letter_1 0 rfl rfl)
theorem dX0_letter_27 : decode cX0_letter 27 = .ok (.iload_n 1, 1) := dk_27 (dk_at dksX0_letter_1 3 rfl rfl)
theorem dX0_letter_28 : decode cX0_letter 28 = .ok (.baload, 1) := dk_51 (dk_at dksX0_letter_1 4 rfl rfl)
theorem dX0_letter_29 : decode cX0_letter 29 = .ok (.ireturn, 1) := dk_172 (dk_at dksX0_letter_1 5 rfl rfl)
theorem dX0_letter_30 : decode cX0_letter 30 = .ok (.astore_n 2, 1) := dk_77 (dk_at dksX0_letter_1 6 rfl rfl)
theorem dX0_letter_31 : decode cX0_letter 31 = .ok (.aload_n 0, 1) := dk_42 (dk_at dksX0_letter_1 7 rfl rfl)
theorem dX0_letter_32 : decode cX0_letter 32 = .ok (.aload_n 2, 1) := dk_44 (dk_at dksX0_letter_1 8 rfl rfl)
theorem dX0_letter_33 : decode cX0_letter 33 = .ok (.invokevirtual 233, 3) := dk_182 0 233 (dk_at dksX0_letter_1 9 rfl rfl)
theorem dX0_letter_36 : decode cX0_letter 36 = .ok (.ireturn, 1) := dk_172 (dk_at dksX0_letter_1 12 rfl rfl)
abbrev cX0_row_2 : ByteArray := prog_1_method_35_code
def yX0_row_2 : MethodName := ⟨RX0, "row", "(I)I"⟩
def dkwX0_row_2_2 : List UInt8 := [181, 1, 164, 42, 180, 1, 164, 172, 77, 42, 44, 182, 0, 233, 172]
abbrev dktX0_row_2_2 : List UInt8 := dkwX0_row_2_2 ++ []
def dkwX0_row_2_1 : List UInt8 := [182, 0, 229, 42, 180, 0, 126, 42, 180, 1, 164, 50, 44, 182, 0, 222, 42, 89, 180, 1, 164, 4, 96]
abbrev dktX0_row_2_1 : List UInt8 := dkwX0_row_2_1 ++ dktX0_row_2_2
def dkwX0_row_2_0 : List UInt8 := [42, 27, 182, 0, 242, 77, 42, 42, 180, 1, 164, 16, 6, 162, 0, 7, 4, 167, 0, 4, 3, 16, 250]
abbrev dktX0_row_2_0 : List UInt8 := dkwX0_row_2_0 ++ dktX0_row_2_1
theorem dksX0_row_2_0 : cX0_row_2.data.toList.drop 0 = dktX0_row_2_0 := by decide +kernel
theorem dksX0_row_2_1 : cX0_row_2.data.toList.drop 23 = dktX0_row_2_1 := dk_seg dksX0_row_2_0 23 rfl rfl
theorem dksX0_row_2_2 : cX0_row_2.data.toList.drop 46 = dktX0_row_2_2 := dk_seg dksX0_row_2_1 23 rfl rfl
theorem dX0_row_2_0 : decode cX0_row_2 0 = .ok (.aload_n 0, 1) := dk_42 (dk_at dksX0_row_2_0 0 rfl rfl)
theorem dX0_row_2_1 : decode cX0_row_2 1 = .ok (.iload_n 1, 1) := dk_27 (dk_at dksX0_row_2_0 1 rfl rfl)
theorem dX0_row_2_2 : decode cX0_row_2 2 = .ok (.invokevirtual 242, 3) := dk_182 0 242 (dk_at dksX0_row_2_0 2 rfl rfl)
theorem dX0_row_2_5 : decode cX0_row_2 5 = .ok (.astore_n 2, 1) := dk_77 (dk_at dksX0_row_2_0 5 rfl rfl)
theorem dX0_row_2_6 : decode cX0_row_2 6 = .ok (.aload_n 0, 1) := dk_42 (dk_at dksX0_row_2_0 6 rfl rfl)
theorem dX0_row_2_7 : decode cX0_row_2 7 = .ok (.aload_n 0, 1) := dk_42 (dk_at dksX0_row_2_0 7 rfl rfl)
theorem dX0_row_2_8 : decode cX0_row_2 8 = .ok (.getfield 420, 3) := dk_180 1 164 (dk_at dksX0_row_2_0 8 rfl rfl)
theorem dX0_row_2_11 : decode cX0_row_2 11 = .ok (.bipush 6, 2) := dk_16 6 (dk_at dksX0_row_2_0 11 rfl rfl)
theorem dX0_row_2_13 : decode cX0_row_2 13 = .ok (.if_icmp .ge 7, 3) := dk_162 0 7 (dk_at dksX0_row_2_0 13 rfl rfl)
theorem dX0_row_2_16 : decode cX0_row_2 16 = .ok (.iconst 1, 1) := dk_4 (dk_at dksX0_row_2_0 16 rfl rfl)
theorem dX0_row_2_17 : decode cX0_row_2 17 = .ok (.goto 4, 3) := dk_167 0 4 (dk_at dksX0_row_2_0 17 rfl rfl)
theorem dX0_row_2_20 : decode cX0_row_2 20 = .ok (.iconst 0, 1) := dk_3 (dk_at dksX0_row_2_0 20 rfl rfl)
theorem dX0_row_2_21 : decode cX0_row_2 21 = .ok (.bipush (-6), 2) := dk_16 250 (dk_at dksX0_row_2_0 21 rfl rfl)
theorem dX0_row_2_23 : decode cX0_row_2 23 = .ok (.invokevirtual 229, 3) := dk_182 0 229 (dk_at dksX0_row_2_1 0 rfl rfl)
theorem dX0_row_2_26 : decode cX0_row_2 26 = .ok (.aload_n 0, 1) := dk_42 (dk_at dksX0_row_2_1 3 rfl rfl)
theorem dX0_row_2_27 : decode cX0_row_2 27 = .ok (.getfield 126, 3) := dk_180 0 126 (dk_at dksX0_row_2_1 4 rfl rfl)
theorem dX0_row_2_30 : decode cX0_row_2 30 = .ok (.aload_n 0, 1) := dk_42 (dk_at dksX0_row_2_1 7 rfl rfl)
theorem dX0_row_2_31 : decode cX0_row_2 31 = .ok (.getfield 420, 3) := dk_180 1 164 (dk_at dksX0_row_2_1 8 rfl rfl)
theorem dX0_row_2_34 : decode cX0_row_2 34 = .ok (.aaload, 1) := dk_50 (dk_at dksX0_row_2_1 11 rfl rfl)
theorem dX0_row_2_35 : decode cX0_row_2 35 = .ok (.aload_n 2, 1) := dk_44 (dk_at dksX0_row_2_1 12 rfl rfl)
theorem dX0_row_2_36 : decode cX0_row_2 36 = .ok (.invokevirtual 222, 3) := dk_182 0 222 (dk_at dksX0_row_2_1 13 rfl rfl)
theorem dX0_row_2_39 : decode cX0_row_2 39 = .ok (.aload_n 0, 1) := dk_42 (dk_at dksX0_row_2_1 16 rfl rfl)
theorem dX0_row_2_40 : decode cX0_row_2 40 = .ok (.dup, 1) := dk_89 (dk_at dksX0_row_2_1 17 rfl rfl)
theorem dX0_row_2_41 : decode cX0_row_2 41 = .ok (.getfield 420, 3) := dk_180 1 164 (dk_at dksX0_row_2_1 18 rfl rfl)
theorem dX0_row_2_44 : decode cX0_row_2 44 = .ok (.iconst 1, 1) := dk_4 (dk_at dksX0_row_2_1 21 rfl rfl)
theorem dX0_row_2_45 : decode cX0_row_2 45 = .ok (.iadd, 1) := dk_96 (dk_at dksX0_row_2_1 22 rfl rfl)
theorem dX0_row_2_46 : decode cX0_row_2 46 = .ok (.putfield 420, 3) := dk_181 1 164 (dk_at dksX0_row_2_2 0 rfl rfl)
theorem dX0_row_2_49 : decode cX0_row_2 49 = .ok (.aload_n 0, 1) := dk_42 (dk_at dksX0_row_2_2 3 rfl rfl)
theorem dX0_row_2_50 : decode cX0_row_2 50 = .ok (.getfield 420, 3) := dk_180 1 164 (dk_at dksX0_row_2_2 4 rfl rfl)
theorem dX0_row_2_53 : decode cX0_row_2 53 = .ok (.ireturn, 1) := dk_172 (dk_at dksX0_row_2_2 7 rfl rfl)
theorem dX0_row_2_54 : decode cX0_row_2 54 = .ok (.astore_n 2, 1) := dk_77 (dk_at dksX0_row_2_2 8 rfl rfl)
theorem dX0_row_2_55 : decode cX0_row_2 55 = .ok (.aload_n 0, 1) := dk_42 (dk_at dksX0_row_2_2 9 rfl rfl)
theorem dX0_row_2_56 : decode cX0_row_2 56 = .ok (.aload_n 2, 1) := dk_44 (dk_at dksX0_row_2_2 10 rfl rfl)
theorem dX0_row_2_57 : decode cX0_row_2 57 = .ok (.invokevirtual 233, 3) := dk_182 0 233 (dk_at dksX0_row_2_2 11 rfl rfl)
theorem dX0_row_2_60 : decode cX0_row_2 60 = .ok (.ireturn, 1) := dk_172 (dk_at dksX0_row_2_2 14 rfl rfl)
abbrev cX0_unrow : ByteArray := prog_1_method_36_code
def yX0_unrow : MethodName := ⟨RX0, "unrow", "()I"⟩
def dkwX0_unrow_0 : List UInt8 := [42, 180, 1, 164, 60, 42, 3, 181, 1, 164, 27, 172]
abbrev dktX0_unrow_0 : List UInt8 := dkwX0_unrow_0 ++ []
theorem dksX0_unrow_0 : cX0_unrow.data.toList.drop 0 = dktX0_unrow_0 := by decide +kernel
theorem dX0_unrow_0 : decode cX0_unrow 0 = .ok (.aload_n 0, 1) := dk_42 (dk_at dksX0_unrow_0 0 rfl rfl)
theorem dX0_unrow_1 : decode cX0_unrow 1 = .ok (.getfield 420, 3) := dk_180 1 164 (dk_at dksX0_unrow_0 1 rfl rfl)
theorem dX0_unrow_4 : decode cX0_unrow 4 = .ok (.istore_n 1, 1) := dk_60 (dk_at dksX0_unrow_0 4 rfl rfl)
theorem dX0_unrow_5 : decode cX0_unrow 5 = .ok (.aload_n 0, 1) := dk_42 (dk_at dksX0_unrow_0 5 rfl rfl)
theorem dX0_unrow_6 : decode cX0_unrow 6 = .ok (.iconst 0, 1) := dk_3 (dk_at dksX0_unrow_0 6 rfl rfl)
theorem dX0_unrow_7 : decode cX0_unrow 7 = .ok (.putfield 420, 3) := dk_181 1 164 (dk_at dksX0_unrow_0 7 rfl rfl)
theorem dX0_unrow_10 : decode cX0_unrow 10 = .ok (.iload_n 1, 1) := dk_27 (dk_at dksX0_unrow_0 10 rfl rfl)
theorem dX0_unrow_11 : decode cX0_unrow 11 = .ok (.ireturn, 1) := dk_172 (dk_at dksX0_unrow_0 11 rfl rfl)
abbrev cX0_divide : ByteArray := prog_1_method_38_code
def yX0_divide : MethodName := ⟨RX0, "divide", "(II)I"⟩
def dkwX0_divide_3 : List UInt8 := [78, 42, 45, 182, 0, 233, 172]
abbrev dktX0_divide_3 : List UInt8 := dkwX0_divide_3 ++ []
def dkwX0_divide_2 : List UInt8 := [182, 1, 177, 16, 250, 182, 0, 229, 42, 42, 180, 1, 164, 182, 1, 181, 42, 180, 0, 139, 180, 0, 226, 172]
abbrev dktX0_divide_2 : List UInt8 := dkwX0_divide_2 ++ dktX0_divide_3
def dkwX0_divide_1 : List UInt8 := [42, 42, 180, 0, 38, 42, 180, 0, 126, 42, 180, 1, 164, 25, 4, 42, 180, 0, 136, 42, 180, 0, 142]
abbrev dktX0_divide_1 : List UInt8 := dkwX0_divide_1 ++ dktX0_divide_2
def dkwX0_divide_0 : List UInt8 := [42, 27, 182, 0, 242, 78, 42, 28, 182, 1, 69, 58, 4, 42, 180, 0, 38, 180, 1, 174, 45, 182, 0, 222]
abbrev dktX0_divide_0 : List UInt8 := dkwX0_divide_0 ++ dktX0_divide_1
theorem dksX0_divide_0 : cX0_divide.data.toList.drop 0 = dktX0_divide_0 := by decide +kernel
theorem dksX0_divide_1 : cX0_divide.data.toList.drop 24 = dktX0_divide_1 := dk_seg dksX0_divide_0 24 rfl rfl
theorem dksX0_divide_2 : cX0_divide.data.toList.drop 47 = dktX0_divide_2 := dk_seg dksX0_divide_1 23 rfl rfl
theorem dksX0_divide_3 : cX0_divide.data.toList.drop 71 = dktX0_divide_3 := dk_seg dksX0_divide_2 24 rfl rfl
theorem dX0_divide_0 : decode cX0_divide 0 = .ok (.aload_n 0, 1) := dk_42 (dk_at dksX0_divide_0 0 rfl rfl)
theorem dX0_divide_1 : decode cX0_divide 1 = .ok (.iload_n 1, 1) := dk_27 (dk_at dksX0_divide_0 1 rfl rfl)
theorem dX0_divide_2 : decode cX0_divide 2 = .ok (.invokevirtual 242, 3) := dk_182 0 242 (dk_at dksX0_divide_0 2 rfl rfl)
theorem dX0_divide_5 : decode cX0_divide 5 = .ok (.astore_n 3, 1) := dk_78 (dk_at dksX0_divide_0 5 rfl rfl)
theorem dX0_divide_6 : decode cX0_divide 6 = .ok (.aload_n 0, 1) := dk_42 (dk_at dksX0_divide_0 6 rfl rfl)
theorem dX0_divide_7 : decode cX0_divide 7 = .ok (.iload_n 2, 1) := dk_28 (dk_at dksX0_divide_0 7 rfl rfl)
theorem dX0_divide_8 : decode cX0_divide 8 = .ok (.invokevirtual 325, 3) := dk_182 1 69 (dk_at dksX0_divide_0 8 rfl rfl)
theorem dX0_divide_11 : decode cX0_divide 11 = .ok (.astore 4, 2) := dk_58 4 (dk_at dksX0_divide_0 11 rfl rfl)
theorem dX0_divide_13 : decode cX0_divide 13 = .ok (.aload_n 0, 1) := dk_42 (dk_at dksX0_divide_0 13 rfl rfl)
theorem dX0_divide_14 : decode cX0_divide 14 = .ok (.getfield 38, 3) := dk_180 0 38 (dk_at dksX0_divide_0 14 rfl rfl)
theorem dX0_divide_17 : decode cX0_divide 17 = .ok (.getfield 430, 3) := dk_180 1 174 (dk_at dksX0_divide_0 17 rfl rfl)
theorem dX0_divide_20 : decode cX0_divide 20 = .ok (.aload_n 3, 1) := dk_45 (dk_at dksX0_divide_0 20 rfl rfl)
theorem dX0_divide_21 : decode cX0_divide 21 = .ok (.invokevirtual 222, 3) := dk_182 0 222 (dk_at dksX0_divide_0 21 rfl rfl)
theorem dX0_divide_24 : decode cX0_divide 24 = .ok (.aload_n 0, 1) := dk_42 (dk_at dksX0_divide_1 0 rfl rfl)
theorem dX0_divide_25 : decode cX0_divide 25 = .ok (.aload_n 0, 1) := dk_42 (dk_at dksX0_divide_1 1 rfl rfl)
theorem dX0_divide_26 : decode cX0_divide 26 = .ok (.getfield 38, 3) := dk_180 0 38 (dk_at dksX0_divide_1 2 rfl rfl)
theorem dX0_divide_29 : decode cX0_divide 29 = .ok (.aload_n 0, 1) := dk_42 (dk_at dksX0_divide_1 5 rfl rfl)
theorem dX0_divide_30 : decode cX0_divide 30 = .ok (.getfield 126, 3) := dk_180 0 126 (dk_at dksX0_divide_1 6 rfl rfl)
theorem dX0_divide_33 : decode cX0_divide 33 = .ok (.aload_n 0, 1) := dk_42 (dk_at dksX0_divide_1 9 rfl rfl)
theorem dX0_divide_34 : decode cX0_divide 34 = .ok (.getfield 420, 3) := dk_180 1 164 (dk_at dksX0_divide_1 10 rfl rfl)
theorem dX0_divide_37 : decode cX0_divide 37 = .ok (.aload 4, 2) := dk_25 4 (dk_at dksX0_divide_1 13 rfl rfl)
theorem dX0_divide_39 : decode cX0_divide 39 = .ok (.aload_n 0, 1) := dk_42 (dk_at dksX0_divide_1 15 rfl rfl)
theorem dX0_divide_40 : decode cX0_divide 40 = .ok (.getfield 136, 3) := dk_180 0 136 (dk_at dksX0_divide_1 16 rfl rfl)
theorem dX0_divide_43 : decode cX0_divide 43 = .ok (.aload_n 0, 1) := dk_42 (dk_at dksX0_divide_1 19 rfl rfl)
theorem dX0_divide_44 : decode cX0_divide 44 = .ok (.getfield 142, 3) := dk_180 0 142 (dk_at dksX0_divide_1 20 rfl rfl)
theorem dX0_divide_47 : decode cX0_divide 47 = .ok (.invokevirtual 433, 3) := dk_182 1 177 (dk_at dksX0_divide_2 0 rfl rfl)
theorem dX0_divide_50 : decode cX0_divide 50 = .ok (.bipush (-6), 2) := dk_16 250 (dk_at dksX0_divide_2 3 rfl rfl)
theorem dX0_divide_52 : decode cX0_divide 52 = .ok (.invokevirtual 229, 3) := dk_182 0 229 (dk_at dksX0_divide_2 5 rfl rfl)
theorem dX0_divide_55 : decode cX0_divide 55 = .ok (.aload_n 0, 1) := dk_42 (dk_at dksX0_divide_2 8 rfl rfl)
theorem dX0_divide_56 : decode cX0_divide 56 = .ok (.aload_n 0, 1) := dk_42 (dk_at dksX0_divide_2 9 rfl rfl)
theorem dX0_divide_57 : decode cX0_divide 57 = .ok (.getfield 420, 3) := dk_180 1 164 (dk_at dksX0_divide_2 10 rfl rfl)
theorem dX0_divide_60 : decode cX0_divide 60 = .ok (.invokevirtual 437, 3) := dk_182 1 181 (dk_at dksX0_divide_2 13 rfl rfl)
theorem dX0_divide_63 : decode cX0_divide 63 = .ok (.aload_n 0, 1) := dk_42 (dk_at dksX0_divide_2 16 rfl rfl)
theorem dX0_divide_64 : decode cX0_divide 64 = .ok (.getfield 139, 3) := dk_180 0 139 (dk_at dksX0_divide_2 17 rfl rfl)
theorem dX0_divide_67 : decode cX0_divide 67 = .ok (.getfield 226, 3) := dk_180 0 226 (dk_at dksX0_divide_2 20 rfl rfl)
theorem dX0_divide_70 : decode cX0_divide 70 = .ok (.ireturn, 1) := dk_172 (dk_at dksX0_divide_2 23 rfl rfl)
theorem dX0_divide_71 : decode cX0_divide 71 = .ok (.astore_n 3, 1) := dk_78 (dk_at dksX0_divide_3 0 rfl rfl)
theorem dX0_divide_72 : decode cX0_divide 72 = .ok (.aload_n 0, 1) := dk_42 (dk_at dksX0_divide_3 1 rfl rfl)
theorem dX0_divide_73 : decode cX0_divide 73 = .ok (.aload_n 3, 1) := dk_45 (dk_at dksX0_divide_3 2 rfl rfl)
theorem dX0_divide_74 : decode cX0_divide 74 = .ok (.invokevirtual 233, 3) := dk_182 0 233 (dk_at dksX0_divide_3 3 rfl rfl)
theorem dX0_divide_77 : decode cX0_divide 77 = .ok (.ireturn, 1) := dk_172 (dk_at dksX0_divide_3 6 rfl rfl)
abbrev cX0_settle : ByteArray := prog_1_method_37_code
def yX0_settle : MethodName := ⟨RX0, "settle", "(I)V"⟩
def dkwX0_settle_1 : List UInt8 := [42, 180, 0, 136, 181, 0, 133, 42, 45, 181, 0, 136, 42, 27, 181, 1, 167, 42, 4, 181, 1, 170, 177]
abbrev dktX0_settle_1 : List UInt8 := dkwX0_settle_1 ++ []
def dkwX0_settle_0 : List UInt8 := [42, 180, 0, 139, 77, 42, 42, 180, 0, 142, 181, 0, 139, 42, 44, 181, 0, 142, 42, 180, 0, 133, 78, 42]
abbrev dktX0_settle_0 : List UInt8 := dkwX0_settle_0 ++ dktX0_settle_1
theorem dksX0_settle_0 : cX0_settle.data.toList.drop 0 = dktX0_settle_0 := by decide +kernel
theorem dksX0_settle_1 : cX0_settle.data.toList.drop 24 = dktX0_settle_1 := dk_seg dksX0_settle_0 24 rfl rfl
theorem dX0_settle_0 : decode cX0_settle 0 = .ok (.aload_n 0, 1) := dk_42 (dk_at dksX0_settle_0 0 rfl rfl)
theorem dX0_settle_1 : decode cX0_settle 1 = .ok (.getfield 139, 3) := dk_180 0 139 (dk_at dksX0_settle_0 1 rfl rfl)
theorem dX0_settle_4 : decode cX0_settle 4 = .ok (.astore_n 2, 1) := dk_77 (dk_at dksX0_settle_0 4 rfl rfl)
theorem dX0_settle_5 : decode cX0_settle 5 = .ok (.aload_n 0, 1) := dk_42 (dk_at dksX0_settle_0 5 rfl rfl)
theorem dX0_settle_6 : decode cX0_settle 6 = .ok (.aload_n 0, 1) := dk_42 (dk_at dksX0_settle_0 6 rfl rfl)
theorem dX0_settle_7 : decode cX0_settle 7 = .ok (.getfield 142, 3) := dk_180 0 142 (dk_at dksX0_settle_0 7 rfl rfl)
theorem dX0_settle_10 : decode cX0_settle 10 = .ok (.putfield 139, 3) := dk_181 0 139 (dk_at dksX0_settle_0 10 rfl rfl)
theorem dX0_settle_13 : decode cX0_settle 13 = .ok (.aload_n 0, 1) := dk_42 (dk_at dksX0_settle_0 13 rfl rfl)
theorem dX0_settle_14 : decode cX0_settle 14 = .ok (.aload_n 2, 1) := dk_44 (dk_at dksX0_settle_0 14 rfl rfl)
theorem dX0_settle_15 : decode cX0_settle 15 = .ok (.putfield 142, 3) := dk_181 0 142 (dk_at dksX0_settle_0 15 rfl rfl)
theorem dX0_settle_18 : decode cX0_settle 18 = .ok (.aload_n 0, 1) := dk_42 (dk_at dksX0_settle_0 18 rfl rfl)
theorem dX0_settle_19 : decode cX0_settle 19 = .ok (.getfield 133, 3) := dk_180 0 133 (dk_at dksX0_settle_0 19 rfl rfl)
theorem dX0_settle_22 : decode cX0_settle 22 = .ok (.astore_n 3, 1) := dk_78 (dk_at dksX0_settle_0 22 rfl rfl)
theorem dX0_settle_23 : decode cX0_settle 23 = .ok (.aload_n 0, 1) := dk_42 (dk_at dksX0_settle_0 23 rfl rfl)
theorem dX0_settle_24 : decode cX0_settle 24 = .ok (.aload_n 0, 1) := dk_42 (dk_at dksX0_settle_1 0 rfl rfl)
theorem dX0_settle_25 : decode cX0_settle 25 = .ok (.getfield 136, 3) := dk_180 0 136 (dk_at dksX0_settle_1 1 rfl rfl)
theorem dX0_settle_28 : decode cX0_settle 28 = .ok (.putfield 133, 3) := dk_181 0 133 (dk_at dksX0_settle_1 4 rfl rfl)
theorem dX0_settle_31 : decode cX0_settle 31 = .ok (.aload_n 0, 1) := dk_42 (dk_at dksX0_settle_1 7 rfl rfl)
theorem dX0_settle_32 : decode cX0_settle 32 = .ok (.aload_n 3, 1) := dk_45 (dk_at dksX0_settle_1 8 rfl rfl)
theorem dX0_settle_33 : decode cX0_settle 33 = .ok (.putfield 136, 3) := dk_181 0 136 (dk_at dksX0_settle_1 9 rfl rfl)
theorem dX0_settle_36 : decode cX0_settle 36 = .ok (.aload_n 0, 1) := dk_42 (dk_at dksX0_settle_1 12 rfl rfl)
theorem dX0_settle_37 : decode cX0_settle 37 = .ok (.iload_n 1, 1) := dk_27 (dk_at dksX0_settle_1 13 rfl rfl)
theorem dX0_settle_38 : decode cX0_settle 38 = .ok (.putfield 423, 3) := dk_181 1 167 (dk_at dksX0_settle_1 14 rfl rfl)
theorem dX0_settle_41 : decode cX0_settle 41 = .ok (.aload_n 0, 1) := dk_42 (dk_at dksX0_settle_1 17 rfl rfl)
theorem dX0_settle_42 : decode cX0_settle 42 = .ok (.iconst 1, 1) := dk_4 (dk_at dksX0_settle_1 18 rfl rfl)
theorem dX0_settle_43 : decode cX0_settle 43 = .ok (.putfield 426, 3) := dk_181 1 170 (dk_at dksX0_settle_1 19 rfl rfl)
theorem dX0_settle_46 : decode cX0_settle 46 = .ok (.return_, 1) := dk_177 (dk_at dksX0_settle_1 22 rfl rfl)
abbrev cX0_ideal : ByteArray := prog_1_method_40_code
def yX0_ideal : MethodName := ⟨RX0, "ideal", "(I)I"⟩
def dkwX0_ideal_5 : List UInt8 := [181, 1, 191, 42, 180, 1, 191, 172, 77, 42, 44, 182, 0, 233, 172]
abbrev dktX0_ideal_5 : List UInt8 := dkwX0_ideal_5 ++ []
def dkwX0_ideal_4 : List UInt8 := [29, 96, 42, 180, 0, 64, 182, 1, 194, 79, 132, 3, 1, 167, 255, 215, 42, 89, 180, 1, 191, 4, 96]
abbrev dktX0_ideal_4 : List UInt8 := dkwX0_ideal_4 ++ dktX0_ideal_5
def dkwX0_ideal_3 : List UInt8 := [162, 0, 40, 44, 29, 42, 180, 0, 64, 182, 0, 252, 42, 180, 0, 130, 17, 1, 199, 42, 180, 1, 191, 104]
abbrev dktX0_ideal_3 : List UInt8 := dkwX0_ideal_3 ++ dktX0_ideal_4
def dkwX0_ideal_2 : List UInt8 := [180, 1, 191, 7, 162, 0, 7, 4, 167, 0, 4, 3, 16, 250, 182, 0, 229, 3, 62, 29, 17, 1, 199]
abbrev dktX0_ideal_2 : List UInt8 := dkwX0_ideal_2 ++ dktX0_ideal_3
def dkwX0_ideal_1 : List UInt8 := [42, 44, 180, 0, 226, 16, 12, 163, 0, 26, 42, 44, 7, 16, 99, 182, 1, 187, 153, 0, 15, 42]
abbrev dktX0_ideal_1 : List UInt8 := dkwX0_ideal_1 ++ dktX0_ideal_2
def dkwX0_ideal_0 : List UInt8 := [42, 27, 182, 0, 242, 77, 42, 44, 180, 0, 226, 158, 0, 7, 4, 167, 0, 4, 3, 16, 251, 182, 0, 229]
abbrev dktX0_ideal_0 : List UInt8 := dkwX0_ideal_0 ++ dktX0_ideal_1
theorem dksX0_ideal_0 : cX0_ideal.data.toList.drop 0 = dktX0_ideal_0 := by decide +kernel
theorem dksX0_ideal_1 : cX0_ideal.data.toList.drop 24 = dktX0_ideal_1 := dk_seg dksX0_ideal_0 24 rfl rfl
theorem dksX0_ideal_2 : cX0_ideal.data.toList.drop 46 = dktX0_ideal_2 := dk_seg dksX0_ideal_1 22 rfl rfl
theorem dksX0_ideal_3 : cX0_ideal.data.toList.drop 69 = dktX0_ideal_3 := dk_seg dksX0_ideal_2 23 rfl rfl
theorem dksX0_ideal_4 : cX0_ideal.data.toList.drop 93 = dktX0_ideal_4 := dk_seg dksX0_ideal_3 24 rfl rfl
theorem dksX0_ideal_5 : cX0_ideal.data.toList.drop 116 = dktX0_ideal_5 := dk_seg dksX0_ideal_4 23 rfl rfl
theorem dX0_ideal_0 : decode cX0_ideal 0 = .ok (.aload_n 0, 1) := dk_42 (dk_at dksX0_ideal_0 0 rfl rfl)
theorem dX0_ideal_1 : decode cX0_ideal 1 = .ok (.iload_n 1, 1) := dk_27 (dk_at dksX0_ideal_0 1 rfl rfl)
theorem dX0_ideal_2 : decode cX0_ideal 2 = .ok (.invokevirtual 242, 3) := dk_182 0 242 (dk_at dksX0_ideal_0 2 rfl rfl)
theorem dX0_ideal_5 : decode cX0_ideal 5 = .ok (.astore_n 2, 1) := dk_77 (dk_at dksX0_ideal_0 5 rfl rfl)
theorem dX0_ideal_6 : decode cX0_ideal 6 = .ok (.aload_n 0, 1) := dk_42 (dk_at dksX0_ideal_0 6 rfl rfl)
theorem dX0_ideal_7 : decode cX0_ideal 7 = .ok (.aload_n 2, 1) := dk_44 (dk_at dksX0_ideal_0 7 rfl rfl)
theorem dX0_ideal_8 : decode cX0_ideal 8 = .ok (.getfield 226, 3) := dk_180 0 226 (dk_at dksX0_ideal_0 8 rfl rfl)
theorem dX0_ideal_11 : decode cX0_ideal 11 = .ok (.ifCond .le 7, 3) := dk_158 0 7 (dk_at dksX0_ideal_0 11 rfl rfl)
theorem dX0_ideal_14 : decode cX0_ideal 14 = .ok (.iconst 1, 1) := dk_4 (dk_at dksX0_ideal_0 14 rfl rfl)
theorem dX0_ideal_15 : decode cX0_ideal 15 = .ok (.goto 4, 3) := dk_167 0 4 (dk_at dksX0_ideal_0 15 rfl rfl)
theorem dX0_ideal_18 : decode cX0_ideal 18 = .ok (.iconst 0, 1) := dk_3 (dk_at dksX0_ideal_0 18 rfl rfl)
theorem dX0_ideal_19 : decode cX0_ideal 19 = .ok (.bipush (-5), 2) := dk_16 251 (dk_at dksX0_ideal_0 19 rfl rfl)
theorem dX0_ideal_21 : decode cX0_ideal 21 = .ok (.invokevirtual 229, 3) := dk_182 0 229 (dk_at dksX0_ideal_0 21 rfl rfl)
theorem dX0_ideal_24 : decode cX0_ideal 24 = .ok (.aload_n 0, 1) := dk_42 (dk_at dksX0_ideal_1 0 rfl rfl)
theorem dX0_ideal_25 : decode cX0_ideal 25 = .ok (.aload_n 2, 1) := dk_44 (dk_at dksX0_ideal_1 1 rfl rfl)
theorem dX0_ideal_26 : decode cX0_ideal 26 = .ok (.getfield 226, 3) := dk_180 0 226 (dk_at dksX0_ideal_1 2 rfl rfl)
theorem dX0_ideal_29 : decode cX0_ideal 29 = .ok (.bipush 12, 2) := dk_16 12 (dk_at dksX0_ideal_1 5 rfl rfl)
theorem dX0_ideal_31 : decode cX0_ideal 31 = .ok (.if_icmp .gt 26, 3) := dk_163 0 26 (dk_at dksX0_ideal_1 7 rfl rfl)
theorem dX0_ideal_34 : decode cX0_ideal 34 = .ok (.aload_n 0, 1) := dk_42 (dk_at dksX0_ideal_1 10 rfl rfl)
theorem dX0_ideal_35 : decode cX0_ideal 35 = .ok (.aload_n 2, 1) := dk_44 (dk_at dksX0_ideal_1 11 rfl rfl)
theorem dX0_ideal_36 : decode cX0_ideal 36 = .ok (.iconst 4, 1) := dk_7 (dk_at dksX0_ideal_1 12 rfl rfl)
theorem dX0_ideal_37 : decode cX0_ideal 37 = .ok (.bipush 99, 2) := dk_16 99 (dk_at dksX0_ideal_1 13 rfl rfl)
theorem dX0_ideal_39 : decode cX0_ideal 39 = .ok (.invokevirtual 443, 3) := dk_182 1 187 (dk_at dksX0_ideal_1 15 rfl rfl)
theorem dX0_ideal_42 : decode cX0_ideal 42 = .ok (.ifCond .eq 15, 3) := dk_153 0 15 (dk_at dksX0_ideal_1 18 rfl rfl)
theorem dX0_ideal_45 : decode cX0_ideal 45 = .ok (.aload_n 0, 1) := dk_42 (dk_at dksX0_ideal_1 21 rfl rfl)
theorem dX0_ideal_46 : decode cX0_ideal 46 = .ok (.getfield 447, 3) := dk_180 1 191 (dk_at dksX0_ideal_2 0 rfl rfl)
theorem dX0_ideal_49 : decode cX0_ideal 49 = .ok (.iconst 4, 1) := dk_7 (dk_at dksX0_ideal_2 3 rfl rfl)
theorem dX0_ideal_50 : decode cX0_ideal 50 = .ok (.if_icmp .ge 7, 3) := dk_162 0 7 (dk_at dksX0_ideal_2 4 rfl rfl)
theorem dX0_ideal_53 : decode cX0_ideal 53 = .ok (.iconst 1, 1) := dk_4 (dk_at dksX0_ideal_2 7 rfl rfl)
theorem dX0_ideal_54 : decode cX0_ideal 54 = .ok (.goto 4, 3) := dk_167 0 4 (dk_at dksX0_ideal_2 8 rfl rfl)
theorem dX0_ideal_57 : decode cX0_ideal 57 = .ok (.iconst 0, 1) := dk_3 (dk_at dksX0_ideal_2 11 rfl rfl)
theorem dX0_ideal_58 : decode cX0_ideal 58 = .ok (.bipush (-6), 2) := dk_16 250 (dk_at dksX0_ideal_2 12 rfl rfl)
theorem dX0_ideal_60 : decode cX0_ideal 60 = .ok (.invokevirtual 229, 3) := dk_182 0 229 (dk_at dksX0_ideal_2 14 rfl rfl)
theorem dX0_ideal_63 : decode cX0_ideal 63 = .ok (.iconst 0, 1) := dk_3 (dk_at dksX0_ideal_2 17 rfl rfl)
theorem dX0_ideal_64 : decode cX0_ideal 64 = .ok (.istore_n 3, 1) := dk_62 (dk_at dksX0_ideal_2 18 rfl rfl)
theorem dX0_ideal_65 : decode cX0_ideal 65 = .ok (.iload_n 3, 1) := dk_29 (dk_at dksX0_ideal_2 19 rfl rfl)
theorem dX0_ideal_66 : decode cX0_ideal 66 = .ok (.sipush 455, 3) := dk_17 1 199 (dk_at dksX0_ideal_2 20 rfl rfl)
theorem dX0_ideal_69 : decode cX0_ideal 69 = .ok (.if_icmp .ge 40, 3) := dk_162 0 40 (dk_at dksX0_ideal_3 0 rfl rfl)
theorem dX0_ideal_72 : decode cX0_ideal 72 = .ok (.aload_n 2, 1) := dk_44 (dk_at dksX0_ideal_3 3 rfl rfl)
theorem dX0_ideal_73 : decode cX0_ideal 73 = .ok (.iload_n 3, 1) := dk_29 (dk_at dksX0_ideal_3 4 rfl rfl)
theorem dX0_ideal_74 : decode cX0_ideal 74 = .ok (.aload_n 0, 1) := dk_42 (dk_at dksX0_ideal_3 5 rfl rfl)
theorem dX0_ideal_75 : decode cX0_ideal 75 = .ok (.getfield 64, 3) := dk_180 0 64 (dk_at dksX0_ideal_3 6 rfl rfl)
theorem dX0_ideal_78 : decode cX0_ideal 78 = .ok (.invokevirtual 252, 3) := dk_182 0 252 (dk_at dksX0_ideal_3 9 rfl rfl)
theorem dX0_ideal_81 : decode cX0_ideal 81 = .ok (.aload_n 0, 1) := dk_42 (dk_at dksX0_ideal_3 12 rfl rfl)
theorem dX0_ideal_82 : decode cX0_ideal 82 = .ok (.getfield 130, 3) := dk_180 0 130 (dk_at dksX0_ideal_3 13 rfl rfl)
theorem dX0_ideal_85 : decode cX0_ideal 85 = .ok (.sipush 455, 3) := dk_17 1 199 (dk_at dksX0_ideal_3 16 rfl rfl)
theorem dX0_ideal_88 : decode cX0_ideal 88 = .ok (.aload_n 0, 1) := dk_42 (dk_at dksX0_ideal_3 19 rfl rfl)
theorem dX0_ideal_89 : decode cX0_ideal 89 = .ok (.getfield 447, 3) := dk_180 1 191 (dk_at dksX0_ideal_3 20 rfl rfl)
theorem dX0_ideal_92 : decode cX0_ideal 92 = .ok (.imul, 1) := dk_104 (dk_at dksX0_ideal_3 23 rfl rfl)
theorem dX0_ideal_93 : decode cX0_ideal 93 = .ok (.iload_n 3, 1) := dk_29 (dk_at dksX0_ideal_4 0 rfl rfl)
theorem dX0_ideal_94 : decode cX0_ideal 94 = .ok (.iadd, 1) := dk_96 (dk_at dksX0_ideal_4 1 rfl rfl)
theorem dX0_ideal_95 : decode cX0_ideal 95 = .ok (.aload_n 0, 1) := dk_42 (dk_at dksX0_ideal_4 2 rfl rfl)
theorem dX0_ideal_96 : decode cX0_ideal 96 = .ok (.getfield 64, 3) := dk_180 0 64 (dk_at dksX0_ideal_4 3 rfl rfl)
theorem dX0_ideal_99 : decode cX0_ideal 99 = .ok (.invokevirtual 450, 3) := dk_182 1 194 (dk_at dksX0_ideal_4 6 rfl rfl)
theorem dX0_ideal_102 : decode cX0_ideal 102 = .ok (.iastore, 1) := dk_79 (dk_at dksX0_ideal_4 9 rfl rfl)
theorem dX0_ideal_103 : decode cX0_ideal 103 = .ok (.iinc 3 1, 3) := dk_132 3 1 (dk_at dksX0_ideal_4 10 rfl rfl)
theorem dX0_ideal_106 : decode cX0_ideal 106 = .ok (.goto (-41), 3) := dk_167 255 215 (dk_at dksX0_ideal_4 13 rfl rfl)
theorem dX0_ideal_109 : decode cX0_ideal 109 = .ok (.aload_n 0, 1) := dk_42 (dk_at dksX0_ideal_4 16 rfl rfl)
theorem dX0_ideal_110 : decode cX0_ideal 110 = .ok (.dup, 1) := dk_89 (dk_at dksX0_ideal_4 17 rfl rfl)
theorem dX0_ideal_111 : decode cX0_ideal 111 = .ok (.getfield 447, 3) := dk_180 1 191 (dk_at dksX0_ideal_4 18 rfl rfl)
theorem dX0_ideal_114 : decode cX0_ideal 114 = .ok (.iconst 1, 1) := dk_4 (dk_at dksX0_ideal_4 21 rfl rfl)
theorem dX0_ideal_115 : decode cX0_ideal 115 = .ok (.iadd, 1) := dk_96 (dk_at dksX0_ideal_4 22 rfl rfl)
theorem dX0_ideal_116 : decode cX0_ideal 116 = .ok (.putfield 447, 3) := dk_181 1 191 (dk_at dksX0_ideal_5 0 rfl rfl)
theorem dX0_ideal_119 : decode cX0_ideal 119 = .ok (.aload_n 0, 1) := dk_42 (dk_at dksX0_ideal_5 3 rfl rfl)
theorem dX0_ideal_120 : decode cX0_ideal 120 = .ok (.getfield 447, 3) := dk_180 1 191 (dk_at dksX0_ideal_5 4 rfl rfl)
theorem dX0_ideal_123 : decode cX0_ideal 123 = .ok (.ireturn, 1) := dk_172 (dk_at dksX0_ideal_5 7 rfl rfl)
theorem dX0_ideal_124 : decode cX0_ideal 124 = .ok (.astore_n 2, 1) := dk_77 (dk_at dksX0_ideal_5 8 rfl rfl)
theorem dX0_ideal_125 : decode cX0_ideal 125 = .ok (.aload_n 0, 1) := dk_42 (dk_at dksX0_ideal_5 9 rfl rfl)
theorem dX0_ideal_126 : decode cX0_ideal 126 = .ok (.aload_n 2, 1) := dk_44 (dk_at dksX0_ideal_5 10 rfl rfl)
theorem dX0_ideal_127 : decode cX0_ideal 127 = .ok (.invokevirtual 233, 3) := dk_182 0 233 (dk_at dksX0_ideal_5 11 rfl rfl)
theorem dX0_ideal_130 : decode cX0_ideal 130 = .ok (.ireturn, 1) := dk_172 (dk_at dksX0_ideal_5 14 rfl rfl)
abbrev cX0_isSmall : ByteArray := prog_1_method_39_code
def yX0_isSmall : MethodName := ⟨RX0, "isSmall", "(LIdealCourt$Poly;II)Z"⟩
def dkwX0_isSmall_2 : List UInt8 := [180, 0, 64, 29, 182, 1, 184, 54, 4, 132, 5, 1, 167, 255, 220, 21, 4, 172]
abbrev dktX0_isSmall_2 : List UInt8 := dkwX0_isSmall_2 ++ []
def dkwX0_isSmall_1 : List UInt8 := [17, 1, 199, 162, 0, 34, 21, 4, 153, 0, 29, 43, 21, 5, 42, 180, 0, 64, 182, 0, 252, 42]
abbrev dktX0_isSmall_1 : List UInt8 := dkwX0_isSmall_1 ++ dktX0_isSmall_2
def dkwX0_isSmall_0 : List UInt8 := [43, 42, 180, 0, 22, 182, 1, 37, 28, 163, 0, 7, 4, 167, 0, 4, 3, 54, 4, 3, 54, 5, 21, 5]
abbrev dktX0_isSmall_0 : List UInt8 := dkwX0_isSmall_0 ++ dktX0_isSmall_1
theorem dksX0_isSmall_0 : cX0_isSmall.data.toList.drop 0 = dktX0_isSmall_0 := by decide +kernel
theorem dksX0_isSmall_1 : cX0_isSmall.data.toList.drop 24 = dktX0_isSmall_1 := dk_seg dksX0_isSmall_0 24 rfl rfl
theorem dksX0_isSmall_2 : cX0_isSmall.data.toList.drop 46 = dktX0_isSmall_2 := dk_seg dksX0_isSmall_1 22 rfl rfl
theorem dX0_isSmall_0 : decode cX0_isSmall 0 = .ok (.aload_n 1, 1) := dk_43 (dk_at dksX0_isSmall_0 0 rfl rfl)
theorem dX0_isSmall_1 : decode cX0_isSmall 1 = .ok (.aload_n 0, 1) := dk_42 (dk_at dksX0_isSmall_0 1 rfl rfl)
theorem dX0_isSmall_2 : decode cX0_isSmall 2 = .ok (.getfield 22, 3) := dk_180 0 22 (dk_at dksX0_isSmall_0 2 rfl rfl)
theorem dX0_isSmall_5 : decode cX0_isSmall 5 = .ok (.invokevirtual 293, 3) := dk_182 1 37 (dk_at dksX0_isSmall_0 5 rfl rfl)
theorem dX0_isSmall_8 : decode cX0_isSmall 8 = .ok (.iload_n 2, 1) := dk_28 (dk_at dksX0_isSmall_0 8 rfl rfl)
theorem dX0_isSmall_9 : decode cX0_isSmall 9 = .ok (.if_icmp .gt 7, 3) := dk_163 0 7 (dk_at dksX0_isSmall_0 9 rfl rfl)
theorem dX0_isSmall_12 : decode cX0_isSmall 12 = .ok (.iconst 1, 1) := dk_4 (dk_at dksX0_isSmall_0 12 rfl rfl)
theorem dX0_isSmall_13 : decode cX0_isSmall 13 = .ok (.goto 4, 3) := dk_167 0 4 (dk_at dksX0_isSmall_0 13 rfl rfl)
theorem dX0_isSmall_16 : decode cX0_isSmall 16 = .ok (.iconst 0, 1) := dk_3 (dk_at dksX0_isSmall_0 16 rfl rfl)
theorem dX0_isSmall_17 : decode cX0_isSmall 17 = .ok (.istore 4, 2) := dk_54 4 (dk_at dksX0_isSmall_0 17 rfl rfl)
theorem dX0_isSmall_19 : decode cX0_isSmall 19 = .ok (.iconst 0, 1) := dk_3 (dk_at dksX0_isSmall_0 19 rfl rfl)
theorem dX0_isSmall_20 : decode cX0_isSmall 20 = .ok (.istore 5, 2) := dk_54 5 (dk_at dksX0_isSmall_0 20 rfl rfl)
theorem dX0_isSmall_22 : decode cX0_isSmall 22 = .ok (.iload 5, 2) := dk_21 5 (dk_at dksX0_isSmall_0 22 rfl rfl)
theorem dX0_isSmall_24 : decode cX0_isSmall 24 = .ok (.sipush 455, 3) := dk_17 1 199 (dk_at dksX0_isSmall_1 0 rfl rfl)
theorem dX0_isSmall_27 : decode cX0_isSmall 27 = .ok (.if_icmp .ge 34, 3) := dk_162 0 34 (dk_at dksX0_isSmall_1 3 rfl rfl)
theorem dX0_isSmall_30 : decode cX0_isSmall 30 = .ok (.iload 4, 2) := dk_21 4 (dk_at dksX0_isSmall_1 6 rfl rfl)
theorem dX0_isSmall_32 : decode cX0_isSmall 32 = .ok (.ifCond .eq 29, 3) := dk_153 0 29 (dk_at dksX0_isSmall_1 8 rfl rfl)
theorem dX0_isSmall_35 : decode cX0_isSmall 35 = .ok (.aload_n 1, 1) := dk_43 (dk_at dksX0_isSmall_1 11 rfl rfl)
theorem dX0_isSmall_36 : decode cX0_isSmall 36 = .ok (.iload 5, 2) := dk_21 5 (dk_at dksX0_isSmall_1 12 rfl rfl)
theorem dX0_isSmall_38 : decode cX0_isSmall 38 = .ok (.aload_n 0, 1) := dk_42 (dk_at dksX0_isSmall_1 14 rfl rfl)
theorem dX0_isSmall_39 : decode cX0_isSmall 39 = .ok (.getfield 64, 3) := dk_180 0 64 (dk_at dksX0_isSmall_1 15 rfl rfl)
theorem dX0_isSmall_42 : decode cX0_isSmall 42 = .ok (.invokevirtual 252, 3) := dk_182 0 252 (dk_at dksX0_isSmall_1 18 rfl rfl)
theorem dX0_isSmall_45 : decode cX0_isSmall 45 = .ok (.aload_n 0, 1) := dk_42 (dk_at dksX0_isSmall_1 21 rfl rfl)
theorem dX0_isSmall_46 : decode cX0_isSmall 46 = .ok (.getfield 64, 3) := dk_180 0 64 (dk_at dksX0_isSmall_2 0 rfl rfl)
theorem dX0_isSmall_49 : decode cX0_isSmall 49 = .ok (.iload_n 3, 1) := dk_29 (dk_at dksX0_isSmall_2 3 rfl rfl)
theorem dX0_isSmall_50 : decode cX0_isSmall 50 = .ok (.invokevirtual 440, 3) := dk_182 1 184 (dk_at dksX0_isSmall_2 4 rfl rfl)
theorem dX0_isSmall_53 : decode cX0_isSmall 53 = .ok (.istore 4, 2) := dk_54 4 (dk_at dksX0_isSmall_2 7 rfl rfl)
theorem dX0_isSmall_55 : decode cX0_isSmall 55 = .ok (.iinc 5 1, 3) := dk_132 5 1 (dk_at dksX0_isSmall_2 9 rfl rfl)
theorem dX0_isSmall_58 : decode cX0_isSmall 58 = .ok (.goto (-36), 3) := dk_167 255 220 (dk_at dksX0_isSmall_2 12 rfl rfl)
theorem dX0_isSmall_61 : decode cX0_isSmall 61 = .ok (.iload 4, 2) := dk_21 4 (dk_at dksX0_isSmall_2 15 rfl rfl)
theorem dX0_isSmall_63 : decode cX0_isSmall 63 = .ok (.ireturn, 1) := dk_172 (dk_at dksX0_isSmall_2 17 rfl rfl)
abbrev cX0_unideal : ByteArray := prog_1_method_41_code
def yX0_unideal : MethodName := ⟨RX0, "unideal", "()I"⟩
def dkwX0_unideal_0 : List UInt8 := [42, 180, 1, 191, 60, 42, 3, 181, 1, 191, 27, 172]
abbrev dktX0_unideal_0 : List UInt8 := dkwX0_unideal_0 ++ []
theorem dksX0_unideal_0 : cX0_unideal.data.toList.drop 0 = dktX0_unideal_0 := by decide +kernel
theorem dX0_unideal_0 : decode cX0_unideal 0 = .ok (.aload_n 0, 1) := dk_42 (dk_at dksX0_unideal_0 0 rfl rfl)
theorem dX0_unideal_1 : decode cX0_unideal 1 = .ok (.getfield 447, 3) := dk_180 1 191 (dk_at dksX0_unideal_0 1 rfl rfl)
theorem dX0_unideal_4 : decode cX0_unideal 4 = .ok (.istore_n 1, 1) := dk_60 (dk_at dksX0_unideal_0 4 rfl rfl)
theorem dX0_unideal_5 : decode cX0_unideal 5 = .ok (.aload_n 0, 1) := dk_42 (dk_at dksX0_unideal_0 5 rfl rfl)
theorem dX0_unideal_6 : decode cX0_unideal 6 = .ok (.iconst 0, 1) := dk_3 (dk_at dksX0_unideal_0 6 rfl rfl)
theorem dX0_unideal_7 : decode cX0_unideal 7 = .ok (.putfield 447, 3) := dk_181 1 191 (dk_at dksX0_unideal_0 7 rfl rfl)
theorem dX0_unideal_10 : decode cX0_unideal 10 = .ok (.iload_n 1, 1) := dk_27 (dk_at dksX0_unideal_0 10 rfl rfl)
theorem dX0_unideal_11 : decode cX0_unideal 11 = .ok (.ireturn, 1) := dk_172 (dk_at dksX0_unideal_0 11 rfl rfl)
abbrev cX0_span : ByteArray := prog_1_method_42_code
def yX0_span : MethodName := ⟨RX0, "span", "(II)I"⟩
def dkwX0_span_2 : List UInt8 := [180, 1, 201, 172, 78, 42, 45, 182, 0, 233, 172]
abbrev dktX0_span_2 : List UInt8 := dkwX0_span_2 ++ []
def dkwX0_span_1 : List UInt8 := [182, 0, 229, 42, 180, 0, 45, 42, 180, 0, 130, 42, 180, 1, 191, 45, 28, 182, 1, 197, 42, 180, 0, 45]
abbrev dktX0_span_1 : List UInt8 := dkwX0_span_1 ++ dktX0_span_2
def dkwX0_span_0 : List UInt8 := [42, 27, 182, 1, 69, 78, 42, 28, 155, 0, 12, 28, 7, 163, 0, 7, 4, 167, 0, 4, 3, 16, 250]
abbrev dktX0_span_0 : List UInt8 := dkwX0_span_0 ++ dktX0_span_1
theorem dksX0_span_0 : cX0_span.data.toList.drop 0 = dktX0_span_0 := by decide +kernel
theorem dksX0_span_1 : cX0_span.data.toList.drop 23 = dktX0_span_1 := dk_seg dksX0_span_0 23 rfl rfl
theorem dksX0_span_2 : cX0_span.data.toList.drop 47 = dktX0_span_2 := dk_seg dksX0_span_1 24 rfl rfl
theorem dX0_span_0 : decode cX0_span 0 = .ok (.aload_n 0, 1) := dk_42 (dk_at dksX0_span_0 0 rfl rfl)
theorem dX0_span_1 : decode cX0_span 1 = .ok (.iload_n 1, 1) := dk_27 (dk_at dksX0_span_0 1 rfl rfl)
theorem dX0_span_2 : decode cX0_span 2 = .ok (.invokevirtual 325, 3) := dk_182 1 69 (dk_at dksX0_span_0 2 rfl rfl)
theorem dX0_span_5 : decode cX0_span 5 = .ok (.astore_n 3, 1) := dk_78 (dk_at dksX0_span_0 5 rfl rfl)
theorem dX0_span_6 : decode cX0_span 6 = .ok (.aload_n 0, 1) := dk_42 (dk_at dksX0_span_0 6 rfl rfl)
theorem dX0_span_7 : decode cX0_span 7 = .ok (.iload_n 2, 1) := dk_28 (dk_at dksX0_span_0 7 rfl rfl)
theorem dX0_span_8 : decode cX0_span 8 = .ok (.ifCond .lt 12, 3) := dk_155 0 12 (dk_at dksX0_span_0 8 rfl rfl)
theorem dX0_span_11 : decode cX0_span 11 = .ok (.iload_n 2, 1) := dk_28 (dk_at dksX0_span_0 11 rfl rfl)
theorem dX0_span_12 : decode cX0_span 12 = .ok (.iconst 4, 1) := dk_7 (dk_at dksX0_span_0 12 rfl rfl)
theorem dX0_span_13 : decode cX0_span 13 = .ok (.if_icmp .gt 7, 3) := dk_163 0 7 (dk_at dksX0_span_0 13 rfl rfl)
theorem dX0_span_16 : decode cX0_span 16 = .ok (.iconst 1, 1) := dk_4 (dk_at dksX0_span_0 16 rfl rfl)
theorem dX0_span_17 : decode cX0_span 17 = .ok (.goto 4, 3) := dk_167 0 4 (dk_at dksX0_span_0 17 rfl rfl)
theorem dX0_span_20 : decode cX0_span 20 = .ok (.iconst 0, 1) := dk_3 (dk_at dksX0_span_0 20 rfl rfl)
theorem dX0_span_21 : decode cX0_span 21 = .ok (.bipush (-6), 2) := dk_16 250 (dk_at dksX0_span_0 21 rfl rfl)
theorem dX0_span_23 : decode cX0_span 23 = .ok (.invokevirtual 229, 3) := dk_182 0 229 (dk_at dksX0_span_1 0 rfl rfl)
theorem dX0_span_26 : decode cX0_span 26 = .ok (.aload_n 0, 1) := dk_42 (dk_at dksX0_span_1 3 rfl rfl)
theorem dX0_span_27 : decode cX0_span 27 = .ok (.getfield 45, 3) := dk_180 0 45 (dk_at dksX0_span_1 4 rfl rfl)
theorem dX0_span_30 : decode cX0_span 30 = .ok (.aload_n 0, 1) := dk_42 (dk_at dksX0_span_1 7 rfl rfl)
theorem dX0_span_31 : decode cX0_span 31 = .ok (.getfield 130, 3) := dk_180 0 130 (dk_at dksX0_span_1 8 rfl rfl)
theorem dX0_span_34 : decode cX0_span 34 = .ok (.aload_n 0, 1) := dk_42 (dk_at dksX0_span_1 11 rfl rfl)
theorem dX0_span_35 : decode cX0_span 35 = .ok (.getfield 447, 3) := dk_180 1 191 (dk_at dksX0_span_1 12 rfl rfl)
theorem dX0_span_38 : decode cX0_span 38 = .ok (.aload_n 3, 1) := dk_45 (dk_at dksX0_span_1 15 rfl rfl)
theorem dX0_span_39 : decode cX0_span 39 = .ok (.iload_n 2, 1) := dk_28 (dk_at dksX0_span_1 16 rfl rfl)
theorem dX0_span_40 : decode cX0_span 40 = .ok (.invokevirtual 453, 3) := dk_182 1 197 (dk_at dksX0_span_1 17 rfl rfl)
theorem dX0_span_43 : decode cX0_span 43 = .ok (.aload_n 0, 1) := dk_42 (dk_at dksX0_span_1 20 rfl rfl)
theorem dX0_span_44 : decode cX0_span 44 = .ok (.getfield 45, 3) := dk_180 0 45 (dk_at dksX0_span_1 21 rfl rfl)
theorem dX0_span_47 : decode cX0_span 47 = .ok (.getfield 457, 3) := dk_180 1 201 (dk_at dksX0_span_2 0 rfl rfl)
theorem dX0_span_50 : decode cX0_span 50 = .ok (.ireturn, 1) := dk_172 (dk_at dksX0_span_2 3 rfl rfl)
theorem dX0_span_51 : decode cX0_span 51 = .ok (.astore_n 3, 1) := dk_78 (dk_at dksX0_span_2 4 rfl rfl)
theorem dX0_span_52 : decode cX0_span 52 = .ok (.aload_n 0, 1) := dk_42 (dk_at dksX0_span_2 5 rfl rfl)
theorem dX0_span_53 : decode cX0_span 53 = .ok (.aload_n 3, 1) := dk_45 (dk_at dksX0_span_2 6 rfl rfl)
theorem dX0_span_54 : decode cX0_span 54 = .ok (.invokevirtual 233, 3) := dk_182 0 233 (dk_at dksX0_span_2 7 rfl rfl)
theorem dX0_span_57 : decode cX0_span 57 = .ok (.ireturn, 1) := dk_172 (dk_at dksX0_span_2 10 rfl rfl)
abbrev cX0_element : ByteArray := prog_1_method_44_code
def yX0_element : MethodName := ⟨RX0, "element", "(II)I"⟩
def dkwX0_element_3 : List UInt8 := [45, 182, 0, 233, 172]
abbrev dktX0_element_3 : List UInt8 := dkwX0_element_3 ++ []
def dkwX0_element_2 : List UInt8 := [180, 0, 64, 182, 1, 210, 42, 180, 0, 22, 42, 180, 0, 45, 27, 182, 1, 214, 182, 1, 77, 172, 78, 42]
abbrev dktX0_element_2 : List UInt8 := dkwX0_element_2 ++ dktX0_element_3
def dkwX0_element_1 : List UInt8 := [162, 0, 7, 4, 167, 0, 4, 3, 16, 249, 182, 0, 229, 42, 180, 0, 45, 27, 42, 45, 182, 0, 218, 42]
abbrev dktX0_element_1 : List UInt8 := dkwX0_element_1 ++ dktX0_element_2
def dkwX0_element_0 : List UInt8 := [42, 28, 182, 0, 190, 78, 42, 182, 1, 207, 42, 27, 155, 0, 18, 27, 42, 180, 0, 45, 180, 1, 201]
abbrev dktX0_element_0 : List UInt8 := dkwX0_element_0 ++ dktX0_element_1
theorem dksX0_element_0 : cX0_element.data.toList.drop 0 = dktX0_element_0 := by decide +kernel
theorem dksX0_element_1 : cX0_element.data.toList.drop 23 = dktX0_element_1 := dk_seg dksX0_element_0 23 rfl rfl
theorem dksX0_element_2 : cX0_element.data.toList.drop 47 = dktX0_element_2 := dk_seg dksX0_element_1 24 rfl rfl
theorem dksX0_element_3 : cX0_element.data.toList.drop 71 = dktX0_element_3 := dk_seg dksX0_element_2 24 rfl rfl
theorem dX0_element_0 : decode cX0_element 0 = .ok (.aload_n 0, 1) := dk_42 (dk_at dksX0_element_0 0 rfl rfl)
theorem dX0_element_1 : decode cX0_element 1 = .ok (.iload_n 2, 1) := dk_28 (dk_at dksX0_element_0 1 rfl rfl)
theorem dX0_element_2 : decode cX0_element 2 = .ok (.invokevirtual 190, 3) := dk_182 0 190 (dk_at dksX0_element_0 2 rfl rfl)
theorem dX0_element_5 : decode cX0_element 5 = .ok (.astore_n 3, 1) := dk_78 (dk_at dksX0_element_0 5 rfl rfl)
theorem dX0_element_6 : decode cX0_element 6 = .ok (.aload_n 0, 1) := dk_42 (dk_at dksX0_element_0 6 rfl rfl)
theorem dX0_element_7 : decode cX0_element 7 = .ok (.invokevirtual 463, 3) := dk_182 1 207 (dk_at dksX0_element_0 7 rfl rfl)
theorem dX0_element_10 : decode cX0_element 10 = .ok (.aload_n 0, 1) := dk_42 (dk_at dksX0_element_0 10 rfl rfl)
theorem dX0_element_11 : decode cX0_element 11 = .ok (.iload_n 1, 1) := dk_27 (dk_at dksX0_element_0 11 rfl rfl)
theorem dX0_element_12 : decode cX0_element 12 = .ok (.ifCond .lt 18, 3) := dk_155 0 18 (dk_at dksX0_element_0 12 rfl rfl)
theorem dX0_element_15 : decode cX0_element 15 = .ok (.iload_n 1, 1) := dk_27 (dk_at dksX0_element_0 15 rfl rfl)
theorem dX0_element_16 : decode cX0_element 16 = .ok (.aload_n 0, 1) := dk_42 (dk_at dksX0_element_0 16 rfl rfl)
theorem dX0_element_17 : decode cX0_element 17 = .ok (.getfield 45, 3) := dk_180 0 45 (dk_at dksX0_element_0 17 rfl rfl)
theorem dX0_element_20 : decode cX0_element 20 = .ok (.getfield 457, 3) := dk_180 1 201 (dk_at dksX0_element_0 20 rfl rfl)
theorem dX0_element_23 : decode cX0_element 23 = .ok (.if_icmp .ge 7, 3) := dk_162 0 7 (dk_at dksX0_element_1 0 rfl rfl)
theorem dX0_element_26 : decode cX0_element 26 = .ok (.iconst 1, 1) := dk_4 (dk_at dksX0_element_1 3 rfl rfl)
theorem dX0_element_27 : decode cX0_element 27 = .ok (.goto 4, 3) := dk_167 0 4 (dk_at dksX0_element_1 4 rfl rfl)
theorem dX0_element_30 : decode cX0_element 30 = .ok (.iconst 0, 1) := dk_3 (dk_at dksX0_element_1 7 rfl rfl)
theorem dX0_element_31 : decode cX0_element 31 = .ok (.bipush (-7), 2) := dk_16 249 (dk_at dksX0_element_1 8 rfl rfl)
theorem dX0_element_33 : decode cX0_element 33 = .ok (.invokevirtual 229, 3) := dk_182 0 229 (dk_at dksX0_element_1 10 rfl rfl)
theorem dX0_element_36 : decode cX0_element 36 = .ok (.aload_n 0, 1) := dk_42 (dk_at dksX0_element_1 13 rfl rfl)
theorem dX0_element_37 : decode cX0_element 37 = .ok (.getfield 45, 3) := dk_180 0 45 (dk_at dksX0_element_1 14 rfl rfl)
theorem dX0_element_40 : decode cX0_element 40 = .ok (.iload_n 1, 1) := dk_27 (dk_at dksX0_element_1 17 rfl rfl)
theorem dX0_element_41 : decode cX0_element 41 = .ok (.aload_n 0, 1) := dk_42 (dk_at dksX0_element_1 18 rfl rfl)
theorem dX0_element_42 : decode cX0_element 42 = .ok (.aload_n 3, 1) := dk_45 (dk_at dksX0_element_1 19 rfl rfl)
theorem dX0_element_43 : decode cX0_element 43 = .ok (.invokevirtual 218, 3) := dk_182 0 218 (dk_at dksX0_element_1 20 rfl rfl)
theorem dX0_element_46 : decode cX0_element 46 = .ok (.aload_n 0, 1) := dk_42 (dk_at dksX0_element_1 23 rfl rfl)
theorem dX0_element_47 : decode cX0_element 47 = .ok (.getfield 64, 3) := dk_180 0 64 (dk_at dksX0_element_2 0 rfl rfl)
theorem dX0_element_50 : decode cX0_element 50 = .ok (.invokevirtual 466, 3) := dk_182 1 210 (dk_at dksX0_element_2 3 rfl rfl)
theorem dX0_element_53 : decode cX0_element 53 = .ok (.aload_n 0, 1) := dk_42 (dk_at dksX0_element_2 6 rfl rfl)
theorem dX0_element_54 : decode cX0_element 54 = .ok (.getfield 22, 3) := dk_180 0 22 (dk_at dksX0_element_2 7 rfl rfl)
theorem dX0_element_57 : decode cX0_element 57 = .ok (.aload_n 0, 1) := dk_42 (dk_at dksX0_element_2 10 rfl rfl)
theorem dX0_element_58 : decode cX0_element 58 = .ok (.getfield 45, 3) := dk_180 0 45 (dk_at dksX0_element_2 11 rfl rfl)
theorem dX0_element_61 : decode cX0_element 61 = .ok (.iload_n 1, 1) := dk_27 (dk_at dksX0_element_2 14 rfl rfl)
theorem dX0_element_62 : decode cX0_element 62 = .ok (.invokevirtual 470, 3) := dk_182 1 214 (dk_at dksX0_element_2 15 rfl rfl)
theorem dX0_element_65 : decode cX0_element 65 = .ok (.invokevirtual 333, 3) := dk_182 1 77 (dk_at dksX0_element_2 18 rfl rfl)
theorem dX0_element_68 : decode cX0_element 68 = .ok (.ireturn, 1) := dk_172 (dk_at dksX0_element_2 21 rfl rfl)
theorem dX0_element_69 : decode cX0_element 69 = .ok (.astore_n 3, 1) := dk_78 (dk_at dksX0_element_2 22 rfl rfl)
theorem dX0_element_70 : decode cX0_element 70 = .ok (.aload_n 0, 1) := dk_42 (dk_at dksX0_element_2 23 rfl rfl)
theorem dX0_element_71 : decode cX0_element 71 = .ok (.aload_n 3, 1) := dk_45 (dk_at dksX0_element_3 0 rfl rfl)
theorem dX0_element_72 : decode cX0_element 72 = .ok (.invokevirtual 233, 3) := dk_182 0 233 (dk_at dksX0_element_3 1 rfl rfl)
theorem dX0_element_75 : decode cX0_element 75 = .ok (.ireturn, 1) := dk_172 (dk_at dksX0_element_3 4 rfl rfl)
abbrev cX0_spanned : ByteArray := prog_1_method_43_code
def yX0_spanned : MethodName := ⟨RX0, "spanned", "()V"⟩
def dkwX0_spanned_0 : List UInt8 := [42, 42, 180, 0, 45, 180, 1, 204, 16, 249, 159, 0, 7, 4, 167, 0, 4, 3, 16, 249, 182, 0, 229, 177]
abbrev dktX0_spanned_0 : List UInt8 := dkwX0_spanned_0 ++ []
theorem dksX0_spanned_0 : cX0_spanned.data.toList.drop 0 = dktX0_spanned_0 := by decide +kernel
theorem dX0_spanned_0 : decode cX0_spanned 0 = .ok (.aload_n 0, 1) := dk_42 (dk_at dksX0_spanned_0 0 rfl rfl)
theorem dX0_spanned_1 : decode cX0_spanned 1 = .ok (.aload_n 0, 1) := dk_42 (dk_at dksX0_spanned_0 1 rfl rfl)
theorem dX0_spanned_2 : decode cX0_spanned 2 = .ok (.getfield 45, 3) := dk_180 0 45 (dk_at dksX0_spanned_0 2 rfl rfl)
theorem dX0_spanned_5 : decode cX0_spanned 5 = .ok (.getfield 460, 3) := dk_180 1 204 (dk_at dksX0_spanned_0 5 rfl rfl)
theorem dX0_spanned_8 : decode cX0_spanned 8 = .ok (.bipush (-7), 2) := dk_16 249 (dk_at dksX0_spanned_0 8 rfl rfl)
theorem dX0_spanned_10 : decode cX0_spanned 10 = .ok (.if_icmp .eq 7, 3) := dk_159 0 7 (dk_at dksX0_spanned_0 10 rfl rfl)
theorem dX0_spanned_13 : decode cX0_spanned 13 = .ok (.iconst 1, 1) := dk_4 (dk_at dksX0_spanned_0 13 rfl rfl)
theorem dX0_spanned_14 : decode cX0_spanned 14 = .ok (.goto 4, 3) := dk_167 0 4 (dk_at dksX0_spanned_0 14 rfl rfl)
theorem dX0_spanned_17 : decode cX0_spanned 17 = .ok (.iconst 0, 1) := dk_3 (dk_at dksX0_spanned_0 17 rfl rfl)
theorem dX0_spanned_18 : decode cX0_spanned 18 = .ok (.bipush (-7), 2) := dk_16 249 (dk_at dksX0_spanned_0 18 rfl rfl)
theorem dX0_spanned_20 : decode cX0_spanned 20 = .ok (.invokevirtual 229, 3) := dk_182 0 229 (dk_at dksX0_spanned_0 20 rfl rfl)
theorem dX0_spanned_23 : decode cX0_spanned 23 = .ok (.return_, 1) := dk_177 (dk_at dksX0_spanned_0 23 rfl rfl)
abbrev cX0_closed : ByteArray := prog_1_method_46_code
def yX0_closed : MethodName := ⟨RX0, "closed", "()I"⟩
def dkwX0_closed_7 : List UInt8 := [132, 2, 1, 167, 255, 175, 4, 172, 76, 42, 43, 182, 0, 233, 172]
abbrev dktX0_closed_7 : List UInt8 := dkwX0_closed_7 ++ []
def dkwX0_closed_6 : List UInt8 := [16, 250, 182, 0, 229, 42, 180, 0, 142, 180, 0, 226, 158, 0, 5, 3, 172, 132, 3, 1, 167, 255, 190]
abbrev dktX0_closed_6 : List UInt8 := dkwX0_closed_6 ++ dktX0_closed_7
def dkwX0_closed_5 : List UInt8 := [180, 0, 38, 42, 180, 0, 145, 27, 42, 180, 0, 45, 180, 1, 217, 1, 42, 180, 0, 142, 182, 1, 177]
abbrev dktX0_closed_5 : List UInt8 := dkwX0_closed_5 ++ dktX0_closed_6
def dkwX0_closed_4 : List UInt8 := [27, 162, 0, 67, 42, 42, 180, 0, 145, 28, 50, 42, 180, 0, 145, 29, 50, 182, 1, 230, 42, 42]
abbrev dktX0_closed_4 : List UInt8 := dkwX0_closed_4 ++ dktX0_closed_5
def dkwX0_closed_3 : List UInt8 := [182, 1, 210, 132, 1, 1, 132, 2, 1, 167, 255, 185, 3, 61, 28, 27, 162, 0, 82, 28, 4, 96, 62, 29]
abbrev dktX0_closed_3 : List UInt8 := dkwX0_closed_3 ++ dktX0_closed_4
def dkwX0_closed_2 : List UInt8 := [187, 0, 119, 89, 183, 0, 121, 83, 42, 180, 0, 45, 28, 42, 180, 0, 145, 27, 50, 42, 180, 0, 64]
abbrev dktX0_closed_2 : List UInt8 := dkwX0_closed_2 ++ dktX0_closed_3
def dkwX0_closed_1 : List UInt8 := [182, 1, 227, 154, 0, 6, 167, 0, 46, 42, 180, 0, 145, 27, 50, 199, 0, 16, 42, 180, 0, 145, 27]
abbrev dktX0_closed_1 : List UInt8 := dkwX0_closed_1 ++ dktX0_closed_2
def dkwX0_closed_0 : List UInt8 := [42, 182, 1, 207, 3, 60, 3, 61, 28, 42, 180, 0, 45, 180, 1, 201, 162, 0, 66, 42, 180, 0, 45, 28]
abbrev dktX0_closed_0 : List UInt8 := dkwX0_closed_0 ++ dktX0_closed_1
theorem dksX0_closed_0 : cX0_closed.data.toList.drop 0 = dktX0_closed_0 := by decide +kernel
theorem dksX0_closed_1 : cX0_closed.data.toList.drop 24 = dktX0_closed_1 := dk_seg dksX0_closed_0 24 rfl rfl
theorem dksX0_closed_2 : cX0_closed.data.toList.drop 47 = dktX0_closed_2 := dk_seg dksX0_closed_1 23 rfl rfl
theorem dksX0_closed_3 : cX0_closed.data.toList.drop 70 = dktX0_closed_3 := dk_seg dksX0_closed_2 23 rfl rfl
theorem dksX0_closed_4 : cX0_closed.data.toList.drop 94 = dktX0_closed_4 := dk_seg dksX0_closed_3 24 rfl rfl
theorem dksX0_closed_5 : cX0_closed.data.toList.drop 116 = dktX0_closed_5 := dk_seg dksX0_closed_4 22 rfl rfl
theorem dksX0_closed_6 : cX0_closed.data.toList.drop 139 = dktX0_closed_6 := dk_seg dksX0_closed_5 23 rfl rfl
theorem dksX0_closed_7 : cX0_closed.data.toList.drop 162 = dktX0_closed_7 := dk_seg dksX0_closed_6 23 rfl rfl
theorem dX0_closed_0 : decode cX0_closed 0 = .ok (.aload_n 0, 1) := dk_42 (dk_at dksX0_closed_0 0 rfl rfl)
theorem dX0_closed_1 : decode cX0_closed 1 = .ok (.invokevirtual 463, 3) := dk_182 1 207 (dk_at dksX0_closed_0 1 rfl rfl)
theorem dX0_closed_4 : decode cX0_closed 4 = .ok (.iconst 0, 1) := dk_3 (dk_at dksX0_closed_0 4 rfl rfl)
theorem dX0_closed_5 : decode cX0_closed 5 = .ok (.istore_n 1, 1) := dk_60 (dk_at dksX0_closed_0 5 rfl rfl)
theorem dX0_closed_6 : decode cX0_closed 6 = .ok (.iconst 0, 1) := dk_3 (dk_at dksX0_closed_0 6 rfl rfl)
theorem dX0_closed_7 : decode cX0_closed 7 = .ok (.istore_n 2, 1) := dk_61 (dk_at dksX0_closed_0 7 rfl rfl)
theorem dX0_closed_8 : decode cX0_closed 8 = .ok (.iload_n 2, 1) := dk_28 (dk_at dksX0_closed_0 8 rfl rfl)
theorem dX0_closed_9 : decode cX0_closed 9 = .ok (.aload_n 0, 1) := dk_42 (dk_at dksX0_closed_0 9 rfl rfl)
theorem dX0_closed_10 : decode cX0_closed 10 = .ok (.getfield 45, 3) := dk_180 0 45 (dk_at dksX0_closed_0 10 rfl rfl)
theorem dX0_closed_13 : decode cX0_closed 13 = .ok (.getfield 457, 3) := dk_180 1 201 (dk_at dksX0_closed_0 13 rfl rfl)
theorem dX0_closed_16 : decode cX0_closed 16 = .ok (.if_icmp .ge 66, 3) := dk_162 0 66 (dk_at dksX0_closed_0 16 rfl rfl)
theorem dX0_closed_19 : decode cX0_closed 19 = .ok (.aload_n 0, 1) := dk_42 (dk_at dksX0_closed_0 19 rfl rfl)
theorem dX0_closed_20 : decode cX0_closed 20 = .ok (.getfield 45, 3) := dk_180 0 45 (dk_at dksX0_closed_0 20 rfl rfl)
theorem dX0_closed_23 : decode cX0_closed 23 = .ok (.iload_n 2, 1) := dk_28 (dk_at dksX0_closed_0 23 rfl rfl)
theorem dX0_closed_24 : decode cX0_closed 24 = .ok (.invokevirtual 483, 3) := dk_182 1 227 (dk_at dksX0_closed_1 0 rfl rfl)
theorem dX0_closed_27 : decode cX0_closed 27 = .ok (.ifCond .ne 6, 3) := dk_154 0 6 (dk_at dksX0_closed_1 3 rfl rfl)
theorem dX0_closed_30 : decode cX0_closed 30 = .ok (.goto 46, 3) := dk_167 0 46 (dk_at dksX0_closed_1 6 rfl rfl)
theorem dX0_closed_33 : decode cX0_closed 33 = .ok (.aload_n 0, 1) := dk_42 (dk_at dksX0_closed_1 9 rfl rfl)
theorem dX0_closed_34 : decode cX0_closed 34 = .ok (.getfield 145, 3) := dk_180 0 145 (dk_at dksX0_closed_1 10 rfl rfl)
theorem dX0_closed_37 : decode cX0_closed 37 = .ok (.iload_n 1, 1) := dk_27 (dk_at dksX0_closed_1 13 rfl rfl)
theorem dX0_closed_38 : decode cX0_closed 38 = .ok (.aaload, 1) := dk_50 (dk_at dksX0_closed_1 14 rfl rfl)
theorem dX0_closed_39 : decode cX0_closed 39 = .ok (.ifnonnull 16, 3) := dk_199 0 16 (dk_at dksX0_closed_1 15 rfl rfl)
theorem dX0_closed_42 : decode cX0_closed 42 = .ok (.aload_n 0, 1) := dk_42 (dk_at dksX0_closed_1 18 rfl rfl)
theorem dX0_closed_43 : decode cX0_closed 43 = .ok (.getfield 145, 3) := dk_180 0 145 (dk_at dksX0_closed_1 19 rfl rfl)
theorem dX0_closed_46 : decode cX0_closed 46 = .ok (.iload_n 1, 1) := dk_27 (dk_at dksX0_closed_1 22 rfl rfl)
theorem dX0_closed_47 : decode cX0_closed 47 = .ok (.new 119, 3) := dk_187 0 119 (dk_at dksX0_closed_2 0 rfl rfl)
theorem dX0_closed_50 : decode cX0_closed 50 = .ok (.dup, 1) := dk_89 (dk_at dksX0_closed_2 3 rfl rfl)
theorem dX0_closed_51 : decode cX0_closed 51 = .ok (.invokespecial 121, 3) := dk_183 0 121 (dk_at dksX0_closed_2 4 rfl rfl)
theorem dX0_closed_54 : decode cX0_closed 54 = .ok (.aastore, 1) := dk_83 (dk_at dksX0_closed_2 7 rfl rfl)
theorem dX0_closed_55 : decode cX0_closed 55 = .ok (.aload_n 0, 1) := dk_42 (dk_at dksX0_closed_2 8 rfl rfl)
theorem dX0_closed_56 : decode cX0_closed 56 = .ok (.getfield 45, 3) := dk_180 0 45 (dk_at dksX0_closed_2 9 rfl rfl)
theorem dX0_closed_59 : decode cX0_closed 59 = .ok (.iload_n 2, 1) := dk_28 (dk_at dksX0_closed_2 12 rfl rfl)
theorem dX0_closed_60 : decode cX0_closed 60 = .ok (.aload_n 0, 1) := dk_42 (dk_at dksX0_closed_2 13 rfl rfl)
theorem dX0_closed_61 : decode cX0_closed 61 = .ok (.getfield 145, 3) := dk_180 0 145 (dk_at dksX0_closed_2 14 rfl rfl)
theorem dX0_closed_64 : decode cX0_closed 64 = .ok (.iload_n 1, 1) := dk_27 (dk_at dksX0_closed_2 17 rfl rfl)
theorem dX0_closed_65 : decode cX0_closed 65 = .ok (.aaload, 1) := dk_50 (dk_at dksX0_closed_2 18 rfl rfl)
theorem dX0_closed_66 : decode cX0_closed 66 = .ok (.aload_n 0, 1) := dk_42 (dk_at dksX0_closed_2 19 rfl rfl)
theorem dX0_closed_67 : decode cX0_closed 67 = .ok (.getfield 64, 3) := dk_180 0 64 (dk_at dksX0_closed_2 20 rfl rfl)
theorem dX0_closed_70 : decode cX0_closed 70 = .ok (.invokevirtual 466, 3) := dk_182 1 210 (dk_at dksX0_closed_3 0 rfl rfl)
theorem dX0_closed_73 : decode cX0_closed 73 = .ok (.iinc 1 1, 3) := dk_132 1 1 (dk_at dksX0_closed_3 3 rfl rfl)
theorem dX0_closed_76 : decode cX0_closed 76 = .ok (.iinc 2 1, 3) := dk_132 2 1 (dk_at dksX0_closed_3 6 rfl rfl)
theorem dX0_closed_79 : decode cX0_closed 79 = .ok (.goto (-71), 3) := dk_167 255 185 (dk_at dksX0_closed_3 9 rfl rfl)
theorem dX0_closed_82 : decode cX0_closed 82 = .ok (.iconst 0, 1) := dk_3 (dk_at dksX0_closed_3 12 rfl rfl)
theorem dX0_closed_83 : decode cX0_closed 83 = .ok (.istore_n 2, 1) := dk_61 (dk_at dksX0_closed_3 13 rfl rfl)
theorem dX0_closed_84 : decode cX0_closed 84 = .ok (.iload_n 2, 1) := dk_28 (dk_at dksX0_closed_3 14 rfl rfl)
theorem dX0_closed_85 : decode cX0_closed 85 = .ok (.iload_n 1, 1) := dk_27 (dk_at dksX0_closed_3 15 rfl rfl)
theorem dX0_closed_86 : decode cX0_closed 86 = .ok (.if_icmp .ge 82, 3) := dk_162 0 82 (dk_at dksX0_closed_3 16 rfl rfl)
theorem dX0_closed_89 : decode cX0_closed 89 = .ok (.iload_n 2, 1) := dk_28 (dk_at dksX0_closed_3 19 rfl rfl)
theorem dX0_closed_90 : decode cX0_closed 90 = .ok (.iconst 1, 1) := dk_4 (dk_at dksX0_closed_3 20 rfl rfl)
theorem dX0_closed_91 : decode cX0_closed 91 = .ok (.iadd, 1) := dk_96 (dk_at dksX0_closed_3 21 rfl rfl)
theorem dX0_closed_92 : decode cX0_closed 92 = .ok (.istore_n 3, 1) := dk_62 (dk_at dksX0_closed_3 22 rfl rfl)
theorem dX0_closed_93 : decode cX0_closed 93 = .ok (.iload_n 3, 1) := dk_29 (dk_at dksX0_closed_3 23 rfl rfl)
theorem dX0_closed_94 : decode cX0_closed 94 = .ok (.iload_n 1, 1) := dk_27 (dk_at dksX0_closed_4 0 rfl rfl)
theorem dX0_closed_95 : decode cX0_closed 95 = .ok (.if_icmp .ge 67, 3) := dk_162 0 67 (dk_at dksX0_closed_4 1 rfl rfl)
theorem dX0_closed_98 : decode cX0_closed 98 = .ok (.aload_n 0, 1) := dk_42 (dk_at dksX0_closed_4 4 rfl rfl)
theorem dX0_closed_99 : decode cX0_closed 99 = .ok (.aload_n 0, 1) := dk_42 (dk_at dksX0_closed_4 5 rfl rfl)
theorem dX0_closed_100 : decode cX0_closed 100 = .ok (.getfield 145, 3) := dk_180 0 145 (dk_at dksX0_closed_4 6 rfl rfl)
theorem dX0_closed_103 : decode cX0_closed 103 = .ok (.iload_n 2, 1) := dk_28 (dk_at dksX0_closed_4 9 rfl rfl)
theorem dX0_closed_104 : decode cX0_closed 104 = .ok (.aaload, 1) := dk_50 (dk_at dksX0_closed_4 10 rfl rfl)
theorem dX0_closed_105 : decode cX0_closed 105 = .ok (.aload_n 0, 1) := dk_42 (dk_at dksX0_closed_4 11 rfl rfl)
theorem dX0_closed_106 : decode cX0_closed 106 = .ok (.getfield 145, 3) := dk_180 0 145 (dk_at dksX0_closed_4 12 rfl rfl)
theorem dX0_closed_109 : decode cX0_closed 109 = .ok (.iload_n 3, 1) := dk_29 (dk_at dksX0_closed_4 15 rfl rfl)
theorem dX0_closed_110 : decode cX0_closed 110 = .ok (.aaload, 1) := dk_50 (dk_at dksX0_closed_4 16 rfl rfl)
theorem dX0_closed_111 : decode cX0_closed 111 = .ok (.invokevirtual 486, 3) := dk_182 1 230 (dk_at dksX0_closed_4 17 rfl rfl)
theorem dX0_closed_114 : decode cX0_closed 114 = .ok (.aload_n 0, 1) := dk_42 (dk_at dksX0_closed_4 20 rfl rfl)
theorem dX0_closed_115 : decode cX0_closed 115 = .ok (.aload_n 0, 1) := dk_42 (dk_at dksX0_closed_4 21 rfl rfl)
theorem dX0_closed_116 : decode cX0_closed 116 = .ok (.getfield 38, 3) := dk_180 0 38 (dk_at dksX0_closed_5 0 rfl rfl)
theorem dX0_closed_119 : decode cX0_closed 119 = .ok (.aload_n 0, 1) := dk_42 (dk_at dksX0_closed_5 3 rfl rfl)
theorem dX0_closed_120 : decode cX0_closed 120 = .ok (.getfield 145, 3) := dk_180 0 145 (dk_at dksX0_closed_5 4 rfl rfl)
theorem dX0_closed_123 : decode cX0_closed 123 = .ok (.iload_n 1, 1) := dk_27 (dk_at dksX0_closed_5 7 rfl rfl)
theorem dX0_closed_124 : decode cX0_closed 124 = .ok (.aload_n 0, 1) := dk_42 (dk_at dksX0_closed_5 8 rfl rfl)
theorem dX0_closed_125 : decode cX0_closed 125 = .ok (.getfield 45, 3) := dk_180 0 45 (dk_at dksX0_closed_5 9 rfl rfl)
theorem dX0_closed_128 : decode cX0_closed 128 = .ok (.getfield 473, 3) := dk_180 1 217 (dk_at dksX0_closed_5 12 rfl rfl)
theorem dX0_closed_131 : decode cX0_closed 131 = .ok (.aconst_null, 1) := dk_1 (dk_at dksX0_closed_5 15 rfl rfl)
theorem dX0_closed_132 : decode cX0_closed 132 = .ok (.aload_n 0, 1) := dk_42 (dk_at dksX0_closed_5 16 rfl rfl)
theorem dX0_closed_133 : decode cX0_closed 133 = .ok (.getfield 142, 3) := dk_180 0 142 (dk_at dksX0_closed_5 17 rfl rfl)
theorem dX0_closed_136 : decode cX0_closed 136 = .ok (.invokevirtual 433, 3) := dk_182 1 177 (dk_at dksX0_closed_5 20 rfl rfl)
theorem dX0_closed_139 : decode cX0_closed 139 = .ok (.bipush (-6), 2) := dk_16 250 (dk_at dksX0_closed_6 0 rfl rfl)
theorem dX0_closed_141 : decode cX0_closed 141 = .ok (.invokevirtual 229, 3) := dk_182 0 229 (dk_at dksX0_closed_6 2 rfl rfl)
theorem dX0_closed_144 : decode cX0_closed 144 = .ok (.aload_n 0, 1) := dk_42 (dk_at dksX0_closed_6 5 rfl rfl)
theorem dX0_closed_145 : decode cX0_closed 145 = .ok (.getfield 142, 3) := dk_180 0 142 (dk_at dksX0_closed_6 6 rfl rfl)
theorem dX0_closed_148 : decode cX0_closed 148 = .ok (.getfield 226, 3) := dk_180 0 226 (dk_at dksX0_closed_6 9 rfl rfl)
theorem dX0_closed_151 : decode cX0_closed 151 = .ok (.ifCond .le 5, 3) := dk_158 0 5 (dk_at dksX0_closed_6 12 rfl rfl)
theorem dX0_closed_154 : decode cX0_closed 154 = .ok (.iconst 0, 1) := dk_3 (dk_at dksX0_closed_6 15 rfl rfl)
theorem dX0_closed_155 : decode cX0_closed 155 = .ok (.ireturn, 1) := dk_172 (dk_at dksX0_closed_6 16 rfl rfl)
theorem dX0_closed_156 : decode cX0_closed 156 = .ok (.iinc 3 1, 3) := dk_132 3 1 (dk_at dksX0_closed_6 17 rfl rfl)
theorem dX0_closed_159 : decode cX0_closed 159 = .ok (.goto (-66), 3) := dk_167 255 190 (dk_at dksX0_closed_6 20 rfl rfl)
theorem dX0_closed_162 : decode cX0_closed 162 = .ok (.iinc 2 1, 3) := dk_132 2 1 (dk_at dksX0_closed_7 0 rfl rfl)
theorem dX0_closed_165 : decode cX0_closed 165 = .ok (.goto (-81), 3) := dk_167 255 175 (dk_at dksX0_closed_7 3 rfl rfl)
theorem dX0_closed_168 : decode cX0_closed 168 = .ok (.iconst 1, 1) := dk_4 (dk_at dksX0_closed_7 6 rfl rfl)
theorem dX0_closed_169 : decode cX0_closed 169 = .ok (.ireturn, 1) := dk_172 (dk_at dksX0_closed_7 7 rfl rfl)
theorem dX0_closed_170 : decode cX0_closed 170 = .ok (.astore_n 1, 1) := dk_76 (dk_at dksX0_closed_7 8 rfl rfl)
theorem dX0_closed_171 : decode cX0_closed 171 = .ok (.aload_n 0, 1) := dk_42 (dk_at dksX0_closed_7 9 rfl rfl)
theorem dX0_closed_172 : decode cX0_closed 172 = .ok (.aload_n 1, 1) := dk_43 (dk_at dksX0_closed_7 10 rfl rfl)
theorem dX0_closed_173 : decode cX0_closed 173 = .ok (.invokevirtual 233, 3) := dk_182 0 233 (dk_at dksX0_closed_7 11 rfl rfl)
theorem dX0_closed_176 : decode cX0_closed 176 = .ok (.ireturn, 1) := dk_172 (dk_at dksX0_closed_7 14 rfl rfl)
abbrev cX0_differ : ByteArray := prog_1_method_45_code
def yX0_differ : MethodName := ⟨RX0, "differ", "(LIdealCourt$Poly;LIdealCourt$Poly;)V"⟩
def dkwX0_differ_11 : List UInt8 := [180, 0, 38, 180, 1, 174, 182, 1, 26, 16, 250, 182, 0, 229, 177]
abbrev dktX0_differ_11 : List UInt8 := dkwX0_differ_11 ++ []
def dkwX0_differ_10 : List UInt8 := [182, 1, 45, 42, 180, 0, 71, 182, 1, 22, 16, 250, 182, 0, 229, 132, 8, 1, 167, 255, 155, 42, 42]
abbrev dktX0_differ_10 : List UInt8 := dkwX0_differ_10 ++ dktX0_differ_11
def dkwX0_differ_9 : List UInt8 := [180, 0, 64, 2, 182, 1, 4, 42, 42, 180, 0, 38, 180, 1, 174, 42, 180, 0, 22, 21, 8, 21, 7]
abbrev dktX0_differ_9 : List UInt8 := dkwX0_differ_9 ++ dktX0_differ_10
def dkwX0_differ_8 : List UInt8 := [180, 0, 22, 21, 8, 21, 7, 182, 1, 45, 42, 180, 0, 71, 182, 0, 252, 42, 180, 0, 71, 42]
abbrev dktX0_differ_8 : List UInt8 := dkwX0_differ_8 ++ dktX0_differ_9
def dkwX0_differ_7 : List UInt8 := [154, 0, 6, 167, 0, 81, 44, 21, 8, 42, 180, 0, 64, 182, 0, 252, 42, 180, 0, 38, 180, 1, 174, 42]
abbrev dktX0_differ_7 : List UInt8 := dkwX0_differ_7 ++ dktX0_differ_8
def dkwX0_differ_6 : List UInt8 := [132, 8, 1, 167, 255, 192, 3, 54, 8, 21, 8, 17, 1, 199, 162, 0, 99, 44, 21, 8, 182, 1, 12]
abbrev dktX0_differ_6 : List UInt8 := dkwX0_differ_6 ++ dktX0_differ_7
def dkwX0_differ_5 : List UInt8 := [180, 0, 22, 21, 8, 21, 6, 182, 1, 45, 42, 180, 0, 64, 182, 1, 22, 16, 250, 182, 0, 229]
abbrev dktX0_differ_5 : List UInt8 := dkwX0_differ_5 ++ dktX0_differ_6
def dkwX0_differ_4 : List UInt8 := [167, 0, 44, 43, 21, 8, 42, 180, 0, 64, 182, 0, 252, 42, 42, 180, 0, 38, 180, 1, 174, 42]
abbrev dktX0_differ_4 : List UInt8 := dkwX0_differ_4 ++ dktX0_differ_5
def dkwX0_differ_3 : List UInt8 := [182, 0, 237, 3, 54, 8, 21, 8, 17, 1, 199, 162, 0, 62, 43, 21, 8, 182, 1, 12, 154, 0, 6]
abbrev dktX0_differ_3 : List UInt8 := dkwX0_differ_3 ++ dktX0_differ_4
def dkwX0_differ_2 : List UInt8 := [54, 6, 42, 180, 0, 22, 21, 5, 21, 4, 182, 1, 224, 54, 7, 42, 180, 0, 38, 180, 1, 174]
abbrev dktX0_differ_2 : List UInt8 := dkwX0_differ_2 ++ dktX0_differ_3
def dkwX0_differ_1 : List UInt8 := [54, 4, 42, 180, 0, 22, 29, 21, 4, 182, 1, 221, 54, 5, 42, 180, 0, 22, 21, 5, 29, 182, 1, 224]
abbrev dktX0_differ_1 : List UInt8 := dkwX0_differ_1 ++ dktX0_differ_2
def dkwX0_differ_0 : List UInt8 := [43, 42, 180, 0, 45, 180, 1, 217, 182, 1, 73, 62, 44, 42, 180, 0, 45, 180, 1, 217, 182, 1, 73]
abbrev dktX0_differ_0 : List UInt8 := dkwX0_differ_0 ++ dktX0_differ_1
theorem dksX0_differ_0 : cX0_differ.data.toList.drop 0 = dktX0_differ_0 := by decide +kernel
theorem dksX0_differ_1 : cX0_differ.data.toList.drop 23 = dktX0_differ_1 := dk_seg dksX0_differ_0 23 rfl rfl
theorem dksX0_differ_2 : cX0_differ.data.toList.drop 47 = dktX0_differ_2 := dk_seg dksX0_differ_1 24 rfl rfl
theorem dksX0_differ_3 : cX0_differ.data.toList.drop 69 = dktX0_differ_3 := dk_seg dksX0_differ_2 22 rfl rfl
theorem dksX0_differ_4 : cX0_differ.data.toList.drop 92 = dktX0_differ_4 := dk_seg dksX0_differ_3 23 rfl rfl
theorem dksX0_differ_5 : cX0_differ.data.toList.drop 114 = dktX0_differ_5 := dk_seg dksX0_differ_4 22 rfl rfl
theorem dksX0_differ_6 : cX0_differ.data.toList.drop 136 = dktX0_differ_6 := dk_seg dksX0_differ_5 22 rfl rfl
theorem dksX0_differ_7 : cX0_differ.data.toList.drop 159 = dktX0_differ_7 := dk_seg dksX0_differ_6 23 rfl rfl
theorem dksX0_differ_8 : cX0_differ.data.toList.drop 183 = dktX0_differ_8 := dk_seg dksX0_differ_7 24 rfl rfl
theorem dksX0_differ_9 : cX0_differ.data.toList.drop 205 = dktX0_differ_9 := dk_seg dksX0_differ_8 22 rfl rfl
theorem dksX0_differ_10 : cX0_differ.data.toList.drop 228 = dktX0_differ_10 := dk_seg dksX0_differ_9 23 rfl rfl
theorem dksX0_differ_11 : cX0_differ.data.toList.drop 251 = dktX0_differ_11 := dk_seg dksX0_differ_10 23 rfl rfl
theorem dX0_differ_0 : decode cX0_differ 0 = .ok (.aload_n 1, 1) := dk_43 (dk_at dksX0_differ_0 0 rfl rfl)
theorem dX0_differ_1 : decode cX0_differ 1 = .ok (.aload_n 0, 1) := dk_42 (dk_at dksX0_differ_0 1 rfl rfl)
theorem dX0_differ_2 : decode cX0_differ 2 = .ok (.getfield 45, 3) := dk_180 0 45 (dk_at dksX0_differ_0 2 rfl rfl)
theorem dX0_differ_5 : decode cX0_differ 5 = .ok (.getfield 473, 3) := dk_180 1 217 (dk_at dksX0_differ_0 5 rfl rfl)
theorem dX0_differ_8 : decode cX0_differ 8 = .ok (.invokevirtual 329, 3) := dk_182 1 73 (dk_at dksX0_differ_0 8 rfl rfl)
theorem dX0_differ_11 : decode cX0_differ 11 = .ok (.istore_n 3, 1) := dk_62 (dk_at dksX0_differ_0 11 rfl rfl)
theorem dX0_differ_12 : decode cX0_differ 12 = .ok (.aload_n 2, 1) := dk_44 (dk_at dksX0_differ_0 12 rfl rfl)
theorem dX0_differ_13 : decode cX0_differ 13 = .ok (.aload_n 0, 1) := dk_42 (dk_at dksX0_differ_0 13 rfl rfl)
theorem dX0_differ_14 : decode cX0_differ 14 = .ok (.getfield 45, 3) := dk_180 0 45 (dk_at dksX0_differ_0 14 rfl rfl)
theorem dX0_differ_17 : decode cX0_differ 17 = .ok (.getfield 473, 3) := dk_180 1 217 (dk_at dksX0_differ_0 17 rfl rfl)
theorem dX0_differ_20 : decode cX0_differ 20 = .ok (.invokevirtual 329, 3) := dk_182 1 73 (dk_at dksX0_differ_0 20 rfl rfl)
theorem dX0_differ_23 : decode cX0_differ 23 = .ok (.istore 4, 2) := dk_54 4 (dk_at dksX0_differ_1 0 rfl rfl)
theorem dX0_differ_25 : decode cX0_differ 25 = .ok (.aload_n 0, 1) := dk_42 (dk_at dksX0_differ_1 2 rfl rfl)
theorem dX0_differ_26 : decode cX0_differ 26 = .ok (.getfield 22, 3) := dk_180 0 22 (dk_at dksX0_differ_1 3 rfl rfl)
theorem dX0_differ_29 : decode cX0_differ 29 = .ok (.iload_n 3, 1) := dk_29 (dk_at dksX0_differ_1 6 rfl rfl)
theorem dX0_differ_30 : decode cX0_differ 30 = .ok (.iload 4, 2) := dk_21 4 (dk_at dksX0_differ_1 7 rfl rfl)
theorem dX0_differ_32 : decode cX0_differ 32 = .ok (.invokevirtual 477, 3) := dk_182 1 221 (dk_at dksX0_differ_1 9 rfl rfl)
theorem dX0_differ_35 : decode cX0_differ 35 = .ok (.istore 5, 2) := dk_54 5 (dk_at dksX0_differ_1 12 rfl rfl)
theorem dX0_differ_37 : decode cX0_differ 37 = .ok (.aload_n 0, 1) := dk_42 (dk_at dksX0_differ_1 14 rfl rfl)
theorem dX0_differ_38 : decode cX0_differ 38 = .ok (.getfield 22, 3) := dk_180 0 22 (dk_at dksX0_differ_1 15 rfl rfl)
theorem dX0_differ_41 : decode cX0_differ 41 = .ok (.iload 5, 2) := dk_21 5 (dk_at dksX0_differ_1 18 rfl rfl)
theorem dX0_differ_43 : decode cX0_differ 43 = .ok (.iload_n 3, 1) := dk_29 (dk_at dksX0_differ_1 20 rfl rfl)
theorem dX0_differ_44 : decode cX0_differ 44 = .ok (.invokevirtual 480, 3) := dk_182 1 224 (dk_at dksX0_differ_1 21 rfl rfl)
theorem dX0_differ_47 : decode cX0_differ 47 = .ok (.istore 6, 2) := dk_54 6 (dk_at dksX0_differ_2 0 rfl rfl)
theorem dX0_differ_49 : decode cX0_differ 49 = .ok (.aload_n 0, 1) := dk_42 (dk_at dksX0_differ_2 2 rfl rfl)
theorem dX0_differ_50 : decode cX0_differ 50 = .ok (.getfield 22, 3) := dk_180 0 22 (dk_at dksX0_differ_2 3 rfl rfl)
theorem dX0_differ_53 : decode cX0_differ 53 = .ok (.iload 5, 2) := dk_21 5 (dk_at dksX0_differ_2 6 rfl rfl)
theorem dX0_differ_55 : decode cX0_differ 55 = .ok (.iload 4, 2) := dk_21 4 (dk_at dksX0_differ_2 8 rfl rfl)
theorem dX0_differ_57 : decode cX0_differ 57 = .ok (.invokevirtual 480, 3) := dk_182 1 224 (dk_at dksX0_differ_2 10 rfl rfl)
theorem dX0_differ_60 : decode cX0_differ 60 = .ok (.istore 7, 2) := dk_54 7 (dk_at dksX0_differ_2 13 rfl rfl)
theorem dX0_differ_62 : decode cX0_differ 62 = .ok (.aload_n 0, 1) := dk_42 (dk_at dksX0_differ_2 15 rfl rfl)
theorem dX0_differ_63 : decode cX0_differ 63 = .ok (.getfield 38, 3) := dk_180 0 38 (dk_at dksX0_differ_2 16 rfl rfl)
theorem dX0_differ_66 : decode cX0_differ 66 = .ok (.getfield 430, 3) := dk_180 1 174 (dk_at dksX0_differ_2 19 rfl rfl)
theorem dX0_differ_69 : decode cX0_differ 69 = .ok (.invokevirtual 237, 3) := dk_182 0 237 (dk_at dksX0_differ_3 0 rfl rfl)
theorem dX0_differ_72 : decode cX0_differ 72 = .ok (.iconst 0, 1) := dk_3 (dk_at dksX0_differ_3 3 rfl rfl)
theorem dX0_differ_73 : decode cX0_differ 73 = .ok (.istore 8, 2) := dk_54 8 (dk_at dksX0_differ_3 4 rfl rfl)
theorem dX0_differ_75 : decode cX0_differ 75 = .ok (.iload 8, 2) := dk_21 8 (dk_at dksX0_differ_3 6 rfl rfl)
theorem dX0_differ_77 : decode cX0_differ 77 = .ok (.sipush 455, 3) := dk_17 1 199 (dk_at dksX0_differ_3 8 rfl rfl)
theorem dX0_differ_80 : decode cX0_differ 80 = .ok (.if_icmp .ge 62, 3) := dk_162 0 62 (dk_at dksX0_differ_3 11 rfl rfl)
theorem dX0_differ_83 : decode cX0_differ 83 = .ok (.aload_n 1, 1) := dk_43 (dk_at dksX0_differ_3 14 rfl rfl)
theorem dX0_differ_84 : decode cX0_differ 84 = .ok (.iload 8, 2) := dk_21 8 (dk_at dksX0_differ_3 15 rfl rfl)
theorem dX0_differ_86 : decode cX0_differ 86 = .ok (.invokevirtual 268, 3) := dk_182 1 12 (dk_at dksX0_differ_3 17 rfl rfl)
theorem dX0_differ_89 : decode cX0_differ 89 = .ok (.ifCond .ne 6, 3) := dk_154 0 6 (dk_at dksX0_differ_3 20 rfl rfl)
theorem dX0_differ_92 : decode cX0_differ 92 = .ok (.goto 44, 3) := dk_167 0 44 (dk_at dksX0_differ_4 0 rfl rfl)
theorem dX0_differ_95 : decode cX0_differ 95 = .ok (.aload_n 1, 1) := dk_43 (dk_at dksX0_differ_4 3 rfl rfl)
theorem dX0_differ_96 : decode cX0_differ 96 = .ok (.iload 8, 2) := dk_21 8 (dk_at dksX0_differ_4 4 rfl rfl)
theorem dX0_differ_98 : decode cX0_differ 98 = .ok (.aload_n 0, 1) := dk_42 (dk_at dksX0_differ_4 6 rfl rfl)
theorem dX0_differ_99 : decode cX0_differ 99 = .ok (.getfield 64, 3) := dk_180 0 64 (dk_at dksX0_differ_4 7 rfl rfl)
theorem dX0_differ_102 : decode cX0_differ 102 = .ok (.invokevirtual 252, 3) := dk_182 0 252 (dk_at dksX0_differ_4 10 rfl rfl)
theorem dX0_differ_105 : decode cX0_differ 105 = .ok (.aload_n 0, 1) := dk_42 (dk_at dksX0_differ_4 13 rfl rfl)
theorem dX0_differ_106 : decode cX0_differ 106 = .ok (.aload_n 0, 1) := dk_42 (dk_at dksX0_differ_4 14 rfl rfl)
theorem dX0_differ_107 : decode cX0_differ 107 = .ok (.getfield 38, 3) := dk_180 0 38 (dk_at dksX0_differ_4 15 rfl rfl)
theorem dX0_differ_110 : decode cX0_differ 110 = .ok (.getfield 430, 3) := dk_180 1 174 (dk_at dksX0_differ_4 18 rfl rfl)
theorem dX0_differ_113 : decode cX0_differ 113 = .ok (.aload_n 0, 1) := dk_42 (dk_at dksX0_differ_4 21 rfl rfl)
theorem dX0_differ_114 : decode cX0_differ 114 = .ok (.getfield 22, 3) := dk_180 0 22 (dk_at dksX0_differ_5 0 rfl rfl)
theorem dX0_differ_117 : decode cX0_differ 117 = .ok (.iload 8, 2) := dk_21 8 (dk_at dksX0_differ_5 3 rfl rfl)
theorem dX0_differ_119 : decode cX0_differ 119 = .ok (.iload 6, 2) := dk_21 6 (dk_at dksX0_differ_5 5 rfl rfl)
theorem dX0_differ_121 : decode cX0_differ 121 = .ok (.invokevirtual 301, 3) := dk_182 1 45 (dk_at dksX0_differ_5 7 rfl rfl)
theorem dX0_differ_124 : decode cX0_differ 124 = .ok (.aload_n 0, 1) := dk_42 (dk_at dksX0_differ_5 10 rfl rfl)
theorem dX0_differ_125 : decode cX0_differ 125 = .ok (.getfield 64, 3) := dk_180 0 64 (dk_at dksX0_differ_5 11 rfl rfl)
theorem dX0_differ_128 : decode cX0_differ 128 = .ok (.invokevirtual 278, 3) := dk_182 1 22 (dk_at dksX0_differ_5 14 rfl rfl)
theorem dX0_differ_131 : decode cX0_differ 131 = .ok (.bipush (-6), 2) := dk_16 250 (dk_at dksX0_differ_5 17 rfl rfl)
theorem dX0_differ_133 : decode cX0_differ 133 = .ok (.invokevirtual 229, 3) := dk_182 0 229 (dk_at dksX0_differ_5 19 rfl rfl)
theorem dX0_differ_136 : decode cX0_differ 136 = .ok (.iinc 8 1, 3) := dk_132 8 1 (dk_at dksX0_differ_6 0 rfl rfl)
theorem dX0_differ_139 : decode cX0_differ 139 = .ok (.goto (-64), 3) := dk_167 255 192 (dk_at dksX0_differ_6 3 rfl rfl)
theorem dX0_differ_142 : decode cX0_differ 142 = .ok (.iconst 0, 1) := dk_3 (dk_at dksX0_differ_6 6 rfl rfl)
theorem dX0_differ_143 : decode cX0_differ 143 = .ok (.istore 8, 2) := dk_54 8 (dk_at dksX0_differ_6 7 rfl rfl)
theorem dX0_differ_145 : decode cX0_differ 145 = .ok (.iload 8, 2) := dk_21 8 (dk_at dksX0_differ_6 9 rfl rfl)
theorem dX0_differ_147 : decode cX0_differ 147 = .ok (.sipush 455, 3) := dk_17 1 199 (dk_at dksX0_differ_6 11 rfl rfl)
theorem dX0_differ_150 : decode cX0_differ 150 = .ok (.if_icmp .ge 99, 3) := dk_162 0 99 (dk_at dksX0_differ_6 14 rfl rfl)
theorem dX0_differ_153 : decode cX0_differ 153 = .ok (.aload_n 2, 1) := dk_44 (dk_at dksX0_differ_6 17 rfl rfl)
theorem dX0_differ_154 : decode cX0_differ 154 = .ok (.iload 8, 2) := dk_21 8 (dk_at dksX0_differ_6 18 rfl rfl)
theorem dX0_differ_156 : decode cX0_differ 156 = .ok (.invokevirtual 268, 3) := dk_182 1 12 (dk_at dksX0_differ_6 20 rfl rfl)
theorem dX0_differ_159 : decode cX0_differ 159 = .ok (.ifCond .ne 6, 3) := dk_154 0 6 (dk_at dksX0_differ_7 0 rfl rfl)
theorem dX0_differ_162 : decode cX0_differ 162 = .ok (.goto 81, 3) := dk_167 0 81 (dk_at dksX0_differ_7 3 rfl rfl)
theorem dX0_differ_165 : decode cX0_differ 165 = .ok (.aload_n 2, 1) := dk_44 (dk_at dksX0_differ_7 6 rfl rfl)
theorem dX0_differ_166 : decode cX0_differ 166 = .ok (.iload 8, 2) := dk_21 8 (dk_at dksX0_differ_7 7 rfl rfl)
theorem dX0_differ_168 : decode cX0_differ 168 = .ok (.aload_n 0, 1) := dk_42 (dk_at dksX0_differ_7 9 rfl rfl)
theorem dX0_differ_169 : decode cX0_differ 169 = .ok (.getfield 64, 3) := dk_180 0 64 (dk_at dksX0_differ_7 10 rfl rfl)
theorem dX0_differ_172 : decode cX0_differ 172 = .ok (.invokevirtual 252, 3) := dk_182 0 252 (dk_at dksX0_differ_7 13 rfl rfl)
theorem dX0_differ_175 : decode cX0_differ 175 = .ok (.aload_n 0, 1) := dk_42 (dk_at dksX0_differ_7 16 rfl rfl)
theorem dX0_differ_176 : decode cX0_differ 176 = .ok (.getfield 38, 3) := dk_180 0 38 (dk_at dksX0_differ_7 17 rfl rfl)
theorem dX0_differ_179 : decode cX0_differ 179 = .ok (.getfield 430, 3) := dk_180 1 174 (dk_at dksX0_differ_7 20 rfl rfl)
theorem dX0_differ_182 : decode cX0_differ 182 = .ok (.aload_n 0, 1) := dk_42 (dk_at dksX0_differ_7 23 rfl rfl)
theorem dX0_differ_183 : decode cX0_differ 183 = .ok (.getfield 22, 3) := dk_180 0 22 (dk_at dksX0_differ_8 0 rfl rfl)
theorem dX0_differ_186 : decode cX0_differ 186 = .ok (.iload 8, 2) := dk_21 8 (dk_at dksX0_differ_8 3 rfl rfl)
theorem dX0_differ_188 : decode cX0_differ 188 = .ok (.iload 7, 2) := dk_21 7 (dk_at dksX0_differ_8 5 rfl rfl)
theorem dX0_differ_190 : decode cX0_differ 190 = .ok (.invokevirtual 301, 3) := dk_182 1 45 (dk_at dksX0_differ_8 7 rfl rfl)
theorem dX0_differ_193 : decode cX0_differ 193 = .ok (.aload_n 0, 1) := dk_42 (dk_at dksX0_differ_8 10 rfl rfl)
theorem dX0_differ_194 : decode cX0_differ 194 = .ok (.getfield 71, 3) := dk_180 0 71 (dk_at dksX0_differ_8 11 rfl rfl)
theorem dX0_differ_197 : decode cX0_differ 197 = .ok (.invokevirtual 252, 3) := dk_182 0 252 (dk_at dksX0_differ_8 14 rfl rfl)
theorem dX0_differ_200 : decode cX0_differ 200 = .ok (.aload_n 0, 1) := dk_42 (dk_at dksX0_differ_8 17 rfl rfl)
theorem dX0_differ_201 : decode cX0_differ 201 = .ok (.getfield 71, 3) := dk_180 0 71 (dk_at dksX0_differ_8 18 rfl rfl)
theorem dX0_differ_204 : decode cX0_differ 204 = .ok (.aload_n 0, 1) := dk_42 (dk_at dksX0_differ_8 21 rfl rfl)
theorem dX0_differ_205 : decode cX0_differ 205 = .ok (.getfield 64, 3) := dk_180 0 64 (dk_at dksX0_differ_9 0 rfl rfl)
theorem dX0_differ_208 : decode cX0_differ 208 = .ok (.iconst (-1), 1) := dk_2 (dk_at dksX0_differ_9 3 rfl rfl)
theorem dX0_differ_209 : decode cX0_differ 209 = .ok (.invokevirtual 260, 3) := dk_182 1 4 (dk_at dksX0_differ_9 4 rfl rfl)
theorem dX0_differ_212 : decode cX0_differ 212 = .ok (.aload_n 0, 1) := dk_42 (dk_at dksX0_differ_9 7 rfl rfl)
theorem dX0_differ_213 : decode cX0_differ 213 = .ok (.aload_n 0, 1) := dk_42 (dk_at dksX0_differ_9 8 rfl rfl)
theorem dX0_differ_214 : decode cX0_differ 214 = .ok (.getfield 38, 3) := dk_180 0 38 (dk_at dksX0_differ_9 9 rfl rfl)
theorem dX0_differ_217 : decode cX0_differ 217 = .ok (.getfield 430, 3) := dk_180 1 174 (dk_at dksX0_differ_9 12 rfl rfl)
theorem dX0_differ_220 : decode cX0_differ 220 = .ok (.aload_n 0, 1) := dk_42 (dk_at dksX0_differ_9 15 rfl rfl)
theorem dX0_differ_221 : decode cX0_differ 221 = .ok (.getfield 22, 3) := dk_180 0 22 (dk_at dksX0_differ_9 16 rfl rfl)
theorem dX0_differ_224 : decode cX0_differ 224 = .ok (.iload 8, 2) := dk_21 8 (dk_at dksX0_differ_9 19 rfl rfl)
theorem dX0_differ_226 : decode cX0_differ 226 = .ok (.iload 7, 2) := dk_21 7 (dk_at dksX0_differ_9 21 rfl rfl)
theorem dX0_differ_228 : decode cX0_differ 228 = .ok (.invokevirtual 301, 3) := dk_182 1 45 (dk_at dksX0_differ_10 0 rfl rfl)
theorem dX0_differ_231 : decode cX0_differ 231 = .ok (.aload_n 0, 1) := dk_42 (dk_at dksX0_differ_10 3 rfl rfl)
theorem dX0_differ_232 : decode cX0_differ 232 = .ok (.getfield 71, 3) := dk_180 0 71 (dk_at dksX0_differ_10 4 rfl rfl)
theorem dX0_differ_235 : decode cX0_differ 235 = .ok (.invokevirtual 278, 3) := dk_182 1 22 (dk_at dksX0_differ_10 7 rfl rfl)
theorem dX0_differ_238 : decode cX0_differ 238 = .ok (.bipush (-6), 2) := dk_16 250 (dk_at dksX0_differ_10 10 rfl rfl)
theorem dX0_differ_240 : decode cX0_differ 240 = .ok (.invokevirtual 229, 3) := dk_182 0 229 (dk_at dksX0_differ_10 12 rfl rfl)
theorem dX0_differ_243 : decode cX0_differ 243 = .ok (.iinc 8 1, 3) := dk_132 8 1 (dk_at dksX0_differ_10 15 rfl rfl)
theorem dX0_differ_246 : decode cX0_differ 246 = .ok (.goto (-101), 3) := dk_167 255 155 (dk_at dksX0_differ_10 18 rfl rfl)
theorem dX0_differ_249 : decode cX0_differ 249 = .ok (.aload_n 0, 1) := dk_42 (dk_at dksX0_differ_10 21 rfl rfl)
theorem dX0_differ_250 : decode cX0_differ 250 = .ok (.aload_n 0, 1) := dk_42 (dk_at dksX0_differ_10 22 rfl rfl)
theorem dX0_differ_251 : decode cX0_differ 251 = .ok (.getfield 38, 3) := dk_180 0 38 (dk_at dksX0_differ_11 0 rfl rfl)
theorem dX0_differ_254 : decode cX0_differ 254 = .ok (.getfield 430, 3) := dk_180 1 174 (dk_at dksX0_differ_11 3 rfl rfl)
theorem dX0_differ_257 : decode cX0_differ 257 = .ok (.invokevirtual 282, 3) := dk_182 1 26 (dk_at dksX0_differ_11 6 rfl rfl)
theorem dX0_differ_260 : decode cX0_differ 260 = .ok (.bipush (-6), 2) := dk_16 250 (dk_at dksX0_differ_11 9 rfl rfl)
theorem dX0_differ_262 : decode cX0_differ 262 = .ok (.invokevirtual 229, 3) := dk_182 0 229 (dk_at dksX0_differ_11 11 rfl rfl)
theorem dX0_differ_265 : decode cX0_differ 265 = .ok (.return_, 1) := dk_177 (dk_at dksX0_differ_11 14 rfl rfl)
