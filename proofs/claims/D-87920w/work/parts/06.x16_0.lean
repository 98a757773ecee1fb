/-! IdealCourtModel -/
set_option maxRecDepth 100000
def RX16 : String := "IdealCourtModel"
def TX16 : u_T := fun k => match k with
  | 0 => ("IdealCourtModel", "wide", "[I", true)
  | 1 => ("IdealCourtModel", "upper", "[I", true)
  | 2 => ("IdealCourtModel", "lower", "[I", true)
  | 3 => ("IdealCourtModel", "whole", "[I", true)
  | 4 => ("IdealCourtModel", "gcdA", "LIdealCourtModel$Num;", true)
  | 5 => ("IdealCourtModel", "gcdB", "LIdealCourtModel$Num;", true)
  | 6 => ("IdealCourtModel", "gcdC", "LIdealCourtModel$Num;", true)
  | 7 => ("IdealCourtModel", "wa", "LIdealCourtModel$Num;", true)
  | 8 => ("IdealCourtModel", "wb", "LIdealCourtModel$Num;", true)
  | 9 => ("IdealCourtModel", "wg", "LIdealCourtModel$Num;", true)
  | 10 => ("IdealCourtModel", "fn", "LIdealCourtModel$Num;", true)
  | 11 => ("IdealCourtModel", "fd", "LIdealCourtModel$Num;", true)
  | 12 => ("IdealCourtModel", "kinds", "[I", true)
  | 13 => ("IdealCourtModel", "polys", "[LIdealCourtModel$Poly;", true)
  | 14 => ("IdealCourtModel", "first", "[I", true)
  | 15 => ("IdealCourtModel", "second", "[I", true)
  | 16 => ("IdealCourtModel", "rootPoly", "[[J", true)
  | 17 => ("IdealCourtModel", "rootDegree", "[I", true)
  | 18 => ("IdealCourtModel", "low", "[LIdealCourtModel$Num;", true)
  | 19 => ("IdealCourtModel", "depth", "[I", true)
  | 20 => ("IdealCourtModel", "latest", "I", false)
  | 21 => ("IdealCourtModel", "counts", "[I", true)
  | 22 => ("IdealCourtModel", "row", "[LIdealCourtModel$Poly;", true)
  | 23 => ("IdealCourtModel", "rowMany", "I", false)
  | 24 => ("IdealCourtModel", "quotients", "[LIdealCourtModel$Poly;", true)
  | 25 => ("IdealCourtModel", "quotientMany", "I", false)
  | 26 => ("IdealCourtModel", "rest", "LIdealCourtModel$Poly;", true)
  | 27 => ("IdealCourtModel", "hasRest", "Z", false)
  | 28 => ("IdealCourtModel", "made", "LIdealCourtModel$Poly;", true)
  | 29 => ("IdealCourtModel", "sum", "LIdealCourtModel$Sum;", true)
  | 30 => ("IdealCourtModel", "other", "LIdealCourtModel$Sum;", true)
  | 31 => ("IdealCourtModel", "idealMany", "I", false)
  | 32 => ("IdealCourtModel", "idealTerms", "[I", true)
  | 33 => ("IdealCourtModel", "idealCode", "[I", true)
  | 34 => ("IdealCourtModel", "idealNumber", "[I", true)
  | 35 => ("IdealCourtModel", "tn", "LIdealCourtModel$Num;", true)
  | 36 => ("IdealCourtModel", "td", "LIdealCourtModel$Num;", true)
  | 37 => ("IdealCourtModel", "text", "[B", true)
  | 38 => ("IdealCourtModel", "size", "I", false)
  | 39 => ("IdealCourtModel", "isPut", "[Z", true)
  | 40 => ("IdealCourtModel", "wentTo", "[I", true)
  | 41 => ("IdealCourtModel", "wn", "LIdealCourtModel$Num;", true)
  | 42 => ("IdealCourtModel", "wd", "LIdealCourtModel$Num;", true)
  | 43 => ("IdealCourtModel", "parts", "[LIdealCourtModel$Poly;", true)
  | 44 => ("IdealCourtModel", "hasSpan", "Z", false)
  | 45 => ("IdealCourtModel", "spanKind", "I", false)
  | 46 => ("IdealCourtModel", "spanN", "I", false)
  | 47 => ("IdealCourtModel", "spanDegree", "I", false)
  | 48 => ("IdealCourtModel", "spanIdeal", "I", false)
  | 49 => ("IdealCourtModel", "columns", "I", false)
  | 50 => ("IdealCourtModel", "columnCode", "[I", true)
  | 51 => ("IdealCourtModel", "columnOf", "[I", true)
  | 52 => ("IdealCourtModel", "used", "I", false)
  | 53 => ("IdealCourtModel", "usedOf", "[I", true)
  | 54 => ("IdealCourtModel", "usedBy", "[I", true)
  | 55 => ("IdealCourtModel", "rows", "[[LIdealCourtModel$Num;", true)
  | 56 => ("IdealCourtModel", "pivot", "[I", true)
  | 57 => ("IdealCourtModel", "rowsMany", "I", false)
  | 58 => ("IdealCourtModel", "elements", "[LIdealCourtModel$Poly;", true)
  | 59 => ("IdealCourtModel", "elementRow", "[I", true)
  | 60 => ("IdealCourtModel", "ra", "LIdealCourtModel$Num;", true)
  | 61 => ("IdealCourtModel", "rb", "LIdealCourtModel$Num;", true)
  | 62 => ("IdealCourtModel", "rc", "LIdealCourtModel$Num;", true)
  | 63 => ("IdealCourtModel", "rg", "LIdealCourtModel$Num;", true)
  | 64 => ("IdealCourtModel", "minimal", "[LIdealCourtModel$Poly;", true)
  | 65 => ("IdealCourtModel", "minimalLead", "[I", true)
  | 66 => ("IdealCourtModel", "tp", "LIdealCourtModel$Num;", true)
  | 67 => ("IdealCourtModel", "te", "LIdealCourtModel$Num;", true)
  | 68 => ("IdealCourtModel", "chain", "[[LIdealCourtModel$Num;", true)
  | 69 => ("IdealCourtModel", "chainDegree", "[I", true)
  | 70 => ("IdealCourtModel", "chainMany", "I", false)
  | 71 => ("IdealCourtModel", "work", "[LIdealCourtModel$Num;", true)
  | 72 => ("IdealCourtModel", "rootMany", "I", false)
  | 73 => ("IdealCourtModel", "toldLow", "[LIdealCourtModel$Num;", true)
  | 74 => ("IdealCourtModel", "toldDepth", "[I", true)
  | 75 => ("IdealCourtModel", "toldPoly", "[J", true)
  | 76 => ("IdealCourtModel", "toldDegree", "I", false)
  | 77 => ("IdealCourtModel", "hasRoots", "Z", false)
  | 78 => ("IdealCourtModel", "tw", "LIdealCourtModel$Num;", true)
  | 79 => ("IdealCourtModel", "ea", "LIdealCourtModel$Num;", true)
  | 80 => ("IdealCourtModel", "eb", "LIdealCourtModel$Num;", true)
  | 81 => ("IdealCourtModel", "es", "LIdealCourtModel$Num;", true)
  | 82 => ("IdealCourtModel", "ep", "LIdealCourtModel$Num;", true)
  | 83 => ("IdealCourtModel", "plain", "[J", true)
  | 84 => ("IdealCourtModel", "plainDegree", "I", false)
  | 85 => ("IdealCourtModel", "stackLow", "[LIdealCourtModel$Num;", true)
  | 86 => ("IdealCourtModel", "stackDepth", "[I", true)
  | 87 => ("IdealCourtModel", "three", "[LIdealCourtModel$Num;", true)
  | 88 => ("IdealCourtModel", "sl", "LIdealCourtModel$Num;", true)
  | 89 => ("IdealCourtModel", "sh", "LIdealCourtModel$Num;", true)
  | 90 => ("IdealCourtModel", "rootNums", "[LIdealCourtModel$Num;", true)
  | _ => ("IdealCourtModel", "plainNums", "[LIdealCourtModel$Num;", true)
def tyX16 : Nat → FieldType := fun k => match k with
  | 0 => .array .int
  | 1 => .array .int
  | 2 => .array .int
  | 3 => .array .int
  | 4 => .object "IdealCourtModel$Num"
  | 5 => .object "IdealCourtModel$Num"
  | 6 => .object "IdealCourtModel$Num"
  | 7 => .object "IdealCourtModel$Num"
  | 8 => .object "IdealCourtModel$Num"
  | 9 => .object "IdealCourtModel$Num"
  | 10 => .object "IdealCourtModel$Num"
  | 11 => .object "IdealCourtModel$Num"
  | 12 => .array .int
  | 13 => .array (.object "IdealCourtModel$Poly")
  | 14 => .array .int
  | 15 => .array .int
  | 16 => .array (.array .long)
  | 17 => .array .int
  | 18 => .array (.object "IdealCourtModel$Num")
  | 19 => .array .int
  | 20 => .int
  | 21 => .array .int
  | 22 => .array (.object "IdealCourtModel$Poly")
  | 23 => .int
  | 24 => .array (.object "IdealCourtModel$Poly")
  | 25 => .int
  | 26 => .object "IdealCourtModel$Poly"
  | 27 => .boolean
  | 28 => .object "IdealCourtModel$Poly"
  | 29 => .object "IdealCourtModel$Sum"
  | 30 => .object "IdealCourtModel$Sum"
  | 31 => .int
  | 32 => .array .int
  | 33 => .array .int
  | 34 => .array .int
  | 35 => .object "IdealCourtModel$Num"
  | 36 => .object "IdealCourtModel$Num"
  | 37 => .array .byte
  | 38 => .int
  | 39 => .array .boolean
  | 40 => .array .int
  | 41 => .object "IdealCourtModel$Num"
  | 42 => .object "IdealCourtModel$Num"
  | 43 => .array (.object "IdealCourtModel$Poly")
  | 44 => .boolean
  | 45 => .int
  | 46 => .int
  | 47 => .int
  | 48 => .int
  | 49 => .int
  | 50 => .array .int
  | 51 => .array .int
  | 52 => .int
  | 53 => .array .int
  | 54 => .array .int
  | 55 => .array (.array (.object "IdealCourtModel$Num"))
  | 56 => .array .int
  | 57 => .int
  | 58 => .array (.object "IdealCourtModel$Poly")
  | 59 => .array .int
  | 60 => .object "IdealCourtModel$Num"
  | 61 => .object "IdealCourtModel$Num"
  | 62 => .object "IdealCourtModel$Num"
  | 63 => .object "IdealCourtModel$Num"
  | 64 => .array (.object "IdealCourtModel$Poly")
  | 65 => .array .int
  | 66 => .object "IdealCourtModel$Num"
  | 67 => .object "IdealCourtModel$Num"
  | 68 => .array (.array (.object "IdealCourtModel$Num"))
  | 69 => .array .int
  | 70 => .int
  | 71 => .array (.object "IdealCourtModel$Num")
  | 72 => .int
  | 73 => .array (.object "IdealCourtModel$Num")
  | 74 => .array .int
  | 75 => .array .long
  | 76 => .int
  | 77 => .boolean
  | 78 => .object "IdealCourtModel$Num"
  | 79 => .object "IdealCourtModel$Num"
  | 80 => .object "IdealCourtModel$Num"
  | 81 => .object "IdealCourtModel$Num"
  | 82 => .object "IdealCourtModel$Num"
  | 83 => .array .long
  | 84 => .int
  | 85 => .array (.object "IdealCourtModel$Num")
  | 86 => .array .int
  | 87 => .array (.object "IdealCourtModel$Num")
  | 88 => .object "IdealCourtModel$Num"
  | 89 => .object "IdealCourtModel$Num"
  | 90 => .array (.object "IdealCourtModel$Num")
  | _ => .array (.object "IdealCourtModel$Num")
abbrev wsX160 : List Cond := u_ws RX16 TX16 92
set_option maxRecDepth 100000 in
theorem nmX16 : ∀ a, a < 92 → ∀ b, b < 92 → a ≠ b → (TX16 a).2.1 ≠ (TX16 b).2.1 := by decide +kernel
set_option maxRecDepth 100000 in
theorem tyX16_ok : ∀ k, k < 92 → parseFieldDescriptor (TX16 k).2.2.1 = some (tyX16 k) := by decide +kernel
abbrev cX16_init : ByteArray := prog_21_method_19_code
def yX16_init : MethodName := ⟨RX16, "<init>", "()V"⟩
def dkwX16_init_38 : List UInt8 := [183, 0, 221, 83, 132, 1, 1, 167, 255, 234, 177]
abbrev dktX16_init_38 : List UInt8 := dkwX16_init_38 ++ []
def dkwX16_init_37 : List UInt8 := [83, 132, 1, 1, 167, 255, 221, 3, 60, 27, 16, 35, 162, 0, 22, 42, 180, 1, 46, 27, 187, 0, 163, 89]
abbrev dktX16_init_37 : List UInt8 := dkwX16_init_37 ++ dktX16_init_38
def dkwX16_init_36 : List UInt8 := [180, 0, 215, 27, 187, 0, 163, 89, 183, 0, 221, 83, 42, 180, 0, 218, 27, 187, 0, 163, 89, 183, 0, 221]
abbrev dktX16_init_36 : List UInt8 := dkwX16_init_36 ++ dktX16_init_37
def dkwX16_init_35 : List UInt8 := [187, 0, 163, 89, 183, 0, 221, 83, 132, 1, 1, 167, 255, 234, 3, 60, 27, 16, 6, 162, 0, 35, 42]
abbrev dktX16_init_35 : List UInt8 := dkwX16_init_35 ++ dktX16_init_36
def dkwX16_init_34 : List UInt8 := [16, 18, 7, 184, 0, 202, 181, 1, 134, 3, 60, 27, 16, 16, 162, 0, 22, 42, 180, 0, 184, 27]
abbrev dktX16_init_34 : List UInt8 := dkwX16_init_34 ++ dktX16_init_35
def dkwX16_init_33 : List UInt8 := [187, 0, 1, 89, 17, 0, 130, 183, 0, 3, 181, 1, 128, 42, 16, 18, 7, 184, 0, 202, 181, 1, 131, 42]
abbrev dktX16_init_33 : List UInt8 := dkwX16_init_33 ++ dktX16_init_34
def dkwX16_init_32 : List UInt8 := [17, 0, 130, 184, 0, 202, 181, 1, 122, 42, 187, 0, 1, 89, 17, 0, 130, 183, 0, 3, 181, 1, 125, 42]
abbrev dktX16_init_32 : List UInt8 := dkwX16_init_32 ++ dktX16_init_33
def dkwX16_init_31 : List UInt8 := [17, 1, 144, 16, 20, 184, 0, 202, 181, 1, 116, 42, 17, 1, 144, 188, 10, 181, 1, 119, 42, 6]
abbrev dktX16_init_31 : List UInt8 := dkwX16_init_31 ++ dktX16_init_32
def dkwX16_init_30 : List UInt8 := [42, 187, 0, 1, 89, 17, 1, 4, 183, 0, 3, 181, 1, 111, 42, 16, 9, 188, 11, 181, 1, 114, 42]
abbrev dktX16_init_30 : List UInt8 := dkwX16_init_30 ++ dktX16_init_31
def dkwX16_init_29 : List UInt8 := [89, 17, 1, 4, 183, 0, 3, 181, 1, 105, 42, 187, 0, 1, 89, 17, 1, 4, 183, 0, 3, 181, 1, 108]
abbrev dktX16_init_29 : List UInt8 := dkwX16_init_29 ++ dktX16_init_30
def dkwX16_init_28 : List UInt8 := [183, 0, 3, 181, 1, 99, 42, 187, 0, 1, 89, 17, 1, 4, 183, 0, 3, 181, 1, 102, 42, 187, 0, 1]
abbrev dktX16_init_28 : List UInt8 := dkwX16_init_28 ++ dktX16_init_29
def dkwX16_init_27 : List UInt8 := [42, 16, 8, 188, 10, 181, 1, 92, 42, 16, 9, 188, 11, 181, 1, 95, 42, 187, 0, 1, 89, 7]
abbrev dktX16_init_27 : List UInt8 := dkwX16_init_27 ++ dktX16_init_28
def dkwX16_init_26 : List UInt8 := [42, 16, 18, 17, 1, 4, 184, 0, 202, 181, 1, 86, 42, 16, 8, 17, 0, 130, 184, 0, 202, 181, 1, 89]
abbrev dktX16_init_26 : List UInt8 := dkwX16_init_26 ++ dktX16_init_27
def dkwX16_init_25 : List UInt8 := [17, 1, 4, 183, 0, 3, 181, 1, 73, 42, 184, 1, 76, 181, 1, 80, 42, 16, 12, 188, 10, 181, 1, 83]
abbrev dktX16_init_25 : List UInt8 := dkwX16_init_25 ++ dktX16_init_26
def dkwX16_init_24 : List UInt8 := [181, 1, 67, 42, 187, 0, 1, 89, 17, 1, 4, 183, 0, 3, 181, 1, 70, 42, 187, 0, 1, 89]
abbrev dktX16_init_24 : List UInt8 := dkwX16_init_24 ++ dktX16_init_25
def dkwX16_init_23 : List UInt8 := [17, 1, 4, 183, 0, 3, 181, 1, 61, 42, 16, 35, 189, 0, 163, 181, 1, 64, 42, 16, 35, 188, 10]
abbrev dktX16_init_23 : List UInt8 := dkwX16_init_23 ++ dktX16_init_24
def dkwX16_init_22 : List UInt8 := [181, 1, 55, 42, 187, 0, 1, 89, 17, 1, 4, 183, 0, 3, 181, 1, 58, 42, 187, 0, 1, 89]
abbrev dktX16_init_22 : List UInt8 := dkwX16_init_22 ++ dktX16_init_23
def dkwX16_init_21 : List UInt8 := [187, 0, 1, 89, 17, 1, 4, 183, 0, 3, 181, 1, 52, 42, 187, 0, 1, 89, 17, 1, 4, 183, 0, 3]
abbrev dktX16_init_21 : List UInt8 := dkwX16_init_21 ++ dktX16_init_22
def dkwX16_init_20 : List UInt8 := [188, 10, 181, 1, 43, 42, 16, 35, 189, 0, 163, 181, 1, 46, 42, 16, 35, 188, 10, 181, 1, 49, 42]
abbrev dktX16_init_20 : List UInt8 := dkwX16_init_20 ++ dktX16_init_21
def dkwX16_init_19 : List UInt8 := [181, 1, 29, 42, 16, 35, 188, 10, 181, 1, 32, 42, 16, 36, 184, 1, 35, 181, 1, 39, 42, 16, 36]
abbrev dktX16_init_19 : List UInt8 := dkwX16_init_19 ++ dktX16_init_20
def dkwX16_init_18 : List UInt8 := [42, 16, 35, 188, 10, 181, 1, 23, 42, 17, 16, 0, 188, 10, 181, 1, 26, 42, 16, 35, 188, 10]
abbrev dktX16_init_18 : List UInt8 := dkwX16_init_18 ++ dktX16_init_19
def dkwX16_init_17 : List UInt8 := [181, 1, 10, 42, 187, 0, 1, 89, 17, 1, 4, 183, 0, 3, 181, 1, 13, 42, 184, 1, 16, 181, 1, 20]
abbrev dktX16_init_17 : List UInt8 := dkwX16_init_17 ++ dktX16_init_18
def dkwX16_init_16 : List UInt8 := [181, 1, 3, 42, 16, 35, 188, 10, 181, 1, 7, 42, 187, 0, 1, 89, 17, 1, 4, 183, 0, 3]
abbrev dktX16_init_16 : List UInt8 := dkwX16_init_16 ++ dktX16_init_17
def dkwX16_init_15 : List UInt8 := [181, 0, 249, 42, 17, 78, 32, 188, 8, 181, 0, 252, 42, 2, 181, 1, 0, 42, 16, 60, 188, 4]
abbrev dktX16_init_15 : List UInt8 := dkwX16_init_15 ++ dktX16_init_16
def dkwX16_init_14 : List UInt8 := [187, 0, 1, 89, 17, 1, 4, 183, 0, 3, 181, 0, 246, 42, 187, 0, 1, 89, 17, 1, 4, 183, 0, 3]
abbrev dktX16_init_14 : List UInt8 := dkwX16_init_14 ++ dktX16_init_15
def dkwX16_init_13 : List UInt8 := [188, 10, 181, 0, 237, 42, 16, 48, 188, 10, 181, 0, 240, 42, 16, 48, 188, 10, 181, 0, 243, 42]
abbrev dktX16_init_13 : List UInt8 := dkwX16_init_13 ++ dktX16_init_14
def dkwX16_init_12 : List UInt8 := [187, 0, 138, 89, 183, 0, 229, 181, 0, 230, 42, 187, 0, 138, 89, 183, 0, 229, 181, 0, 234, 42, 7]
abbrev dktX16_init_12 : List UInt8 := dkwX16_init_12 ++ dktX16_init_13
def dkwX16_init_11 : List UInt8 := [187, 0, 163, 89, 183, 0, 221, 181, 0, 222, 42, 187, 0, 163, 89, 183, 0, 221, 181, 0, 226, 42]
abbrev dktX16_init_11 : List UInt8 := dkwX16_init_11 ++ dktX16_init_12
def dkwX16_init_10 : List UInt8 := [181, 0, 212, 42, 16, 6, 189, 0, 163, 181, 0, 215, 42, 16, 6, 189, 0, 163, 181, 0, 218, 42]
abbrev dktX16_init_10 : List UInt8 := dkwX16_init_10 ++ dktX16_init_11
def dkwX16_init_9 : List UInt8 := [17, 0, 130, 184, 0, 202, 181, 0, 206, 42, 16, 16, 188, 10, 181, 0, 209, 42, 16, 8, 188, 10]
abbrev dktX16_init_9 : List UInt8 := dkwX16_init_9 ++ dktX16_init_10
def dkwX16_init_8 : List UInt8 := [16, 16, 16, 9, 197, 0, 194, 2, 181, 0, 196, 42, 16, 16, 188, 10, 181, 0, 199, 42, 16, 16]
abbrev dktX16_init_8 : List UInt8 := dkwX16_init_8 ++ dktX16_init_9
def dkwX16_init_7 : List UInt8 := [189, 0, 163, 181, 0, 184, 42, 16, 16, 188, 10, 181, 0, 188, 42, 16, 16, 188, 10, 181, 0, 191, 42]
abbrev dktX16_init_7 : List UInt8 := dkwX16_init_7 ++ dktX16_init_8
def dkwX16_init_6 : List UInt8 := [187, 0, 1, 89, 17, 1, 4, 183, 0, 3, 181, 0, 149, 42, 16, 16, 188, 10, 181, 0, 181, 42, 16, 16]
abbrev dktX16_init_6 : List UInt8 := dkwX16_init_6 ++ dktX16_init_7
def dkwX16_init_5 : List UInt8 := [17, 1, 4, 183, 0, 3, 181, 0, 95, 42, 187, 0, 1, 89, 17, 1, 4, 183, 0, 3, 181, 0, 142, 42]
abbrev dktX16_init_5 : List UInt8 := dkwX16_init_5 ++ dktX16_init_6
def dkwX16_init_4 : List UInt8 := [181, 0, 102, 42, 187, 0, 1, 89, 17, 1, 4, 183, 0, 3, 181, 0, 108, 42, 187, 0, 1, 89]
abbrev dktX16_init_4 : List UInt8 := dkwX16_init_4 ++ dktX16_init_5
def dkwX16_init_3 : List UInt8 := [187, 0, 1, 89, 17, 1, 8, 183, 0, 3, 181, 0, 72, 42, 187, 0, 1, 89, 17, 1, 4, 183, 0, 3]
abbrev dktX16_init_3 : List UInt8 := dkwX16_init_3 ++ dktX16_init_4
def dkwX16_init_2 : List UInt8 := [17, 1, 8, 183, 0, 3, 181, 0, 65, 42, 187, 0, 1, 89, 17, 1, 8, 183, 0, 3, 181, 0, 69, 42]
abbrev dktX16_init_2 : List UInt8 := dkwX16_init_2 ++ dktX16_init_3
def dkwX16_init_1 : List UInt8 := [17, 1, 10, 188, 10, 181, 0, 46, 42, 17, 1, 10, 188, 10, 181, 0, 49, 42, 187, 0, 1, 89]
abbrev dktX16_init_1 : List UInt8 := dkwX16_init_1 ++ dktX16_init_2
def dkwX16_init_0 : List UInt8 := [42, 183, 0, 176, 42, 17, 1, 8, 188, 10, 181, 0, 40, 42, 17, 1, 10, 188, 10, 181, 0, 43, 42]
abbrev dktX16_init_0 : List UInt8 := dkwX16_init_0 ++ dktX16_init_1
theorem dksX16_init_0 : cX16_init.data.toList.drop 0 = dktX16_init_0 := by decide +kernel
theorem dksX16_init_1 : cX16_init.data.toList.drop 23 = dktX16_init_1 := dk_seg dksX16_init_0 23 rfl rfl
theorem dksX16_init_2 : cX16_init.data.toList.drop 45 = dktX16_init_2 := dk_seg dksX16_init_1 22 rfl rfl
theorem dksX16_init_3 : cX16_init.data.toList.drop 69 = dktX16_init_3 := dk_seg dksX16_init_2 24 rfl rfl
theorem dksX16_init_4 : cX16_init.data.toList.drop 93 = dktX16_init_4 := dk_seg dksX16_init_3 24 rfl rfl
theorem dksX16_init_5 : cX16_init.data.toList.drop 115 = dktX16_init_5 := dk_seg dksX16_init_4 22 rfl rfl
theorem dksX16_init_6 : cX16_init.data.toList.drop 139 = dktX16_init_6 := dk_seg dksX16_init_5 24 rfl rfl
theorem dksX16_init_7 : cX16_init.data.toList.drop 163 = dktX16_init_7 := dk_seg dksX16_init_6 24 rfl rfl
theorem dksX16_init_8 : cX16_init.data.toList.drop 186 = dktX16_init_8 := dk_seg dksX16_init_7 23 rfl rfl
theorem dksX16_init_9 : cX16_init.data.toList.drop 208 = dktX16_init_9 := dk_seg dksX16_init_8 22 rfl rfl
theorem dksX16_init_10 : cX16_init.data.toList.drop 230 = dktX16_init_10 := dk_seg dksX16_init_9 22 rfl rfl
theorem dksX16_init_11 : cX16_init.data.toList.drop 252 = dktX16_init_11 := dk_seg dksX16_init_10 22 rfl rfl
theorem dksX16_init_12 : cX16_init.data.toList.drop 274 = dktX16_init_12 := dk_seg dksX16_init_11 22 rfl rfl
theorem dksX16_init_13 : cX16_init.data.toList.drop 297 = dktX16_init_13 := dk_seg dksX16_init_12 23 rfl rfl
theorem dksX16_init_14 : cX16_init.data.toList.drop 319 = dktX16_init_14 := dk_seg dksX16_init_13 22 rfl rfl
theorem dksX16_init_15 : cX16_init.data.toList.drop 343 = dktX16_init_15 := dk_seg dksX16_init_14 24 rfl rfl
theorem dksX16_init_16 : cX16_init.data.toList.drop 365 = dktX16_init_16 := dk_seg dksX16_init_15 22 rfl rfl
theorem dksX16_init_17 : cX16_init.data.toList.drop 387 = dktX16_init_17 := dk_seg dksX16_init_16 22 rfl rfl
theorem dksX16_init_18 : cX16_init.data.toList.drop 411 = dktX16_init_18 := dk_seg dksX16_init_17 24 rfl rfl
theorem dksX16_init_19 : cX16_init.data.toList.drop 433 = dktX16_init_19 := dk_seg dksX16_init_18 22 rfl rfl
theorem dksX16_init_20 : cX16_init.data.toList.drop 456 = dktX16_init_20 := dk_seg dksX16_init_19 23 rfl rfl
theorem dksX16_init_21 : cX16_init.data.toList.drop 479 = dktX16_init_21 := dk_seg dksX16_init_20 23 rfl rfl
theorem dksX16_init_22 : cX16_init.data.toList.drop 503 = dktX16_init_22 := dk_seg dksX16_init_21 24 rfl rfl
theorem dksX16_init_23 : cX16_init.data.toList.drop 525 = dktX16_init_23 := dk_seg dksX16_init_22 22 rfl rfl
theorem dksX16_init_24 : cX16_init.data.toList.drop 548 = dktX16_init_24 := dk_seg dksX16_init_23 23 rfl rfl
theorem dksX16_init_25 : cX16_init.data.toList.drop 570 = dktX16_init_25 := dk_seg dksX16_init_24 22 rfl rfl
theorem dksX16_init_26 : cX16_init.data.toList.drop 594 = dktX16_init_26 := dk_seg dksX16_init_25 24 rfl rfl
theorem dksX16_init_27 : cX16_init.data.toList.drop 618 = dktX16_init_27 := dk_seg dksX16_init_26 24 rfl rfl
theorem dksX16_init_28 : cX16_init.data.toList.drop 640 = dktX16_init_28 := dk_seg dksX16_init_27 22 rfl rfl
theorem dksX16_init_29 : cX16_init.data.toList.drop 664 = dktX16_init_29 := dk_seg dksX16_init_28 24 rfl rfl
theorem dksX16_init_30 : cX16_init.data.toList.drop 688 = dktX16_init_30 := dk_seg dksX16_init_29 24 rfl rfl
theorem dksX16_init_31 : cX16_init.data.toList.drop 711 = dktX16_init_31 := dk_seg dksX16_init_30 23 rfl rfl
theorem dksX16_init_32 : cX16_init.data.toList.drop 733 = dktX16_init_32 := dk_seg dksX16_init_31 22 rfl rfl
theorem dksX16_init_33 : cX16_init.data.toList.drop 757 = dktX16_init_33 := dk_seg dksX16_init_32 24 rfl rfl
theorem dksX16_init_34 : cX16_init.data.toList.drop 781 = dktX16_init_34 := dk_seg dksX16_init_33 24 rfl rfl
theorem dksX16_init_35 : cX16_init.data.toList.drop 803 = dktX16_init_35 := dk_seg dksX16_init_34 22 rfl rfl
theorem dksX16_init_36 : cX16_init.data.toList.drop 826 = dktX16_init_36 := dk_seg dksX16_init_35 23 rfl rfl
theorem dksX16_init_37 : cX16_init.data.toList.drop 850 = dktX16_init_37 := dk_seg dksX16_init_36 24 rfl rfl
theorem dksX16_init_38 : cX16_init.data.toList.drop 874 = dktX16_init_38 := dk_seg dksX16_init_37 24 rfl rfl
theorem dX16_init_0 : decode cX16_init 0 = .ok (.aload_n 0, 1) := dk_42 (dk_at dksX16_init_0 0 rfl rfl)
theorem dX16_init_1 : decode cX16_init 1 = .ok (.invokespecial 176, 3) := dk_183 0 176 (dk_at dksX16_init_0 1 rfl rfl)
theorem dX16_init_4 : decode cX16_init 4 = .ok (.aload_n 0, 1) := dk_42 (dk_at dksX16_init_0 4 rfl rfl)
theorem dX16_init_5 : decode cX16_init 5 = .ok (.sipush 264, 3) := dk_17 1 8 (dk_at dksX16_init_0 5 rfl rfl)
theorem dX16_init_8 : decode cX16_init 8 = .ok (.newarray .int, 2) := dk_188_10 (dk_at dksX16_init_0 8 rfl rfl)
theorem dX16_init_10 : decode cX16_init 10 = .ok (.putfield 40, 3) := dk_181 0 40 (dk_at dksX16_init_0 10 rfl rfl)
theorem dX16_init_13 : decode cX16_init 13 = .ok (.aload_n 0, 1) := dk_42 (dk_at dksX16_init_0 13 rfl rfl)
theorem dX16_init_14 : decode cX16_init 14 = .ok (.sipush 266, 3) := dk_17 1 10 (dk_at dksX16_init_0 14 rfl rfl)
theorem dX16_init_17 : decode cX16_init 17 = .ok (.newarray .int, 2) := dk_188_10 (dk_at dksX16_init_0 17 rfl rfl)
theorem dX16_init_19 : decode cX16_init 19 = .ok (.putfield 43, 3) := dk_181 0 43 (dk_at dksX16_init_0 19 rfl rfl)
theorem dX16_init_22 : decode cX16_init 22 = .ok (.aload_n 0, 1) := dk_42 (dk_at dksX16_init_0 22 rfl rfl)
theorem dX16_init_23 : decode cX16_init 23 = .ok (.sipush 266, 3) := dk_17 1 10 (dk_at dksX16_init_1 0 rfl rfl)
theorem dX16_init_26 : decode cX16_init 26 = .ok (.newarray .int, 2) := dk_188_10 (dk_at dksX16_init_1 3 rfl rfl)
theorem dX16_init_28 : decode cX16_init 28 = .ok (.putfield 46, 3) := dk_181 0 46 (dk_at dksX16_init_1 5 rfl rfl)
theorem dX16_init_31 : decode cX16_init 31 = .ok (.aload_n 0, 1) := dk_42 (dk_at dksX16_init_1 8 rfl rfl)
theorem dX16_init_32 : decode cX16_init 32 = .ok (.sipush 266, 3) := dk_17 1 10 (dk_at dksX16_init_1 9 rfl rfl)
theorem dX16_init_35 : decode cX16_init 35 = .ok (.newarray .int, 2) := dk_188_10 (dk_at dksX16_init_1 12 rfl rfl)
theorem dX16_init_37 : decode cX16_init 37 = .ok (.putfield 49, 3) := dk_181 0 49 (dk_at dksX16_init_1 14 rfl rfl)
theorem dX16_init_40 : decode cX16_init 40 = .ok (.aload_n 0, 1) := dk_42 (dk_at dksX16_init_1 17 rfl rfl)
theorem dX16_init_41 : decode cX16_init 41 = .ok (.new 1, 3) := dk_187 0 1 (dk_at dksX16_init_1 18 rfl rfl)
theorem dX16_init_44 : decode cX16_init 44 = .ok (.dup, 1) := dk_89 (dk_at dksX16_init_1 21 rfl rfl)
theorem dX16_init_45 : decode cX16_init 45 = .ok (.sipush 264, 3) := dk_17 1 8 (dk_at dksX16_init_2 0 rfl rfl)
theorem dX16_init_48 : decode cX16_init 48 = .ok (.invokespecial 3, 3) := dk_183 0 3 (dk_at dksX16_init_2 3 rfl rfl)
theorem dX16_init_51 : decode cX16_init 51 = .ok (.putfield 65, 3) := dk_181 0 65 (dk_at dksX16_init_2 6 rfl rfl)
theorem dX16_init_54 : decode cX16_init 54 = .ok (.aload_n 0, 1) := dk_42 (dk_at dksX16_init_2 9 rfl rfl)
theorem dX16_init_55 : decode cX16_init 55 = .ok (.new 1, 3) := dk_187 0 1 (dk_at dksX16_init_2 10 rfl rfl)
theorem dX16_init_58 : decode cX16_init 58 = .ok (.dup, 1) := dk_89 (dk_at dksX16_init_2 13 rfl rfl)
theorem dX16_init_59 : decode cX16_init 59 = .ok (.sipush 264, 3) := dk_17 1 8 (dk_at dksX16_init_2 14 rfl rfl)
theorem dX16_init_62 : decode cX16_init 62 = .ok (.invokespecial 3, 3) := dk_183 0 3 (dk_at dksX16_init_2 17 rfl rfl)
theorem dX16_init_65 : decode cX16_init 65 = .ok (.putfield 69, 3) := dk_181 0 69 (dk_at dksX16_init_2 20 rfl rfl)
theorem dX16_init_68 : decode cX16_init 68 = .ok (.aload_n 0, 1) := dk_42 (dk_at dksX16_init_2 23 rfl rfl)
theorem dX16_init_69 : decode cX16_init 69 = .ok (.new 1, 3) := dk_187 0 1 (dk_at dksX16_init_3 0 rfl rfl)
theorem dX16_init_72 : decode cX16_init 72 = .ok (.dup, 1) := dk_89 (dk_at dksX16_init_3 3 rfl rfl)
theorem dX16_init_73 : decode cX16_init 73 = .ok (.sipush 264, 3) := dk_17 1 8 (dk_at dksX16_init_3 4 rfl rfl)
theorem dX16_init_76 : decode cX16_init 76 = .ok (.invokespecial 3, 3) := dk_183 0 3 (dk_at dksX16_init_3 7 rfl rfl)
theorem dX16_init_79 : decode cX16_init 79 = .ok (.putfield 72, 3) := dk_181 0 72 (dk_at dksX16_init_3 10 rfl rfl)
theorem dX16_init_82 : decode cX16_init 82 = .ok (.aload_n 0, 1) := dk_42 (dk_at dksX16_init_3 13 rfl rfl)
theorem dX16_init_83 : decode cX16_init 83 = .ok (.new 1, 3) := dk_187 0 1 (dk_at dksX16_init_3 14 rfl rfl)
theorem dX16_init_86 : decode cX16_init 86 = .ok (.dup, 1) := dk_89 (dk_at dksX16_init_3 17 rfl rfl)
theorem dX16_init_87 : decode cX16_init 87 = .ok (.sipush 260, 3) := dk_17 1 4 (dk_at dksX16_init_3 18 rfl rfl)
theorem dX16_init_90 : decode cX16_init 90 = .ok (.invokespecial 3, 3) := dk_183 0 3 (dk_at dksX16_init_3 21 rfl rfl)
theorem dX16_init_93 : decode cX16_init 93 = .ok (.putfield 102, 3) := dk_181 0 102 (dk_at dksX16_init_4 0 rfl rfl)
theorem dX16_init_96 : decode cX16_init 96 = .ok (.aload_n 0, 1) := dk_42 (dk_at dksX16_init_4 3 rfl rfl)
theorem dX16_init_97 : decode cX16_init 97 = .ok (.new 1, 3) := dk_187 0 1 (dk_at dksX16_init_4 4 rfl rfl)
theorem dX16_init_100 : decode cX16_init 100 = .ok (.dup, 1) := dk_89 (dk_at dksX16_init_4 7 rfl rfl)
theorem dX16_init_101 : decode cX16_init 101 = .ok (.sipush 260, 3) := dk_17 1 4 (dk_at dksX16_init_4 8 rfl rfl)
theorem dX16_init_104 : decode cX16_init 104 = .ok (.invokespecial 3, 3) := dk_183 0 3 (dk_at dksX16_init_4 11 rfl rfl)
theorem dX16_init_107 : decode cX16_init 107 = .ok (.putfield 108, 3) := dk_181 0 108 (dk_at dksX16_init_4 14 rfl rfl)
theorem dX16_init_110 : decode cX16_init 110 = .ok (.aload_n 0, 1) := dk_42 (dk_at dksX16_init_4 17 rfl rfl)
theorem dX16_init_111 : decode cX16_init 111 = .ok (.new 1, 3) := dk_187 0 1 (dk_at dksX16_init_4 18 rfl rfl)
theorem dX16_init_114 : decode cX16_init 114 = .ok (.dup, 1) := dk_89 (dk_at dksX16_init_4 21 rfl rfl)
theorem dX16_init_115 : decode cX16_init 115 = .ok (.sipush 260, 3) := dk_17 1 4 (dk_at dksX16_init_5 0 rfl rfl)
theorem dX16_init_118 : decode cX16_init 118 = .ok (.invokespecial 3, 3) := dk_183 0 3 (dk_at dksX16_init_5 3 rfl rfl)
theorem dX16_init_121 : decode cX16_init 121 = .ok (.putfield 95, 3) := dk_181 0 95 (dk_at dksX16_init_5 6 rfl rfl)
theorem dX16_init_124 : decode cX16_init 124 = .ok (.aload_n 0, 1) := dk_42 (dk_at dksX16_init_5 9 rfl rfl)
theorem dX16_init_125 : decode cX16_init 125 = .ok (.new 1, 3) := dk_187 0 1 (dk_at dksX16_init_5 10 rfl rfl)
theorem dX16_init_128 : decode cX16_init 128 = .ok (.dup, 1) := dk_89 (dk_at dksX16_init_5 13 rfl rfl)
theorem dX16_init_129 : decode cX16_init 129 = .ok (.sipush 260, 3) := dk_17 1 4 (dk_at dksX16_init_5 14 rfl rfl)
theorem dX16_init_132 : decode cX16_init 132 = .ok (.invokespecial 3, 3) := dk_183 0 3 (dk_at dksX16_init_5 17 rfl rfl)
theorem dX16_init_135 : decode cX16_init 135 = .ok (.putfield 142, 3) := dk_181 0 142 (dk_at dksX16_init_5 20 rfl rfl)
theorem dX16_init_138 : decode cX16_init 138 = .ok (.aload_n 0, 1) := dk_42 (dk_at dksX16_init_5 23 rfl rfl)
theorem dX16_init_139 : decode cX16_init 139 = .ok (.new 1, 3) := dk_187 0 1 (dk_at dksX16_init_6 0 rfl rfl)
theorem dX16_init_142 : decode cX16_init 142 = .ok (.dup, 1) := dk_89 (dk_at dksX16_init_6 3 rfl rfl)
theorem dX16_init_143 : decode cX16_init 143 = .ok (.sipush 260, 3) := dk_17 1 4 (dk_at dksX16_init_6 4 rfl rfl)
theorem dX16_init_146 : decode cX16_init 146 = .ok (.invokespecial 3, 3) := dk_183 0 3 (dk_at dksX16_init_6 7 rfl rfl)
theorem dX16_init_149 : decode cX16_init 149 = .ok (.putfield 149, 3) := dk_181 0 149 (dk_at dksX16_init_6 10 rfl rfl)
theorem dX16_init_152 : decode cX16_init 152 = .ok (.aload_n 0, 1) := dk_42 (dk_at dksX16_init_6 13 rfl rfl)
theorem dX16_init_153 : decode cX16_init 153 = .ok (.bipush 16, 2) := dk_16 16 (dk_at dksX16_init_6 14 rfl rfl)
theorem dX16_init_155 : decode cX16_init 155 = .ok (.newarray .int, 2) := dk_188_10 (dk_at dksX16_init_6 16 rfl rfl)
theorem dX16_init_157 : decode cX16_init 157 = .ok (.putfield 181, 3) := dk_181 0 181 (dk_at dksX16_init_6 18 rfl rfl)
theorem dX16_init_160 : decode cX16_init 160 = .ok (.aload_n 0, 1) := dk_42 (dk_at dksX16_init_6 21 rfl rfl)
theorem dX16_init_161 : decode cX16_init 161 = .ok (.bipush 16, 2) := dk_16 16 (dk_at dksX16_init_6 22 rfl rfl)
theorem dX16_init_163 : decode cX16_init 163 = .ok (.anewarray 163, 3) := dk_189 0 163 (dk_at dksX16_init_7 0 rfl rfl)
theorem dX16_init_166 : decode cX16_init 166 = .ok (.putfield 184, 3) := dk_181 0 184 (dk_at dksX16_init_7 3 rfl rfl)
theorem dX16_init_169 : decode cX16_init 169 = .ok (.aload_n 0, 1) := dk_42 (dk_at dksX16_init_7 6 rfl rfl)
theorem dX16_init_170 : decode cX16_init 170 = .ok (.bipush 16, 2) := dk_16 16 (dk_at dksX16_init_7 7 rfl rfl)
theorem dX16_init_172 : decode cX16_init 172 = .ok (.newarray .int, 2) := dk_188_10 (dk_at dksX16_init_7 9 rfl rfl)
theorem dX16_init_174 : decode cX16_init 174 = .ok (.putfield 188, 3) := dk_181 0 188 (dk_at dksX16_init_7 11 rfl rfl)
theorem dX16_init_177 : decode cX16_init 177 = .ok (.aload_n 0, 1) := dk_42 (dk_at dksX16_init_7 14 rfl rfl)
theorem dX16_init_178 : decode cX16_init 178 = .ok (.bipush 16, 2) := dk_16 16 (dk_at dksX16_init_7 15 rfl rfl)
theorem dX16_init_180 : decode cX16_init 180 = .ok (.newarray .int, 2) := dk_188_10 (dk_at dksX16_init_7 17 rfl rfl)
theorem dX16_init_182 : decode cX16_init 182 = .ok (.putfield 191, 3) := dk_181 0 191 (dk_at dksX16_init_7 19 rfl rfl)
theorem dX16_init_185 : decode cX16_init 185 = .ok (.aload_n 0, 1) := dk_42 (dk_at dksX16_init_7 22 rfl rfl)
theorem dX16_init_186 : decode cX16_init 186 = .ok (.bipush 16, 2) := dk_16 16 (dk_at dksX16_init_8 0 rfl rfl)
theorem dX16_init_188 : decode cX16_init 188 = .ok (.bipush 9, 2) := dk_16 9 (dk_at dksX16_init_8 2 rfl rfl)
theorem dX16_init_190 : decode cX16_init 190 = .ok (.multianewarray 194 2, 4) := by decide +kernel
theorem dX16_init_194 : decode cX16_init 194 = .ok (.putfield 196, 3) := dk_181 0 196 (dk_at dksX16_init_8 8 rfl rfl)
theorem dX16_init_197 : decode cX16_init 197 = .ok (.aload_n 0, 1) := dk_42 (dk_at dksX16_init_8 11 rfl rfl)
theorem dX16_init_198 : decode cX16_init 198 = .ok (.bipush 16, 2) := dk_16 16 (dk_at dksX16_init_8 12 rfl rfl)
theorem dX16_init_200 : decode cX16_init 200 = .ok (.newarray .int, 2) := dk_188_10 (dk_at dksX16_init_8 14 rfl rfl)
theorem dX16_init_202 : decode cX16_init 202 = .ok (.putfield 199, 3) := dk_181 0 199 (dk_at dksX16_init_8 16 rfl rfl)
theorem dX16_init_205 : decode cX16_init 205 = .ok (.aload_n 0, 1) := dk_42 (dk_at dksX16_init_8 19 rfl rfl)
theorem dX16_init_206 : decode cX16_init 206 = .ok (.bipush 16, 2) := dk_16 16 (dk_at dksX16_init_8 20 rfl rfl)
theorem dX16_init_208 : decode cX16_init 208 = .ok (.sipush 130, 3) := dk_17 0 130 (dk_at dksX16_init_9 0 rfl rfl)
theorem dX16_init_211 : decode cX16_init 211 = .ok (.invokestatic 202, 3) := dk_184 0 202 (dk_at dksX16_init_9 3 rfl rfl)
theorem dX16_init_214 : decode cX16_init 214 = .ok (.putfield 206, 3) := dk_181 0 206 (dk_at dksX16_init_9 6 rfl rfl)
theorem dX16_init_217 : decode cX16_init 217 = .ok (.aload_n 0, 1) := dk_42 (dk_at dksX16_init_9 9 rfl rfl)
theorem dX16_init_218 : decode cX16_init 218 = .ok (.bipush 16, 2) := dk_16 16 (dk_at dksX16_init_9 10 rfl rfl)
theorem dX16_init_220 : decode cX16_init 220 = .ok (.newarray .int, 2) := dk_188_10 (dk_at dksX16_init_9 12 rfl rfl)
theorem dX16_init_222 : decode cX16_init 222 = .ok (.putfield 209, 3) := dk_181 0 209 (dk_at dksX16_init_9 14 rfl rfl)
theorem dX16_init_225 : decode cX16_init 225 = .ok (.aload_n 0, 1) := dk_42 (dk_at dksX16_init_9 17 rfl rfl)
theorem dX16_init_226 : decode cX16_init 226 = .ok (.bipush 8, 2) := dk_16 8 (dk_at dksX16_init_9 18 rfl rfl)
theorem dX16_init_228 : decode cX16_init 228 = .ok (.newarray .int, 2) := dk_188_10 (dk_at dksX16_init_9 20 rfl rfl)
theorem dX16_init_230 : decode cX16_init 230 = .ok (.putfield 212, 3) := dk_181 0 212 (dk_at dksX16_init_10 0 rfl rfl)
theorem dX16_init_233 : decode cX16_init 233 = .ok (.aload_n 0, 1) := dk_42 (dk_at dksX16_init_10 3 rfl rfl)
theorem dX16_init_234 : decode cX16_init 234 = .ok (.bipush 6, 2) := dk_16 6 (dk_at dksX16_init_10 4 rfl rfl)
theorem dX16_init_236 : decode cX16_init 236 = .ok (.anewarray 163, 3) := dk_189 0 163 (dk_at dksX16_init_10 6 rfl rfl)
theorem dX16_init_239 : decode cX16_init 239 = .ok (.putfield 215, 3) := dk_181 0 215 (dk_at dksX16_init_10 9 rfl rfl)
theorem dX16_init_242 : decode cX16_init 242 = .ok (.aload_n 0, 1) := dk_42 (dk_at dksX16_init_10 12 rfl rfl)
theorem dX16_init_243 : decode cX16_init 243 = .ok (.bipush 6, 2) := dk_16 6 (dk_at dksX16_init_10 13 rfl rfl)
theorem dX16_init_245 : decode cX16_init 245 = .ok (.anewarray 163, 3) := dk_189 0 163 (dk_at dksX16_init_10 15 rfl rfl)
theorem dX16_init_248 : decode cX16_init 248 = .ok (.putfield 218, 3) := dk_181 0 218 (dk_at dksX16_init_10 18 rfl rfl)
theorem dX16_init_251 : decode cX16_init 251 = .ok (.aload_n 0, 1) := dk_42 (dk_at dksX16_init_10 21 rfl rfl)
theorem dX16_init_252 : decode cX16_init 252 = .ok (.new 163, 3) := dk_187 0 163 (dk_at dksX16_init_11 0 rfl rfl)
theorem dX16_init_255 : decode cX16_init 255 = .ok (.dup, 1) := dk_89 (dk_at dksX16_init_11 3 rfl rfl)
theorem dX16_init_256 : decode cX16_init 256 = .ok (.invokespecial 221, 3) := dk_183 0 221 (dk_at dksX16_init_11 4 rfl rfl)
theorem dX16_init_259 : decode cX16_init 259 = .ok (.putfield 222, 3) := dk_181 0 222 (dk_at dksX16_init_11 7 rfl rfl)
theorem dX16_init_262 : decode cX16_init 262 = .ok (.aload_n 0, 1) := dk_42 (dk_at dksX16_init_11 10 rfl rfl)
theorem dX16_init_263 : decode cX16_init 263 = .ok (.new 163, 3) := dk_187 0 163 (dk_at dksX16_init_11 11 rfl rfl)
theorem dX16_init_266 : decode cX16_init 266 = .ok (.dup, 1) := dk_89 (dk_at dksX16_init_11 14 rfl rfl)
theorem dX16_init_267 : decode cX16_init 267 = .ok (.invokespecial 221, 3) := dk_183 0 221 (dk_at dksX16_init_11 15 rfl rfl)
theorem dX16_init_270 : decode cX16_init 270 = .ok (.putfield 226, 3) := dk_181 0 226 (dk_at dksX16_init_11 18 rfl rfl)
theorem dX16_init_273 : decode cX16_init 273 = .ok (.aload_n 0, 1) := dk_42 (dk_at dksX16_init_11 21 rfl rfl)
theorem dX16_init_274 : decode cX16_init 274 = .ok (.new 138, 3) := dk_187 0 138 (dk_at dksX16_init_12 0 rfl rfl)
theorem dX16_init_277 : decode cX16_init 277 = .ok (.dup, 1) := dk_89 (dk_at dksX16_init_12 3 rfl rfl)
theorem dX16_init_278 : decode cX16_init 278 = .ok (.invokespecial 229, 3) := dk_183 0 229 (dk_at dksX16_init_12 4 rfl rfl)
theorem dX16_init_281 : decode cX16_init 281 = .ok (.putfield 230, 3) := dk_181 0 230 (dk_at dksX16_init_12 7 rfl rfl)
theorem dX16_init_284 : decode cX16_init 284 = .ok (.aload_n 0, 1) := dk_42 (dk_at dksX16_init_12 10 rfl rfl)
theorem dX16_init_285 : decode cX16_init 285 = .ok (.new 138, 3) := dk_187 0 138 (dk_at dksX16_init_12 11 rfl rfl)
theorem dX16_init_288 : decode cX16_init 288 = .ok (.dup, 1) := dk_89 (dk_at dksX16_init_12 14 rfl rfl)
theorem dX16_init_289 : decode cX16_init 289 = .ok (.invokespecial 229, 3) := dk_183 0 229 (dk_at dksX16_init_12 15 rfl rfl)
theorem dX16_init_292 : decode cX16_init 292 = .ok (.putfield 234, 3) := dk_181 0 234 (dk_at dksX16_init_12 18 rfl rfl)
theorem dX16_init_295 : decode cX16_init 295 = .ok (.aload_n 0, 1) := dk_42 (dk_at dksX16_init_12 21 rfl rfl)
theorem dX16_init_296 : decode cX16_init 296 = .ok (.iconst 4, 1) := dk_7 (dk_at dksX16_init_12 22 rfl rfl)
theorem dX16_init_297 : decode cX16_init 297 = .ok (.newarray .int, 2) := dk_188_10 (dk_at dksX16_init_13 0 rfl rfl)
theorem dX16_init_299 : decode cX16_init 299 = .ok (.putfield 237, 3) := dk_181 0 237 (dk_at dksX16_init_13 2 rfl rfl)
theorem dX16_init_302 : decode cX16_init 302 = .ok (.aload_n 0, 1) := dk_42 (dk_at dksX16_init_13 5 rfl rfl)
theorem dX16_init_303 : decode cX16_init 303 = .ok (.bipush 48, 2) := dk_16 48 (dk_at dksX16_init_13 6 rfl rfl)
theorem dX16_init_305 : decode cX16_init 305 = .ok (.newarray .int, 2) := dk_188_10 (dk_at dksX16_init_13 8 rfl rfl)
theorem dX16_init_307 : decode cX16_init 307 = .ok (.putfield 240, 3) := dk_181 0 240 (dk_at dksX16_init_13 10 rfl rfl)
theorem dX16_init_310 : decode cX16_init 310 = .ok (.aload_n 0, 1) := dk_42 (dk_at dksX16_init_13 13 rfl rfl)
theorem dX16_init_311 : decode cX16_init 311 = .ok (.bipush 48, 2) := dk_16 48 (dk_at dksX16_init_13 14 rfl rfl)
theorem dX16_init_313 : decode cX16_init 313 = .ok (.newarray .int, 2) := dk_188_10 (dk_at dksX16_init_13 16 rfl rfl)
theorem dX16_init_315 : decode cX16_init 315 = .ok (.putfield 243, 3) := dk_181 0 243 (dk_at dksX16_init_13 18 rfl rfl)
theorem dX16_init_318 : decode cX16_init 318 = .ok (.aload_n 0, 1) := dk_42 (dk_at dksX16_init_13 21 rfl rfl)
theorem dX16_init_319 : decode cX16_init 319 = .ok (.new 1, 3) := dk_187 0 1 (dk_at dksX16_init_14 0 rfl rfl)
theorem dX16_init_322 : decode cX16_init 322 = .ok (.dup, 1) := dk_89 (dk_at dksX16_init_14 3 rfl rfl)
theorem dX16_init_323 : decode cX16_init 323 = .ok (.sipush 260, 3) := dk_17 1 4 (dk_at dksX16_init_14 4 rfl rfl)
theorem dX16_init_326 : decode cX16_init 326 = .ok (.invokespecial 3, 3) := dk_183 0 3 (dk_at dksX16_init_14 7 rfl rfl)
theorem dX16_init_329 : decode cX16_init 329 = .ok (.putfield 246, 3) := dk_181 0 246 (dk_at dksX16_init_14 10 rfl rfl)
theorem dX16_init_332 : decode cX16_init 332 = .ok (.aload_n 0, 1) := dk_42 (dk_at dksX16_init_14 13 rfl rfl)
theorem dX16_init_333 : decode cX16_init 333 = .ok (.new 1, 3) := dk_187 0 1 (dk_at dksX16_init_14 14 rfl rfl)
theorem dX16_init_336 : decode cX16_init 336 = .ok (.dup, 1) := dk_89 (dk_at dksX16_init_14 17 rfl rfl)
theorem dX16_init_337 : decode cX16_init 337 = .ok (.sipush 260, 3) := dk_17 1 4 (dk_at dksX16_init_14 18 rfl rfl)
theorem dX16_init_340 : decode cX16_init 340 = .ok (.invokespecial 3, 3) := dk_183 0 3 (dk_at dksX16_init_14 21 rfl rfl)
theorem dX16_init_343 : decode cX16_init 343 = .ok (.putfield 249, 3) := dk_181 0 249 (dk_at dksX16_init_15 0 rfl rfl)
theorem dX16_init_346 : decode cX16_init 346 = .ok (.aload_n 0, 1) := dk_42 (dk_at dksX16_init_15 3 rfl rfl)
theorem dX16_init_347 : decode cX16_init 347 = .ok (.sipush 20000, 3) := dk_17 78 32 (dk_at dksX16_init_15 4 rfl rfl)
theorem dX16_init_350 : decode cX16_init 350 = .ok (.newarray .byte, 2) := dk_188_8 (dk_at dksX16_init_15 7 rfl rfl)
theorem dX16_init_352 : decode cX16_init 352 = .ok (.putfield 252, 3) := dk_181 0 252 (dk_at dksX16_init_15 9 rfl rfl)
theorem dX16_init_355 : decode cX16_init 355 = .ok (.aload_n 0, 1) := dk_42 (dk_at dksX16_init_15 12 rfl rfl)
theorem dX16_init_356 : decode cX16_init 356 = .ok (.iconst (-1), 1) := dk_2 (dk_at dksX16_init_15 13 rfl rfl)
theorem dX16_init_357 : decode cX16_init 357 = .ok (.putfield 256, 3) := dk_181 1 0 (dk_at dksX16_init_15 14 rfl rfl)
theorem dX16_init_360 : decode cX16_init 360 = .ok (.aload_n 0, 1) := dk_42 (dk_at dksX16_init_15 17 rfl rfl)
theorem dX16_init_361 : decode cX16_init 361 = .ok (.bipush 60, 2) := dk_16 60 (dk_at dksX16_init_15 18 rfl rfl)
theorem dX16_init_363 : decode cX16_init 363 = .ok (.newarray .boolean, 2) := dk_188_4 (dk_at dksX16_init_15 20 rfl rfl)
theorem dX16_init_365 : decode cX16_init 365 = .ok (.putfield 259, 3) := dk_181 1 3 (dk_at dksX16_init_16 0 rfl rfl)
theorem dX16_init_368 : decode cX16_init 368 = .ok (.aload_n 0, 1) := dk_42 (dk_at dksX16_init_16 3 rfl rfl)
theorem dX16_init_369 : decode cX16_init 369 = .ok (.bipush 35, 2) := dk_16 35 (dk_at dksX16_init_16 4 rfl rfl)
theorem dX16_init_371 : decode cX16_init 371 = .ok (.newarray .int, 2) := dk_188_10 (dk_at dksX16_init_16 6 rfl rfl)
theorem dX16_init_373 : decode cX16_init 373 = .ok (.putfield 263, 3) := dk_181 1 7 (dk_at dksX16_init_16 8 rfl rfl)
theorem dX16_init_376 : decode cX16_init 376 = .ok (.aload_n 0, 1) := dk_42 (dk_at dksX16_init_16 11 rfl rfl)
theorem dX16_init_377 : decode cX16_init 377 = .ok (.new 1, 3) := dk_187 0 1 (dk_at dksX16_init_16 12 rfl rfl)
theorem dX16_init_380 : decode cX16_init 380 = .ok (.dup, 1) := dk_89 (dk_at dksX16_init_16 15 rfl rfl)
theorem dX16_init_381 : decode cX16_init 381 = .ok (.sipush 260, 3) := dk_17 1 4 (dk_at dksX16_init_16 16 rfl rfl)
theorem dX16_init_384 : decode cX16_init 384 = .ok (.invokespecial 3, 3) := dk_183 0 3 (dk_at dksX16_init_16 19 rfl rfl)
theorem dX16_init_387 : decode cX16_init 387 = .ok (.putfield 266, 3) := dk_181 1 10 (dk_at dksX16_init_17 0 rfl rfl)
theorem dX16_init_390 : decode cX16_init 390 = .ok (.aload_n 0, 1) := dk_42 (dk_at dksX16_init_17 3 rfl rfl)
theorem dX16_init_391 : decode cX16_init 391 = .ok (.new 1, 3) := dk_187 0 1 (dk_at dksX16_init_17 4 rfl rfl)
theorem dX16_init_394 : decode cX16_init 394 = .ok (.dup, 1) := dk_89 (dk_at dksX16_init_17 7 rfl rfl)
theorem dX16_init_395 : decode cX16_init 395 = .ok (.sipush 260, 3) := dk_17 1 4 (dk_at dksX16_init_17 8 rfl rfl)
theorem dX16_init_398 : decode cX16_init 398 = .ok (.invokespecial 3, 3) := dk_183 0 3 (dk_at dksX16_init_17 11 rfl rfl)
theorem dX16_init_401 : decode cX16_init 401 = .ok (.putfield 269, 3) := dk_181 1 13 (dk_at dksX16_init_17 14 rfl rfl)
theorem dX16_init_404 : decode cX16_init 404 = .ok (.aload_n 0, 1) := dk_42 (dk_at dksX16_init_17 17 rfl rfl)
theorem dX16_init_405 : decode cX16_init 405 = .ok (.invokestatic 272, 3) := dk_184 1 16 (dk_at dksX16_init_17 18 rfl rfl)
theorem dX16_init_408 : decode cX16_init 408 = .ok (.putfield 276, 3) := dk_181 1 20 (dk_at dksX16_init_17 21 rfl rfl)
theorem dX16_init_411 : decode cX16_init 411 = .ok (.aload_n 0, 1) := dk_42 (dk_at dksX16_init_18 0 rfl rfl)
theorem dX16_init_412 : decode cX16_init 412 = .ok (.bipush 35, 2) := dk_16 35 (dk_at dksX16_init_18 1 rfl rfl)
theorem dX16_init_414 : decode cX16_init 414 = .ok (.newarray .int, 2) := dk_188_10 (dk_at dksX16_init_18 3 rfl rfl)
theorem dX16_init_416 : decode cX16_init 416 = .ok (.putfield 279, 3) := dk_181 1 23 (dk_at dksX16_init_18 5 rfl rfl)
theorem dX16_init_419 : decode cX16_init 419 = .ok (.aload_n 0, 1) := dk_42 (dk_at dksX16_init_18 8 rfl rfl)
theorem dX16_init_420 : decode cX16_init 420 = .ok (.sipush 4096, 3) := dk_17 16 0 (dk_at dksX16_init_18 9 rfl rfl)
theorem dX16_init_423 : decode cX16_init 423 = .ok (.newarray .int, 2) := dk_188_10 (dk_at dksX16_init_18 12 rfl rfl)
theorem dX16_init_425 : decode cX16_init 425 = .ok (.putfield 282, 3) := dk_181 1 26 (dk_at dksX16_init_18 14 rfl rfl)
theorem dX16_init_428 : decode cX16_init 428 = .ok (.aload_n 0, 1) := dk_42 (dk_at dksX16_init_18 17 rfl rfl)
theorem dX16_init_429 : decode cX16_init 429 = .ok (.bipush 35, 2) := dk_16 35 (dk_at dksX16_init_18 18 rfl rfl)
theorem dX16_init_431 : decode cX16_init 431 = .ok (.newarray .int, 2) := dk_188_10 (dk_at dksX16_init_18 20 rfl rfl)
theorem dX16_init_433 : decode cX16_init 433 = .ok (.putfield 285, 3) := dk_181 1 29 (dk_at dksX16_init_19 0 rfl rfl)
theorem dX16_init_436 : decode cX16_init 436 = .ok (.aload_n 0, 1) := dk_42 (dk_at dksX16_init_19 3 rfl rfl)
theorem dX16_init_437 : decode cX16_init 437 = .ok (.bipush 35, 2) := dk_16 35 (dk_at dksX16_init_19 4 rfl rfl)
theorem dX16_init_439 : decode cX16_init 439 = .ok (.newarray .int, 2) := dk_188_10 (dk_at dksX16_init_19 6 rfl rfl)
theorem dX16_init_441 : decode cX16_init 441 = .ok (.putfield 288, 3) := dk_181 1 32 (dk_at dksX16_init_19 8 rfl rfl)
theorem dX16_init_444 : decode cX16_init 444 = .ok (.aload_n 0, 1) := dk_42 (dk_at dksX16_init_19 11 rfl rfl)
theorem dX16_init_445 : decode cX16_init 445 = .ok (.bipush 36, 2) := dk_16 36 (dk_at dksX16_init_19 12 rfl rfl)
theorem dX16_init_447 : decode cX16_init 447 = .ok (.invokestatic 291, 3) := dk_184 1 35 (dk_at dksX16_init_19 14 rfl rfl)
theorem dX16_init_450 : decode cX16_init 450 = .ok (.putfield 295, 3) := dk_181 1 39 (dk_at dksX16_init_19 17 rfl rfl)
theorem dX16_init_453 : decode cX16_init 453 = .ok (.aload_n 0, 1) := dk_42 (dk_at dksX16_init_19 20 rfl rfl)
theorem dX16_init_454 : decode cX16_init 454 = .ok (.bipush 36, 2) := dk_16 36 (dk_at dksX16_init_19 21 rfl rfl)
theorem dX16_init_456 : decode cX16_init 456 = .ok (.newarray .int, 2) := dk_188_10 (dk_at dksX16_init_20 0 rfl rfl)
theorem dX16_init_458 : decode cX16_init 458 = .ok (.putfield 299, 3) := dk_181 1 43 (dk_at dksX16_init_20 2 rfl rfl)
theorem dX16_init_461 : decode cX16_init 461 = .ok (.aload_n 0, 1) := dk_42 (dk_at dksX16_init_20 5 rfl rfl)
theorem dX16_init_462 : decode cX16_init 462 = .ok (.bipush 35, 2) := dk_16 35 (dk_at dksX16_init_20 6 rfl rfl)
theorem dX16_init_464 : decode cX16_init 464 = .ok (.anewarray 163, 3) := dk_189 0 163 (dk_at dksX16_init_20 8 rfl rfl)
theorem dX16_init_467 : decode cX16_init 467 = .ok (.putfield 302, 3) := dk_181 1 46 (dk_at dksX16_init_20 11 rfl rfl)
theorem dX16_init_470 : decode cX16_init 470 = .ok (.aload_n 0, 1) := dk_42 (dk_at dksX16_init_20 14 rfl rfl)
theorem dX16_init_471 : decode cX16_init 471 = .ok (.bipush 35, 2) := dk_16 35 (dk_at dksX16_init_20 15 rfl rfl)
theorem dX16_init_473 : decode cX16_init 473 = .ok (.newarray .int, 2) := dk_188_10 (dk_at dksX16_init_20 17 rfl rfl)
theorem dX16_init_475 : decode cX16_init 475 = .ok (.putfield 305, 3) := dk_181 1 49 (dk_at dksX16_init_20 19 rfl rfl)
theorem dX16_init_478 : decode cX16_init 478 = .ok (.aload_n 0, 1) := dk_42 (dk_at dksX16_init_20 22 rfl rfl)
theorem dX16_init_479 : decode cX16_init 479 = .ok (.new 1, 3) := dk_187 0 1 (dk_at dksX16_init_21 0 rfl rfl)
theorem dX16_init_482 : decode cX16_init 482 = .ok (.dup, 1) := dk_89 (dk_at dksX16_init_21 3 rfl rfl)
theorem dX16_init_483 : decode cX16_init 483 = .ok (.sipush 260, 3) := dk_17 1 4 (dk_at dksX16_init_21 4 rfl rfl)
theorem dX16_init_486 : decode cX16_init 486 = .ok (.invokespecial 3, 3) := dk_183 0 3 (dk_at dksX16_init_21 7 rfl rfl)
theorem dX16_init_489 : decode cX16_init 489 = .ok (.putfield 308, 3) := dk_181 1 52 (dk_at dksX16_init_21 10 rfl rfl)
theorem dX16_init_492 : decode cX16_init 492 = .ok (.aload_n 0, 1) := dk_42 (dk_at dksX16_init_21 13 rfl rfl)
theorem dX16_init_493 : decode cX16_init 493 = .ok (.new 1, 3) := dk_187 0 1 (dk_at dksX16_init_21 14 rfl rfl)
theorem dX16_init_496 : decode cX16_init 496 = .ok (.dup, 1) := dk_89 (dk_at dksX16_init_21 17 rfl rfl)
theorem dX16_init_497 : decode cX16_init 497 = .ok (.sipush 260, 3) := dk_17 1 4 (dk_at dksX16_init_21 18 rfl rfl)
theorem dX16_init_500 : decode cX16_init 500 = .ok (.invokespecial 3, 3) := dk_183 0 3 (dk_at dksX16_init_21 21 rfl rfl)
theorem dX16_init_503 : decode cX16_init 503 = .ok (.putfield 311, 3) := dk_181 1 55 (dk_at dksX16_init_22 0 rfl rfl)
theorem dX16_init_506 : decode cX16_init 506 = .ok (.aload_n 0, 1) := dk_42 (dk_at dksX16_init_22 3 rfl rfl)
theorem dX16_init_507 : decode cX16_init 507 = .ok (.new 1, 3) := dk_187 0 1 (dk_at dksX16_init_22 4 rfl rfl)
theorem dX16_init_510 : decode cX16_init 510 = .ok (.dup, 1) := dk_89 (dk_at dksX16_init_22 7 rfl rfl)
theorem dX16_init_511 : decode cX16_init 511 = .ok (.sipush 260, 3) := dk_17 1 4 (dk_at dksX16_init_22 8 rfl rfl)
theorem dX16_init_514 : decode cX16_init 514 = .ok (.invokespecial 3, 3) := dk_183 0 3 (dk_at dksX16_init_22 11 rfl rfl)
theorem dX16_init_517 : decode cX16_init 517 = .ok (.putfield 314, 3) := dk_181 1 58 (dk_at dksX16_init_22 14 rfl rfl)
theorem dX16_init_520 : decode cX16_init 520 = .ok (.aload_n 0, 1) := dk_42 (dk_at dksX16_init_22 17 rfl rfl)
theorem dX16_init_521 : decode cX16_init 521 = .ok (.new 1, 3) := dk_187 0 1 (dk_at dksX16_init_22 18 rfl rfl)
theorem dX16_init_524 : decode cX16_init 524 = .ok (.dup, 1) := dk_89 (dk_at dksX16_init_22 21 rfl rfl)
theorem dX16_init_525 : decode cX16_init 525 = .ok (.sipush 260, 3) := dk_17 1 4 (dk_at dksX16_init_23 0 rfl rfl)
theorem dX16_init_528 : decode cX16_init 528 = .ok (.invokespecial 3, 3) := dk_183 0 3 (dk_at dksX16_init_23 3 rfl rfl)
theorem dX16_init_531 : decode cX16_init 531 = .ok (.putfield 317, 3) := dk_181 1 61 (dk_at dksX16_init_23 6 rfl rfl)
theorem dX16_init_534 : decode cX16_init 534 = .ok (.aload_n 0, 1) := dk_42 (dk_at dksX16_init_23 9 rfl rfl)
theorem dX16_init_535 : decode cX16_init 535 = .ok (.bipush 35, 2) := dk_16 35 (dk_at dksX16_init_23 10 rfl rfl)
theorem dX16_init_537 : decode cX16_init 537 = .ok (.anewarray 163, 3) := dk_189 0 163 (dk_at dksX16_init_23 12 rfl rfl)
theorem dX16_init_540 : decode cX16_init 540 = .ok (.putfield 320, 3) := dk_181 1 64 (dk_at dksX16_init_23 15 rfl rfl)
theorem dX16_init_543 : decode cX16_init 543 = .ok (.aload_n 0, 1) := dk_42 (dk_at dksX16_init_23 18 rfl rfl)
theorem dX16_init_544 : decode cX16_init 544 = .ok (.bipush 35, 2) := dk_16 35 (dk_at dksX16_init_23 19 rfl rfl)
theorem dX16_init_546 : decode cX16_init 546 = .ok (.newarray .int, 2) := dk_188_10 (dk_at dksX16_init_23 21 rfl rfl)
theorem dX16_init_548 : decode cX16_init 548 = .ok (.putfield 323, 3) := dk_181 1 67 (dk_at dksX16_init_24 0 rfl rfl)
theorem dX16_init_551 : decode cX16_init 551 = .ok (.aload_n 0, 1) := dk_42 (dk_at dksX16_init_24 3 rfl rfl)
theorem dX16_init_552 : decode cX16_init 552 = .ok (.new 1, 3) := dk_187 0 1 (dk_at dksX16_init_24 4 rfl rfl)
theorem dX16_init_555 : decode cX16_init 555 = .ok (.dup, 1) := dk_89 (dk_at dksX16_init_24 7 rfl rfl)
theorem dX16_init_556 : decode cX16_init 556 = .ok (.sipush 260, 3) := dk_17 1 4 (dk_at dksX16_init_24 8 rfl rfl)
theorem dX16_init_559 : decode cX16_init 559 = .ok (.invokespecial 3, 3) := dk_183 0 3 (dk_at dksX16_init_24 11 rfl rfl)
theorem dX16_init_562 : decode cX16_init 562 = .ok (.putfield 326, 3) := dk_181 1 70 (dk_at dksX16_init_24 14 rfl rfl)
theorem dX16_init_565 : decode cX16_init 565 = .ok (.aload_n 0, 1) := dk_42 (dk_at dksX16_init_24 17 rfl rfl)
theorem dX16_init_566 : decode cX16_init 566 = .ok (.new 1, 3) := dk_187 0 1 (dk_at dksX16_init_24 18 rfl rfl)
theorem dX16_init_569 : decode cX16_init 569 = .ok (.dup, 1) := dk_89 (dk_at dksX16_init_24 21 rfl rfl)
theorem dX16_init_570 : decode cX16_init 570 = .ok (.sipush 260, 3) := dk_17 1 4 (dk_at dksX16_init_25 0 rfl rfl)
theorem dX16_init_573 : decode cX16_init 573 = .ok (.invokespecial 3, 3) := dk_183 0 3 (dk_at dksX16_init_25 3 rfl rfl)
theorem dX16_init_576 : decode cX16_init 576 = .ok (.putfield 329, 3) := dk_181 1 73 (dk_at dksX16_init_25 6 rfl rfl)
theorem dX16_init_579 : decode cX16_init 579 = .ok (.aload_n 0, 1) := dk_42 (dk_at dksX16_init_25 9 rfl rfl)
theorem dX16_init_580 : decode cX16_init 580 = .ok (.invokestatic 332, 3) := dk_184 1 76 (dk_at dksX16_init_25 10 rfl rfl)
theorem dX16_init_583 : decode cX16_init 583 = .ok (.putfield 336, 3) := dk_181 1 80 (dk_at dksX16_init_25 13 rfl rfl)
theorem dX16_init_586 : decode cX16_init 586 = .ok (.aload_n 0, 1) := dk_42 (dk_at dksX16_init_25 16 rfl rfl)
theorem dX16_init_587 : decode cX16_init 587 = .ok (.bipush 12, 2) := dk_16 12 (dk_at dksX16_init_25 17 rfl rfl)
theorem dX16_init_589 : decode cX16_init 589 = .ok (.newarray .int, 2) := dk_188_10 (dk_at dksX16_init_25 19 rfl rfl)
theorem dX16_init_591 : decode cX16_init 591 = .ok (.putfield 339, 3) := dk_181 1 83 (dk_at dksX16_init_25 21 rfl rfl)
theorem dX16_init_594 : decode cX16_init 594 = .ok (.aload_n 0, 1) := dk_42 (dk_at dksX16_init_26 0 rfl rfl)
theorem dX16_init_595 : decode cX16_init 595 = .ok (.bipush 18, 2) := dk_16 18 (dk_at dksX16_init_26 1 rfl rfl)
theorem dX16_init_597 : decode cX16_init 597 = .ok (.sipush 260, 3) := dk_17 1 4 (dk_at dksX16_init_26 3 rfl rfl)
theorem dX16_init_600 : decode cX16_init 600 = .ok (.invokestatic 202, 3) := dk_184 0 202 (dk_at dksX16_init_26 6 rfl rfl)
theorem dX16_init_603 : decode cX16_init 603 = .ok (.putfield 342, 3) := dk_181 1 86 (dk_at dksX16_init_26 9 rfl rfl)
theorem dX16_init_606 : decode cX16_init 606 = .ok (.aload_n 0, 1) := dk_42 (dk_at dksX16_init_26 12 rfl rfl)
theorem dX16_init_607 : decode cX16_init 607 = .ok (.bipush 8, 2) := dk_16 8 (dk_at dksX16_init_26 13 rfl rfl)
theorem dX16_init_609 : decode cX16_init 609 = .ok (.sipush 130, 3) := dk_17 0 130 (dk_at dksX16_init_26 15 rfl rfl)
theorem dX16_init_612 : decode cX16_init 612 = .ok (.invokestatic 202, 3) := dk_184 0 202 (dk_at dksX16_init_26 18 rfl rfl)
theorem dX16_init_615 : decode cX16_init 615 = .ok (.putfield 345, 3) := dk_181 1 89 (dk_at dksX16_init_26 21 rfl rfl)
theorem dX16_init_618 : decode cX16_init 618 = .ok (.aload_n 0, 1) := dk_42 (dk_at dksX16_init_27 0 rfl rfl)
theorem dX16_init_619 : decode cX16_init 619 = .ok (.bipush 8, 2) := dk_16 8 (dk_at dksX16_init_27 1 rfl rfl)
theorem dX16_init_621 : decode cX16_init 621 = .ok (.newarray .int, 2) := dk_188_10 (dk_at dksX16_init_27 3 rfl rfl)
theorem dX16_init_623 : decode cX16_init 623 = .ok (.putfield 348, 3) := dk_181 1 92 (dk_at dksX16_init_27 5 rfl rfl)
theorem dX16_init_626 : decode cX16_init 626 = .ok (.aload_n 0, 1) := dk_42 (dk_at dksX16_init_27 8 rfl rfl)
theorem dX16_init_627 : decode cX16_init 627 = .ok (.bipush 9, 2) := dk_16 9 (dk_at dksX16_init_27 9 rfl rfl)
theorem dX16_init_629 : decode cX16_init 629 = .ok (.newarray .long, 2) := dk_188_11 (dk_at dksX16_init_27 11 rfl rfl)
theorem dX16_init_631 : decode cX16_init 631 = .ok (.putfield 351, 3) := dk_181 1 95 (dk_at dksX16_init_27 13 rfl rfl)
theorem dX16_init_634 : decode cX16_init 634 = .ok (.aload_n 0, 1) := dk_42 (dk_at dksX16_init_27 16 rfl rfl)
theorem dX16_init_635 : decode cX16_init 635 = .ok (.new 1, 3) := dk_187 0 1 (dk_at dksX16_init_27 17 rfl rfl)
theorem dX16_init_638 : decode cX16_init 638 = .ok (.dup, 1) := dk_89 (dk_at dksX16_init_27 20 rfl rfl)
theorem dX16_init_639 : decode cX16_init 639 = .ok (.iconst 4, 1) := dk_7 (dk_at dksX16_init_27 21 rfl rfl)
theorem dX16_init_640 : decode cX16_init 640 = .ok (.invokespecial 3, 3) := dk_183 0 3 (dk_at dksX16_init_28 0 rfl rfl)
theorem dX16_init_643 : decode cX16_init 643 = .ok (.putfield 355, 3) := dk_181 1 99 (dk_at dksX16_init_28 3 rfl rfl)
theorem dX16_init_646 : decode cX16_init 646 = .ok (.aload_n 0, 1) := dk_42 (dk_at dksX16_init_28 6 rfl rfl)
theorem dX16_init_647 : decode cX16_init 647 = .ok (.new 1, 3) := dk_187 0 1 (dk_at dksX16_init_28 7 rfl rfl)
theorem dX16_init_650 : decode cX16_init 650 = .ok (.dup, 1) := dk_89 (dk_at dksX16_init_28 10 rfl rfl)
theorem dX16_init_651 : decode cX16_init 651 = .ok (.sipush 260, 3) := dk_17 1 4 (dk_at dksX16_init_28 11 rfl rfl)
theorem dX16_init_654 : decode cX16_init 654 = .ok (.invokespecial 3, 3) := dk_183 0 3 (dk_at dksX16_init_28 14 rfl rfl)
theorem dX16_init_657 : decode cX16_init 657 = .ok (.putfield 358, 3) := dk_181 1 102 (dk_at dksX16_init_28 17 rfl rfl)
theorem dX16_init_660 : decode cX16_init 660 = .ok (.aload_n 0, 1) := dk_42 (dk_at dksX16_init_28 20 rfl rfl)
theorem dX16_init_661 : decode cX16_init 661 = .ok (.new 1, 3) := dk_187 0 1 (dk_at dksX16_init_28 21 rfl rfl)
theorem dX16_init_664 : decode cX16_init 664 = .ok (.dup, 1) := dk_89 (dk_at dksX16_init_29 0 rfl rfl)
theorem dX16_init_665 : decode cX16_init 665 = .ok (.sipush 260, 3) := dk_17 1 4 (dk_at dksX16_init_29 1 rfl rfl)
theorem dX16_init_668 : decode cX16_init 668 = .ok (.invokespecial 3, 3) := dk_183 0 3 (dk_at dksX16_init_29 4 rfl rfl)
theorem dX16_init_671 : decode cX16_init 671 = .ok (.putfield 361, 3) := dk_181 1 105 (dk_at dksX16_init_29 7 rfl rfl)
theorem dX16_init_674 : decode cX16_init 674 = .ok (.aload_n 0, 1) := dk_42 (dk_at dksX16_init_29 10 rfl rfl)
theorem dX16_init_675 : decode cX16_init 675 = .ok (.new 1, 3) := dk_187 0 1 (dk_at dksX16_init_29 11 rfl rfl)
theorem dX16_init_678 : decode cX16_init 678 = .ok (.dup, 1) := dk_89 (dk_at dksX16_init_29 14 rfl rfl)
theorem dX16_init_679 : decode cX16_init 679 = .ok (.sipush 260, 3) := dk_17 1 4 (dk_at dksX16_init_29 15 rfl rfl)
theorem dX16_init_682 : decode cX16_init 682 = .ok (.invokespecial 3, 3) := dk_183 0 3 (dk_at dksX16_init_29 18 rfl rfl)
theorem dX16_init_685 : decode cX16_init 685 = .ok (.putfield 364, 3) := dk_181 1 108 (dk_at dksX16_init_29 21 rfl rfl)
theorem dX16_init_688 : decode cX16_init 688 = .ok (.aload_n 0, 1) := dk_42 (dk_at dksX16_init_30 0 rfl rfl)
theorem dX16_init_689 : decode cX16_init 689 = .ok (.new 1, 3) := dk_187 0 1 (dk_at dksX16_init_30 1 rfl rfl)
theorem dX16_init_692 : decode cX16_init 692 = .ok (.dup, 1) := dk_89 (dk_at dksX16_init_30 4 rfl rfl)
theorem dX16_init_693 : decode cX16_init 693 = .ok (.sipush 260, 3) := dk_17 1 4 (dk_at dksX16_init_30 5 rfl rfl)
theorem dX16_init_696 : decode cX16_init 696 = .ok (.invokespecial 3, 3) := dk_183 0 3 (dk_at dksX16_init_30 8 rfl rfl)
theorem dX16_init_699 : decode cX16_init 699 = .ok (.putfield 367, 3) := dk_181 1 111 (dk_at dksX16_init_30 11 rfl rfl)
theorem dX16_init_702 : decode cX16_init 702 = .ok (.aload_n 0, 1) := dk_42 (dk_at dksX16_init_30 14 rfl rfl)
theorem dX16_init_703 : decode cX16_init 703 = .ok (.bipush 9, 2) := dk_16 9 (dk_at dksX16_init_30 15 rfl rfl)
theorem dX16_init_705 : decode cX16_init 705 = .ok (.newarray .long, 2) := dk_188_11 (dk_at dksX16_init_30 17 rfl rfl)
theorem dX16_init_707 : decode cX16_init 707 = .ok (.putfield 370, 3) := dk_181 1 114 (dk_at dksX16_init_30 19 rfl rfl)
theorem dX16_init_710 : decode cX16_init 710 = .ok (.aload_n 0, 1) := dk_42 (dk_at dksX16_init_30 22 rfl rfl)
theorem dX16_init_711 : decode cX16_init 711 = .ok (.sipush 400, 3) := dk_17 1 144 (dk_at dksX16_init_31 0 rfl rfl)
theorem dX16_init_714 : decode cX16_init 714 = .ok (.bipush 20, 2) := dk_16 20 (dk_at dksX16_init_31 3 rfl rfl)
theorem dX16_init_716 : decode cX16_init 716 = .ok (.invokestatic 202, 3) := dk_184 0 202 (dk_at dksX16_init_31 5 rfl rfl)
theorem dX16_init_719 : decode cX16_init 719 = .ok (.putfield 372, 3) := dk_181 1 116 (dk_at dksX16_init_31 8 rfl rfl)
theorem dX16_init_722 : decode cX16_init 722 = .ok (.aload_n 0, 1) := dk_42 (dk_at dksX16_init_31 11 rfl rfl)
theorem dX16_init_723 : decode cX16_init 723 = .ok (.sipush 400, 3) := dk_17 1 144 (dk_at dksX16_init_31 12 rfl rfl)
theorem dX16_init_726 : decode cX16_init 726 = .ok (.newarray .int, 2) := dk_188_10 (dk_at dksX16_init_31 15 rfl rfl)
theorem dX16_init_728 : decode cX16_init 728 = .ok (.putfield 375, 3) := dk_181 1 119 (dk_at dksX16_init_31 17 rfl rfl)
theorem dX16_init_731 : decode cX16_init 731 = .ok (.aload_n 0, 1) := dk_42 (dk_at dksX16_init_31 20 rfl rfl)
theorem dX16_init_732 : decode cX16_init 732 = .ok (.iconst 3, 1) := dk_6 (dk_at dksX16_init_31 21 rfl rfl)
theorem dX16_init_733 : decode cX16_init 733 = .ok (.sipush 130, 3) := dk_17 0 130 (dk_at dksX16_init_32 0 rfl rfl)
theorem dX16_init_736 : decode cX16_init 736 = .ok (.invokestatic 202, 3) := dk_184 0 202 (dk_at dksX16_init_32 3 rfl rfl)
theorem dX16_init_739 : decode cX16_init 739 = .ok (.putfield 378, 3) := dk_181 1 122 (dk_at dksX16_init_32 6 rfl rfl)
theorem dX16_init_742 : decode cX16_init 742 = .ok (.aload_n 0, 1) := dk_42 (dk_at dksX16_init_32 9 rfl rfl)
theorem dX16_init_743 : decode cX16_init 743 = .ok (.new 1, 3) := dk_187 0 1 (dk_at dksX16_init_32 10 rfl rfl)
theorem dX16_init_746 : decode cX16_init 746 = .ok (.dup, 1) := dk_89 (dk_at dksX16_init_32 13 rfl rfl)
theorem dX16_init_747 : decode cX16_init 747 = .ok (.sipush 130, 3) := dk_17 0 130 (dk_at dksX16_init_32 14 rfl rfl)
theorem dX16_init_750 : decode cX16_init 750 = .ok (.invokespecial 3, 3) := dk_183 0 3 (dk_at dksX16_init_32 17 rfl rfl)
theorem dX16_init_753 : decode cX16_init 753 = .ok (.putfield 381, 3) := dk_181 1 125 (dk_at dksX16_init_32 20 rfl rfl)
theorem dX16_init_756 : decode cX16_init 756 = .ok (.aload_n 0, 1) := dk_42 (dk_at dksX16_init_32 23 rfl rfl)
theorem dX16_init_757 : decode cX16_init 757 = .ok (.new 1, 3) := dk_187 0 1 (dk_at dksX16_init_33 0 rfl rfl)
theorem dX16_init_760 : decode cX16_init 760 = .ok (.dup, 1) := dk_89 (dk_at dksX16_init_33 3 rfl rfl)
theorem dX16_init_761 : decode cX16_init 761 = .ok (.sipush 130, 3) := dk_17 0 130 (dk_at dksX16_init_33 4 rfl rfl)
theorem dX16_init_764 : decode cX16_init 764 = .ok (.invokespecial 3, 3) := dk_183 0 3 (dk_at dksX16_init_33 7 rfl rfl)
theorem dX16_init_767 : decode cX16_init 767 = .ok (.putfield 384, 3) := dk_181 1 128 (dk_at dksX16_init_33 10 rfl rfl)
theorem dX16_init_770 : decode cX16_init 770 = .ok (.aload_n 0, 1) := dk_42 (dk_at dksX16_init_33 13 rfl rfl)
theorem dX16_init_771 : decode cX16_init 771 = .ok (.bipush 18, 2) := dk_16 18 (dk_at dksX16_init_33 14 rfl rfl)
theorem dX16_init_773 : decode cX16_init 773 = .ok (.iconst 4, 1) := dk_7 (dk_at dksX16_init_33 16 rfl rfl)
theorem dX16_init_774 : decode cX16_init 774 = .ok (.invokestatic 202, 3) := dk_184 0 202 (dk_at dksX16_init_33 17 rfl rfl)
theorem dX16_init_777 : decode cX16_init 777 = .ok (.putfield 387, 3) := dk_181 1 131 (dk_at dksX16_init_33 20 rfl rfl)
theorem dX16_init_780 : decode cX16_init 780 = .ok (.aload_n 0, 1) := dk_42 (dk_at dksX16_init_33 23 rfl rfl)
theorem dX16_init_781 : decode cX16_init 781 = .ok (.bipush 18, 2) := dk_16 18 (dk_at dksX16_init_34 0 rfl rfl)
theorem dX16_init_783 : decode cX16_init 783 = .ok (.iconst 4, 1) := dk_7 (dk_at dksX16_init_34 2 rfl rfl)
theorem dX16_init_784 : decode cX16_init 784 = .ok (.invokestatic 202, 3) := dk_184 0 202 (dk_at dksX16_init_34 3 rfl rfl)
theorem dX16_init_787 : decode cX16_init 787 = .ok (.putfield 390, 3) := dk_181 1 134 (dk_at dksX16_init_34 6 rfl rfl)
theorem dX16_init_790 : decode cX16_init 790 = .ok (.iconst 0, 1) := dk_3 (dk_at dksX16_init_34 9 rfl rfl)
theorem dX16_init_791 : decode cX16_init 791 = .ok (.istore_n 1, 1) := dk_60 (dk_at dksX16_init_34 10 rfl rfl)
theorem dX16_init_792 : decode cX16_init 792 = .ok (.iload_n 1, 1) := dk_27 (dk_at dksX16_init_34 11 rfl rfl)
theorem dX16_init_793 : decode cX16_init 793 = .ok (.bipush 16, 2) := dk_16 16 (dk_at dksX16_init_34 12 rfl rfl)
theorem dX16_init_795 : decode cX16_init 795 = .ok (.if_icmp .ge 22, 3) := dk_162 0 22 (dk_at dksX16_init_34 14 rfl rfl)
theorem dX16_init_798 : decode cX16_init 798 = .ok (.aload_n 0, 1) := dk_42 (dk_at dksX16_init_34 17 rfl rfl)
theorem dX16_init_799 : decode cX16_init 799 = .ok (.getfield 184, 3) := dk_180 0 184 (dk_at dksX16_init_34 18 rfl rfl)
theorem dX16_init_802 : decode cX16_init 802 = .ok (.iload_n 1, 1) := dk_27 (dk_at dksX16_init_34 21 rfl rfl)
theorem dX16_init_803 : decode cX16_init 803 = .ok (.new 163, 3) := dk_187 0 163 (dk_at dksX16_init_35 0 rfl rfl)
theorem dX16_init_806 : decode cX16_init 806 = .ok (.dup, 1) := dk_89 (dk_at dksX16_init_35 3 rfl rfl)
theorem dX16_init_807 : decode cX16_init 807 = .ok (.invokespecial 221, 3) := dk_183 0 221 (dk_at dksX16_init_35 4 rfl rfl)
theorem dX16_init_810 : decode cX16_init 810 = .ok (.aastore, 1) := dk_83 (dk_at dksX16_init_35 7 rfl rfl)
theorem dX16_init_811 : decode cX16_init 811 = .ok (.iinc 1 1, 3) := dk_132 1 1 (dk_at dksX16_init_35 8 rfl rfl)
theorem dX16_init_814 : decode cX16_init 814 = .ok (.goto (-22), 3) := dk_167 255 234 (dk_at dksX16_init_35 11 rfl rfl)
theorem dX16_init_817 : decode cX16_init 817 = .ok (.iconst 0, 1) := dk_3 (dk_at dksX16_init_35 14 rfl rfl)
theorem dX16_init_818 : decode cX16_init 818 = .ok (.istore_n 1, 1) := dk_60 (dk_at dksX16_init_35 15 rfl rfl)
theorem dX16_init_819 : decode cX16_init 819 = .ok (.iload_n 1, 1) := dk_27 (dk_at dksX16_init_35 16 rfl rfl)
theorem dX16_init_820 : decode cX16_init 820 = .ok (.bipush 6, 2) := dk_16 6 (dk_at dksX16_init_35 17 rfl rfl)
theorem dX16_init_822 : decode cX16_init 822 = .ok (.if_icmp .ge 35, 3) := dk_162 0 35 (dk_at dksX16_init_35 19 rfl rfl)
theorem dX16_init_825 : decode cX16_init 825 = .ok (.aload_n 0, 1) := dk_42 (dk_at dksX16_init_35 22 rfl rfl)
theorem dX16_init_826 : decode cX16_init 826 = .ok (.getfield 215, 3) := dk_180 0 215 (dk_at dksX16_init_36 0 rfl rfl)
theorem dX16_init_829 : decode cX16_init 829 = .ok (.iload_n 1, 1) := dk_27 (dk_at dksX16_init_36 3 rfl rfl)
theorem dX16_init_830 : decode cX16_init 830 = .ok (.new 163, 3) := dk_187 0 163 (dk_at dksX16_init_36 4 rfl rfl)
theorem dX16_init_833 : decode cX16_init 833 = .ok (.dup, 1) := dk_89 (dk_at dksX16_init_36 7 rfl rfl)
theorem dX16_init_834 : decode cX16_init 834 = .ok (.invokespecial 221, 3) := dk_183 0 221 (dk_at dksX16_init_36 8 rfl rfl)
theorem dX16_init_837 : decode cX16_init 837 = .ok (.aastore, 1) := dk_83 (dk_at dksX16_init_36 11 rfl rfl)
theorem dX16_init_838 : decode cX16_init 838 = .ok (.aload_n 0, 1) := dk_42 (dk_at dksX16_init_36 12 rfl rfl)
theorem dX16_init_839 : decode cX16_init 839 = .ok (.getfield 218, 3) := dk_180 0 218 (dk_at dksX16_init_36 13 rfl rfl)
theorem dX16_init_842 : decode cX16_init 842 = .ok (.iload_n 1, 1) := dk_27 (dk_at dksX16_init_36 16 rfl rfl)
theorem dX16_init_843 : decode cX16_init 843 = .ok (.new 163, 3) := dk_187 0 163 (dk_at dksX16_init_36 17 rfl rfl)
theorem dX16_init_846 : decode cX16_init 846 = .ok (.dup, 1) := dk_89 (dk_at dksX16_init_36 20 rfl rfl)
theorem dX16_init_847 : decode cX16_init 847 = .ok (.invokespecial 221, 3) := dk_183 0 221 (dk_at dksX16_init_36 21 rfl rfl)
theorem dX16_init_850 : decode cX16_init 850 = .ok (.aastore, 1) := dk_83 (dk_at dksX16_init_37 0 rfl rfl)
theorem dX16_init_851 : decode cX16_init 851 = .ok (.iinc 1 1, 3) := dk_132 1 1 (dk_at dksX16_init_37 1 rfl rfl)
theorem dX16_init_854 : decode cX16_init 854 = .ok (.goto (-35), 3) := dk_167 255 221 (dk_at dksX16_init_37 4 rfl rfl)
theorem dX16_init_857 : decode cX16_init 857 = .ok (.iconst 0, 1) := dk_3 (dk_at dksX16_init_37 7 rfl rfl)
theorem dX16_init_858 : decode cX16_init 858 = .ok (.istore_n 1, 1) := dk_60 (dk_at dksX16_init_37 8 rfl rfl)
theorem dX16_init_859 : decode cX16_init 859 = .ok (.iload_n 1, 1) := dk_27 (dk_at dksX16_init_37 9 rfl rfl)
theorem dX16_init_860 : decode cX16_init 860 = .ok (.bipush 35, 2) := dk_16 35 (dk_at dksX16_init_37 10 rfl rfl)
theorem dX16_init_862 : decode cX16_init 862 = .ok (.if_icmp .ge 22, 3) := dk_162 0 22 (dk_at dksX16_init_37 12 rfl rfl)
theorem dX16_init_865 : decode cX16_init 865 = .ok (.aload_n 0, 1) := dk_42 (dk_at dksX16_init_37 15 rfl rfl)
theorem dX16_init_866 : decode cX16_init 866 = .ok (.getfield 302, 3) := dk_180 1 46 (dk_at dksX16_init_37 16 rfl rfl)
theorem dX16_init_869 : decode cX16_init 869 = .ok (.iload_n 1, 1) := dk_27 (dk_at dksX16_init_37 19 rfl rfl)
theorem dX16_init_870 : decode cX16_init 870 = .ok (.new 163, 3) := dk_187 0 163 (dk_at dksX16_init_37 20 rfl rfl)
theorem dX16_init_873 : decode cX16_init 873 = .ok (.dup, 1) := dk_89 (dk_at dksX16_init_37 23 rfl rfl)
theorem dX16_init_874 : decode cX16_init 874 = .ok (.invokespecial 221, 3) := dk_183 0 221 (dk_at dksX16_init_38 0 rfl rfl)
theorem dX16_init_877 : decode cX16_init 877 = .ok (.aastore, 1) := dk_83 (dk_at dksX16_init_38 3 rfl rfl)
theorem dX16_init_878 : decode cX16_init 878 = .ok (.iinc 1 1, 3) := dk_132 1 1 (dk_at dksX16_init_38 4 rfl rfl)
theorem dX16_init_881 : decode cX16_init 881 = .ok (.goto (-22), 3) := dk_167 255 234 (dk_at dksX16_init_38 7 rfl rfl)
theorem dX16_init_884 : decode cX16_init 884 = .ok (.return_, 1) := dk_177 (dk_at dksX16_init_38 10 rfl rfl)
abbrev cX16_nums : ByteArray := prog_21_method_1_code
def yX16_nums : MethodName := ⟨RX16, "nums", "(II)[LIdealCourtModel$Num;"⟩
def dkwX16_nums_1 : List UInt8 := [132, 3, 1, 167, 255, 237, 44, 176]
abbrev dktX16_nums_1 : List UInt8 := dkwX16_nums_1 ++ []
def dkwX16_nums_0 : List UInt8 := [26, 189, 0, 1, 77, 3, 62, 29, 26, 162, 0, 20, 44, 29, 187, 0, 1, 89, 27, 183, 0, 3, 83]
abbrev dktX16_nums_0 : List UInt8 := dkwX16_nums_0 ++ dktX16_nums_1
theorem dksX16_nums_0 : cX16_nums.data.toList.drop 0 = dktX16_nums_0 := by decide +kernel
theorem dksX16_nums_1 : cX16_nums.data.toList.drop 23 = dktX16_nums_1 := dk_seg dksX16_nums_0 23 rfl rfl
theorem dX16_nums_0 : decode cX16_nums 0 = .ok (.iload_n 0, 1) := dk_26 (dk_at dksX16_nums_0 0 rfl rfl)
theorem dX16_nums_1 : decode cX16_nums 1 = .ok (.anewarray 1, 3) := dk_189 0 1 (dk_at dksX16_nums_0 1 rfl rfl)
theorem dX16_nums_4 : decode cX16_nums 4 = .ok (.astore_n 2, 1) := dk_77 (dk_at dksX16_nums_0 4 rfl rfl)
theorem dX16_nums_5 : decode cX16_nums 5 = .ok (.iconst 0, 1) := dk_3 (dk_at dksX16_nums_0 5 rfl rfl)
theorem dX16_nums_6 : decode cX16_nums 6 = .ok (.istore_n 3, 1) := dk_62 (dk_at dksX16_nums_0 6 rfl rfl)
theorem dX16_nums_7 : decode cX16_nums 7 = .ok (.iload_n 3, 1) := dk_29 (dk_at dksX16_nums_0 7 rfl rfl)
theorem dX16_nums_8 : decode cX16_nums 8 = .ok (.iload_n 0, 1) := dk_26 (dk_at dksX16_nums_0 8 rfl rfl)
theorem dX16_nums_9 : decode cX16_nums 9 = .ok (.if_icmp .ge 20, 3) := dk_162 0 20 (dk_at dksX16_nums_0 9 rfl rfl)
theorem dX16_nums_12 : decode cX16_nums 12 = .ok (.aload_n 2, 1) := dk_44 (dk_at dksX16_nums_0 12 rfl rfl)
theorem dX16_nums_13 : decode cX16_nums 13 = .ok (.iload_n 3, 1) := dk_29 (dk_at dksX16_nums_0 13 rfl rfl)
theorem dX16_nums_14 : decode cX16_nums 14 = .ok (.new 1, 3) := dk_187 0 1 (dk_at dksX16_nums_0 14 rfl rfl)
theorem dX16_nums_17 : decode cX16_nums 17 = .ok (.dup, 1) := dk_89 (dk_at dksX16_nums_0 17 rfl rfl)
theorem dX16_nums_18 : decode cX16_nums 18 = .ok (.iload_n 1, 1) := dk_27 (dk_at dksX16_nums_0 18 rfl rfl)
theorem dX16_nums_19 : decode cX16_nums 19 = .ok (.invokespecial 3, 3) := dk_183 0 3 (dk_at dksX16_nums_0 19 rfl rfl)
theorem dX16_nums_22 : decode cX16_nums 22 = .ok (.aastore, 1) := dk_83 (dk_at dksX16_nums_0 22 rfl rfl)
theorem dX16_nums_23 : decode cX16_nums 23 = .ok (.iinc 3 1, 3) := dk_132 3 1 (dk_at dksX16_nums_1 0 rfl rfl)
theorem dX16_nums_26 : decode cX16_nums 26 = .ok (.goto (-19), 3) := dk_167 255 237 (dk_at dksX16_nums_1 3 rfl rfl)
theorem dX16_nums_29 : decode cX16_nums 29 = .ok (.aload_n 2, 1) := dk_44 (dk_at dksX16_nums_1 6 rfl rfl)
theorem dX16_nums_30 : decode cX16_nums 30 = .ok (.areturn, 1) := dk_176 (dk_at dksX16_nums_1 7 rfl rfl)
abbrev cX16_quotientParts : ByteArray := prog_21_method_49_code
def yX16_quotientParts : MethodName := ⟨RX16, "quotientParts", "()[LIdealCourtModel$Poly;"⟩
def dkwX16_quotientParts_1 : List UInt8 := [132, 1, 1, 167, 255, 237, 42, 176]
abbrev dktX16_quotientParts_1 : List UInt8 := dkwX16_quotientParts_1 ++ []
def dkwX16_quotientParts_0 : List UInt8 := [16, 6, 189, 0, 163, 75, 3, 60, 27, 16, 6, 162, 0, 19, 42, 27, 187, 0, 163, 89, 183, 0, 221, 83]
abbrev dktX16_quotientParts_0 : List UInt8 := dkwX16_quotientParts_0 ++ dktX16_quotientParts_1
theorem dksX16_quotientParts_0 : cX16_quotientParts.data.toList.drop 0 = dktX16_quotientParts_0 := by decide +kernel
theorem dksX16_quotientParts_1 : cX16_quotientParts.data.toList.drop 24 = dktX16_quotientParts_1 := dk_seg dksX16_quotientParts_0 24 rfl rfl
theorem dX16_quotientParts_0 : decode cX16_quotientParts 0 = .ok (.bipush 6, 2) := dk_16 6 (dk_at dksX16_quotientParts_0 0 rfl rfl)
theorem dX16_quotientParts_2 : decode cX16_quotientParts 2 = .ok (.anewarray 163, 3) := dk_189 0 163 (dk_at dksX16_quotientParts_0 2 rfl rfl)
theorem dX16_quotientParts_5 : decode cX16_quotientParts 5 = .ok (.astore_n 0, 1) := dk_75 (dk_at dksX16_quotientParts_0 5 rfl rfl)
theorem dX16_quotientParts_6 : decode cX16_quotientParts 6 = .ok (.iconst 0, 1) := dk_3 (dk_at dksX16_quotientParts_0 6 rfl rfl)
theorem dX16_quotientParts_7 : decode cX16_quotientParts 7 = .ok (.istore_n 1, 1) := dk_60 (dk_at dksX16_quotientParts_0 7 rfl rfl)
theorem dX16_quotientParts_8 : decode cX16_quotientParts 8 = .ok (.iload_n 1, 1) := dk_27 (dk_at dksX16_quotientParts_0 8 rfl rfl)
theorem dX16_quotientParts_9 : decode cX16_quotientParts 9 = .ok (.bipush 6, 2) := dk_16 6 (dk_at dksX16_quotientParts_0 9 rfl rfl)
theorem dX16_quotientParts_11 : decode cX16_quotientParts 11 = .ok (.if_icmp .ge 19, 3) := dk_162 0 19 (dk_at dksX16_quotientParts_0 11 rfl rfl)
theorem dX16_quotientParts_14 : decode cX16_quotientParts 14 = .ok (.aload_n 0, 1) := dk_42 (dk_at dksX16_quotientParts_0 14 rfl rfl)
theorem dX16_quotientParts_15 : decode cX16_quotientParts 15 = .ok (.iload_n 1, 1) := dk_27 (dk_at dksX16_quotientParts_0 15 rfl rfl)
theorem dX16_quotientParts_16 : decode cX16_quotientParts 16 = .ok (.new 163, 3) := dk_187 0 163 (dk_at dksX16_quotientParts_0 16 rfl rfl)
theorem dX16_quotientParts_19 : decode cX16_quotientParts 19 = .ok (.dup, 1) := dk_89 (dk_at dksX16_quotientParts_0 19 rfl rfl)
theorem dX16_quotientParts_20 : decode cX16_quotientParts 20 = .ok (.invokespecial 221, 3) := dk_183 0 221 (dk_at dksX16_quotientParts_0 20 rfl rfl)
theorem dX16_quotientParts_23 : decode cX16_quotientParts 23 = .ok (.aastore, 1) := dk_83 (dk_at dksX16_quotientParts_0 23 rfl rfl)
theorem dX16_quotientParts_24 : decode cX16_quotientParts 24 = .ok (.iinc 1 1, 3) := dk_132 1 1 (dk_at dksX16_quotientParts_1 0 rfl rfl)
theorem dX16_quotientParts_27 : decode cX16_quotientParts 27 = .ok (.goto (-19), 3) := dk_167 255 237 (dk_at dksX16_quotientParts_1 3 rfl rfl)
theorem dX16_quotientParts_30 : decode cX16_quotientParts 30 = .ok (.aload_n 0, 1) := dk_42 (dk_at dksX16_quotientParts_1 6 rfl rfl)
theorem dX16_quotientParts_31 : decode cX16_quotientParts 31 = .ok (.areturn, 1) := dk_176 (dk_at dksX16_quotientParts_1 7 rfl rfl)
abbrev cX16_rowsOf : ByteArray := prog_21_method_57_code
def yX16_rowsOf : MethodName := ⟨RX16, "rowsOf", "(I)[[LIdealCourtModel$Num;"⟩
def dkwX16_rowsOf_1 : List UInt8 := [132, 2, 1, 167, 255, 238, 43, 176]
abbrev dktX16_rowsOf_1 : List UInt8 := dkwX16_rowsOf_1 ++ []
def dkwX16_rowsOf_0 : List UInt8 := [26, 189, 2, 16, 76, 3, 61, 28, 26, 162, 0, 19, 43, 28, 16, 70, 16, 26, 184, 0, 202, 83]
abbrev dktX16_rowsOf_0 : List UInt8 := dkwX16_rowsOf_0 ++ dktX16_rowsOf_1
theorem dksX16_rowsOf_0 : cX16_rowsOf.data.toList.drop 0 = dktX16_rowsOf_0 := by decide +kernel
theorem dksX16_rowsOf_1 : cX16_rowsOf.data.toList.drop 22 = dktX16_rowsOf_1 := dk_seg dksX16_rowsOf_0 22 rfl rfl
theorem dX16_rowsOf_0 : decode cX16_rowsOf 0 = .ok (.iload_n 0, 1) := dk_26 (dk_at dksX16_rowsOf_0 0 rfl rfl)
theorem dX16_rowsOf_1 : decode cX16_rowsOf 1 = .ok (.anewarray 528, 3) := dk_189 2 16 (dk_at dksX16_rowsOf_0 1 rfl rfl)
theorem dX16_rowsOf_4 : decode cX16_rowsOf 4 = .ok (.astore_n 1, 1) := dk_76 (dk_at dksX16_rowsOf_0 4 rfl rfl)
theorem dX16_rowsOf_5 : decode cX16_rowsOf 5 = .ok (.iconst 0, 1) := dk_3 (dk_at dksX16_rowsOf_0 5 rfl rfl)
theorem dX16_rowsOf_6 : decode cX16_rowsOf 6 = .ok (.istore_n 2, 1) := dk_61 (dk_at dksX16_rowsOf_0 6 rfl rfl)
theorem dX16_rowsOf_7 : decode cX16_rowsOf 7 = .ok (.iload_n 2, 1) := dk_28 (dk_at dksX16_rowsOf_0 7 rfl rfl)
theorem dX16_rowsOf_8 : decode cX16_rowsOf 8 = .ok (.iload_n 0, 1) := dk_26 (dk_at dksX16_rowsOf_0 8 rfl rfl)
theorem dX16_rowsOf_9 : decode cX16_rowsOf 9 = .ok (.if_icmp .ge 19, 3) := dk_162 0 19 (dk_at dksX16_rowsOf_0 9 rfl rfl)
theorem dX16_rowsOf_12 : decode cX16_rowsOf 12 = .ok (.aload_n 1, 1) := dk_43 (dk_at dksX16_rowsOf_0 12 rfl rfl)
theorem dX16_rowsOf_13 : decode cX16_rowsOf 13 = .ok (.iload_n 2, 1) := dk_28 (dk_at dksX16_rowsOf_0 13 rfl rfl)
theorem dX16_rowsOf_14 : decode cX16_rowsOf 14 = .ok (.bipush 70, 2) := dk_16 70 (dk_at dksX16_rowsOf_0 14 rfl rfl)
theorem dX16_rowsOf_16 : decode cX16_rowsOf 16 = .ok (.bipush 26, 2) := dk_16 26 (dk_at dksX16_rowsOf_0 16 rfl rfl)
theorem dX16_rowsOf_18 : decode cX16_rowsOf 18 = .ok (.invokestatic 202, 3) := dk_184 0 202 (dk_at dksX16_rowsOf_0 18 rfl rfl)
theorem dX16_rowsOf_21 : decode cX16_rowsOf 21 = .ok (.aastore, 1) := dk_83 (dk_at dksX16_rowsOf_0 21 rfl rfl)
theorem dX16_rowsOf_22 : decode cX16_rowsOf 22 = .ok (.iinc 2 1, 3) := dk_132 2 1 (dk_at dksX16_rowsOf_1 0 rfl rfl)
theorem dX16_rowsOf_25 : decode cX16_rowsOf 25 = .ok (.goto (-18), 3) := dk_167 255 238 (dk_at dksX16_rowsOf_1 3 rfl rfl)
theorem dX16_rowsOf_28 : decode cX16_rowsOf 28 = .ok (.aload_n 1, 1) := dk_43 (dk_at dksX16_rowsOf_1 6 rfl rfl)
theorem dX16_rowsOf_29 : decode cX16_rowsOf 29 = .ok (.areturn, 1) := dk_176 (dk_at dksX16_rowsOf_1 7 rfl rfl)
abbrev cX16_chainOf : ByteArray := prog_21_method_75_code
def yX16_chainOf : MethodName := ⟨RX16, "chainOf", "()[[LIdealCourtModel$Num;"⟩
def dkwX16_chainOf_1 : List UInt8 := [83, 132, 1, 1, 167, 255, 236, 42, 176]
abbrev dktX16_chainOf_1 : List UInt8 := dkwX16_chainOf_1 ++ []
def dkwX16_chainOf_0 : List UInt8 := [16, 12, 189, 2, 16, 75, 3, 60, 27, 16, 12, 162, 0, 20, 42, 27, 16, 18, 17, 0, 130, 184, 0, 202]
abbrev dktX16_chainOf_0 : List UInt8 := dkwX16_chainOf_0 ++ dktX16_chainOf_1
theorem dksX16_chainOf_0 : cX16_chainOf.data.toList.drop 0 = dktX16_chainOf_0 := by decide +kernel
theorem dksX16_chainOf_1 : cX16_chainOf.data.toList.drop 24 = dktX16_chainOf_1 := dk_seg dksX16_chainOf_0 24 rfl rfl
theorem dX16_chainOf_0 : decode cX16_chainOf 0 = .ok (.bipush 12, 2) := dk_16 12 (dk_at dksX16_chainOf_0 0 rfl rfl)
theorem dX16_chainOf_2 : decode cX16_chainOf 2 = .ok (.anewarray 528, 3) := dk_189 2 16 (dk_at dksX16_chainOf_0 2 rfl rfl)
theorem dX16_chainOf_5 : decode cX16_chainOf 5 = .ok (.astore_n 0, 1) := dk_75 (dk_at dksX16_chainOf_0 5 rfl rfl)
theorem dX16_chainOf_6 : decode cX16_chainOf 6 = .ok (.iconst 0, 1) := dk_3 (dk_at dksX16_chainOf_0 6 rfl rfl)
theorem dX16_chainOf_7 : decode cX16_chainOf 7 = .ok (.istore_n 1, 1) := dk_60 (dk_at dksX16_chainOf_0 7 rfl rfl)
theorem dX16_chainOf_8 : decode cX16_chainOf 8 = .ok (.iload_n 1, 1) := dk_27 (dk_at dksX16_chainOf_0 8 rfl rfl)
theorem dX16_chainOf_9 : decode cX16_chainOf 9 = .ok (.bipush 12, 2) := dk_16 12 (dk_at dksX16_chainOf_0 9 rfl rfl)
theorem dX16_chainOf_11 : decode cX16_chainOf 11 = .ok (.if_icmp .ge 20, 3) := dk_162 0 20 (dk_at dksX16_chainOf_0 11 rfl rfl)
theorem dX16_chainOf_14 : decode cX16_chainOf 14 = .ok (.aload_n 0, 1) := dk_42 (dk_at dksX16_chainOf_0 14 rfl rfl)
theorem dX16_chainOf_15 : decode cX16_chainOf 15 = .ok (.iload_n 1, 1) := dk_27 (dk_at dksX16_chainOf_0 15 rfl rfl)
theorem dX16_chainOf_16 : decode cX16_chainOf 16 = .ok (.bipush 18, 2) := dk_16 18 (dk_at dksX16_chainOf_0 16 rfl rfl)
theorem dX16_chainOf_18 : decode cX16_chainOf 18 = .ok (.sipush 130, 3) := dk_17 0 130 (dk_at dksX16_chainOf_0 18 rfl rfl)
theorem dX16_chainOf_21 : decode cX16_chainOf 21 = .ok (.invokestatic 202, 3) := dk_184 0 202 (dk_at dksX16_chainOf_0 21 rfl rfl)
theorem dX16_chainOf_24 : decode cX16_chainOf 24 = .ok (.aastore, 1) := dk_83 (dk_at dksX16_chainOf_1 0 rfl rfl)
theorem dX16_chainOf_25 : decode cX16_chainOf 25 = .ok (.iinc 1 1, 3) := dk_132 1 1 (dk_at dksX16_chainOf_1 1 rfl rfl)
theorem dX16_chainOf_28 : decode cX16_chainOf 28 = .ok (.goto (-20), 3) := dk_167 255 236 (dk_at dksX16_chainOf_1 4 rfl rfl)
theorem dX16_chainOf_31 : decode cX16_chainOf 31 = .ok (.aload_n 0, 1) := dk_42 (dk_at dksX16_chainOf_1 7 rfl rfl)
theorem dX16_chainOf_32 : decode cX16_chainOf 32 = .ok (.areturn, 1) := dk_176 (dk_at dksX16_chainOf_1 8 rfl rfl)
abbrev cX16_order : ByteArray := prog_21_method_28_code
def yX16_order : MethodName := ⟨RX16, "order", "(III)I"⟩
def dkwX16_order_3 : List UInt8 := [27, 28, 6, 160, 0, 7, 29, 167, 0, 4, 3, 79, 3, 172]
abbrev dktX16_order_3 : List UInt8 := dkwX16_order_3 ++ []
def dkwX16_order_2 : List UInt8 := [16, 250, 182, 1, 151, 172, 42, 180, 0, 181, 27, 5, 79, 42, 180, 0, 188, 27, 28, 79, 42, 180, 0, 191]
abbrev dktX16_order_2 : List UInt8 := dkwX16_order_2 ++ dktX16_order_3
def dkwX16_order_1 : List UInt8 := [160, 0, 30, 29, 4, 159, 0, 25, 29, 5, 159, 0, 20, 42, 21, 4, 156, 0, 8, 21, 4, 167, 0, 5]
abbrev dktX16_order_1 : List UInt8 := dkwX16_order_1 ++ dktX16_order_2
def dkwX16_order_0 : List UInt8 := [42, 27, 182, 1, 161, 54, 4, 21, 4, 155, 0, 27, 28, 155, 0, 23, 28, 6, 163, 0, 18, 28, 6]
abbrev dktX16_order_0 : List UInt8 := dkwX16_order_0 ++ dktX16_order_1
theorem dksX16_order_0 : cX16_order.data.toList.drop 0 = dktX16_order_0 := by decide +kernel
theorem dksX16_order_1 : cX16_order.data.toList.drop 23 = dktX16_order_1 := dk_seg dksX16_order_0 23 rfl rfl
theorem dksX16_order_2 : cX16_order.data.toList.drop 47 = dktX16_order_2 := dk_seg dksX16_order_1 24 rfl rfl
theorem dksX16_order_3 : cX16_order.data.toList.drop 71 = dktX16_order_3 := dk_seg dksX16_order_2 24 rfl rfl
theorem dX16_order_0 : decode cX16_order 0 = .ok (.aload_n 0, 1) := dk_42 (dk_at dksX16_order_0 0 rfl rfl)
theorem dX16_order_1 : decode cX16_order 1 = .ok (.iload_n 1, 1) := dk_27 (dk_at dksX16_order_0 1 rfl rfl)
theorem dX16_order_2 : decode cX16_order 2 = .ok (.invokevirtual 417, 3) := dk_182 1 161 (dk_at dksX16_order_0 2 rfl rfl)
theorem dX16_order_5 : decode cX16_order 5 = .ok (.istore 4, 2) := dk_54 4 (dk_at dksX16_order_0 5 rfl rfl)
theorem dX16_order_7 : decode cX16_order 7 = .ok (.iload 4, 2) := dk_21 4 (dk_at dksX16_order_0 7 rfl rfl)
theorem dX16_order_9 : decode cX16_order 9 = .ok (.ifCond .lt 27, 3) := dk_155 0 27 (dk_at dksX16_order_0 9 rfl rfl)
theorem dX16_order_12 : decode cX16_order 12 = .ok (.iload_n 2, 1) := dk_28 (dk_at dksX16_order_0 12 rfl rfl)
theorem dX16_order_13 : decode cX16_order 13 = .ok (.ifCond .lt 23, 3) := dk_155 0 23 (dk_at dksX16_order_0 13 rfl rfl)
theorem dX16_order_16 : decode cX16_order 16 = .ok (.iload_n 2, 1) := dk_28 (dk_at dksX16_order_0 16 rfl rfl)
theorem dX16_order_17 : decode cX16_order 17 = .ok (.iconst 3, 1) := dk_6 (dk_at dksX16_order_0 17 rfl rfl)
theorem dX16_order_18 : decode cX16_order 18 = .ok (.if_icmp .gt 18, 3) := dk_163 0 18 (dk_at dksX16_order_0 18 rfl rfl)
theorem dX16_order_21 : decode cX16_order 21 = .ok (.iload_n 2, 1) := dk_28 (dk_at dksX16_order_0 21 rfl rfl)
theorem dX16_order_22 : decode cX16_order 22 = .ok (.iconst 3, 1) := dk_6 (dk_at dksX16_order_0 22 rfl rfl)
theorem dX16_order_23 : decode cX16_order 23 = .ok (.if_icmp .ne 30, 3) := dk_160 0 30 (dk_at dksX16_order_1 0 rfl rfl)
theorem dX16_order_26 : decode cX16_order 26 = .ok (.iload_n 3, 1) := dk_29 (dk_at dksX16_order_1 3 rfl rfl)
theorem dX16_order_27 : decode cX16_order 27 = .ok (.iconst 1, 1) := dk_4 (dk_at dksX16_order_1 4 rfl rfl)
theorem dX16_order_28 : decode cX16_order 28 = .ok (.if_icmp .eq 25, 3) := dk_159 0 25 (dk_at dksX16_order_1 5 rfl rfl)
theorem dX16_order_31 : decode cX16_order 31 = .ok (.iload_n 3, 1) := dk_29 (dk_at dksX16_order_1 8 rfl rfl)
theorem dX16_order_32 : decode cX16_order 32 = .ok (.iconst 2, 1) := dk_5 (dk_at dksX16_order_1 9 rfl rfl)
theorem dX16_order_33 : decode cX16_order 33 = .ok (.if_icmp .eq 20, 3) := dk_159 0 20 (dk_at dksX16_order_1 10 rfl rfl)
theorem dX16_order_36 : decode cX16_order 36 = .ok (.aload_n 0, 1) := dk_42 (dk_at dksX16_order_1 13 rfl rfl)
theorem dX16_order_37 : decode cX16_order 37 = .ok (.iload 4, 2) := dk_21 4 (dk_at dksX16_order_1 14 rfl rfl)
theorem dX16_order_39 : decode cX16_order 39 = .ok (.ifCond .ge 8, 3) := dk_156 0 8 (dk_at dksX16_order_1 16 rfl rfl)
theorem dX16_order_42 : decode cX16_order 42 = .ok (.iload 4, 2) := dk_21 4 (dk_at dksX16_order_1 19 rfl rfl)
theorem dX16_order_44 : decode cX16_order 44 = .ok (.goto 5, 3) := dk_167 0 5 (dk_at dksX16_order_1 21 rfl rfl)
theorem dX16_order_47 : decode cX16_order 47 = .ok (.bipush (-6), 2) := dk_16 250 (dk_at dksX16_order_2 0 rfl rfl)
theorem dX16_order_49 : decode cX16_order 49 = .ok (.invokevirtual 407, 3) := dk_182 1 151 (dk_at dksX16_order_2 2 rfl rfl)
theorem dX16_order_52 : decode cX16_order 52 = .ok (.ireturn, 1) := dk_172 (dk_at dksX16_order_2 5 rfl rfl)
theorem dX16_order_53 : decode cX16_order 53 = .ok (.aload_n 0, 1) := dk_42 (dk_at dksX16_order_2 6 rfl rfl)
theorem dX16_order_54 : decode cX16_order 54 = .ok (.getfield 181, 3) := dk_180 0 181 (dk_at dksX16_order_2 7 rfl rfl)
theorem dX16_order_57 : decode cX16_order 57 = .ok (.iload_n 1, 1) := dk_27 (dk_at dksX16_order_2 10 rfl rfl)
theorem dX16_order_58 : decode cX16_order 58 = .ok (.iconst 2, 1) := dk_5 (dk_at dksX16_order_2 11 rfl rfl)
theorem dX16_order_59 : decode cX16_order 59 = .ok (.iastore, 1) := dk_79 (dk_at dksX16_order_2 12 rfl rfl)
theorem dX16_order_60 : decode cX16_order 60 = .ok (.aload_n 0, 1) := dk_42 (dk_at dksX16_order_2 13 rfl rfl)
theorem dX16_order_61 : decode cX16_order 61 = .ok (.getfield 188, 3) := dk_180 0 188 (dk_at dksX16_order_2 14 rfl rfl)
theorem dX16_order_64 : decode cX16_order 64 = .ok (.iload_n 1, 1) := dk_27 (dk_at dksX16_order_2 17 rfl rfl)
theorem dX16_order_65 : decode cX16_order 65 = .ok (.iload_n 2, 1) := dk_28 (dk_at dksX16_order_2 18 rfl rfl)
theorem dX16_order_66 : decode cX16_order 66 = .ok (.iastore, 1) := dk_79 (dk_at dksX16_order_2 19 rfl rfl)
theorem dX16_order_67 : decode cX16_order 67 = .ok (.aload_n 0, 1) := dk_42 (dk_at dksX16_order_2 20 rfl rfl)
theorem dX16_order_68 : decode cX16_order 68 = .ok (.getfield 191, 3) := dk_180 0 191 (dk_at dksX16_order_2 21 rfl rfl)
theorem dX16_order_71 : decode cX16_order 71 = .ok (.iload_n 1, 1) := dk_27 (dk_at dksX16_order_3 0 rfl rfl)
theorem dX16_order_72 : decode cX16_order 72 = .ok (.iload_n 2, 1) := dk_28 (dk_at dksX16_order_3 1 rfl rfl)
theorem dX16_order_73 : decode cX16_order 73 = .ok (.iconst 3, 1) := dk_6 (dk_at dksX16_order_3 2 rfl rfl)
theorem dX16_order_74 : decode cX16_order 74 = .ok (.if_icmp .ne 7, 3) := dk_160 0 7 (dk_at dksX16_order_3 3 rfl rfl)
theorem dX16_order_77 : decode cX16_order 77 = .ok (.iload_n 3, 1) := dk_29 (dk_at dksX16_order_3 6 rfl rfl)
theorem dX16_order_78 : decode cX16_order 78 = .ok (.goto 4, 3) := dk_167 0 4 (dk_at dksX16_order_3 7 rfl rfl)
theorem dX16_order_81 : decode cX16_order 81 = .ok (.iconst 0, 1) := dk_3 (dk_at dksX16_order_3 10 rfl rfl)
theorem dX16_order_82 : decode cX16_order 82 = .ok (.iastore, 1) := dk_79 (dk_at dksX16_order_3 11 rfl rfl)
theorem dX16_order_83 : decode cX16_order 83 = .ok (.iconst 0, 1) := dk_3 (dk_at dksX16_order_3 12 rfl rfl)
theorem dX16_order_84 : decode cX16_order 84 = .ok (.ireturn, 1) := dk_172 (dk_at dksX16_order_3 13 rfl rfl)
abbrev cX16_goal : ByteArray := prog_21_method_23_code
def yX16_goal : MethodName := ⟨RX16, "goal", "(I)I"⟩
def dkwX16_goal_0 : List UInt8 := [27, 184, 1, 140, 153, 0, 7, 3, 167, 0, 4, 2, 172]
abbrev dktX16_goal_0 : List UInt8 := dkwX16_goal_0 ++ []
theorem dksX16_goal_0 : cX16_goal.data.toList.drop 0 = dktX16_goal_0 := by decide +kernel
theorem dX16_goal_0 : decode cX16_goal 0 = .ok (.iload_n 1, 1) := dk_27 (dk_at dksX16_goal_0 0 rfl rfl)
theorem dX16_goal_1 : decode cX16_goal 1 = .ok (.invokestatic 396, 3) := dk_184 1 140 (dk_at dksX16_goal_0 1 rfl rfl)
theorem dX16_goal_4 : decode cX16_goal 4 = .ok (.ifCond .eq 7, 3) := dk_153 0 7 (dk_at dksX16_goal_0 4 rfl rfl)
theorem dX16_goal_7 : decode cX16_goal 7 = .ok (.iconst 0, 1) := dk_3 (dk_at dksX16_goal_0 7 rfl rfl)
theorem dX16_goal_8 : decode cX16_goal 8 = .ok (.goto 4, 3) := dk_167 0 4 (dk_at dksX16_goal_0 8 rfl rfl)
theorem dX16_goal_11 : decode cX16_goal 11 = .ok (.iconst (-1), 1) := dk_2 (dk_at dksX16_goal_0 11 rfl rfl)
theorem dX16_goal_12 : decode cX16_goal 12 = .ok (.ireturn, 1) := dk_172 (dk_at dksX16_goal_0 12 rfl rfl)
abbrev cX16_isPlace : ByteArray := prog_21_method_21_code
def yX16_isPlace : MethodName := ⟨RX16, "isPlace", "(I)Z"⟩
def dkwX16_isPlace_0 : List UInt8 := [26, 155, 0, 13, 26, 16, 16, 162, 0, 7, 4, 167, 0, 4, 3, 172]
abbrev dktX16_isPlace_0 : List UInt8 := dkwX16_isPlace_0 ++ []
theorem dksX16_isPlace_0 : cX16_isPlace.data.toList.drop 0 = dktX16_isPlace_0 := by decide +kernel
theorem dX16_isPlace_0 : decode cX16_isPlace 0 = .ok (.iload_n 0, 1) := dk_26 (dk_at dksX16_isPlace_0 0 rfl rfl)
theorem dX16_isPlace_1 : decode cX16_isPlace 1 = .ok (.ifCond .lt 13, 3) := dk_155 0 13 (dk_at dksX16_isPlace_0 1 rfl rfl)
theorem dX16_isPlace_4 : decode cX16_isPlace 4 = .ok (.iload_n 0, 1) := dk_26 (dk_at dksX16_isPlace_0 4 rfl rfl)
theorem dX16_isPlace_5 : decode cX16_isPlace 5 = .ok (.bipush 16, 2) := dk_16 16 (dk_at dksX16_isPlace_0 5 rfl rfl)
theorem dX16_isPlace_7 : decode cX16_isPlace 7 = .ok (.if_icmp .ge 7, 3) := dk_162 0 7 (dk_at dksX16_isPlace_0 7 rfl rfl)
theorem dX16_isPlace_10 : decode cX16_isPlace 10 = .ok (.iconst 1, 1) := dk_4 (dk_at dksX16_isPlace_0 10 rfl rfl)
theorem dX16_isPlace_11 : decode cX16_isPlace 11 = .ok (.goto 4, 3) := dk_167 0 4 (dk_at dksX16_isPlace_0 11 rfl rfl)
theorem dX16_isPlace_14 : decode cX16_isPlace 14 = .ok (.iconst 0, 1) := dk_3 (dk_at dksX16_isPlace_0 14 rfl rfl)
theorem dX16_isPlace_15 : decode cX16_isPlace 15 = .ok (.ireturn, 1) := dk_172 (dk_at dksX16_isPlace_0 15 rfl rfl)
abbrev cX16_answer : ByteArray := prog_21_method_20_code
def yX16_answer : MethodName := ⟨RX16, "answer", "(I)I"⟩
def dkwX16_answer_0 : List UInt8 := [27, 156, 0, 19, 42, 27, 181, 1, 137, 42, 180, 0, 212, 27, 116, 92, 46, 4, 96, 79, 27, 172]
abbrev dktX16_answer_0 : List UInt8 := dkwX16_answer_0 ++ []
theorem dksX16_answer_0 : cX16_answer.data.toList.drop 0 = dktX16_answer_0 := by decide +kernel
theorem dX16_answer_0 : decode cX16_answer 0 = .ok (.iload_n 1, 1) := dk_27 (dk_at dksX16_answer_0 0 rfl rfl)
theorem dX16_answer_1 : decode cX16_answer 1 = .ok (.ifCond .ge 19, 3) := dk_156 0 19 (dk_at dksX16_answer_0 1 rfl rfl)
theorem dX16_answer_4 : decode cX16_answer 4 = .ok (.aload_n 0, 1) := dk_42 (dk_at dksX16_answer_0 4 rfl rfl)
theorem dX16_answer_5 : decode cX16_answer 5 = .ok (.iload_n 1, 1) := dk_27 (dk_at dksX16_answer_0 5 rfl rfl)
theorem dX16_answer_6 : decode cX16_answer 6 = .ok (.putfield 393, 3) := dk_181 1 137 (dk_at dksX16_answer_0 6 rfl rfl)
theorem dX16_answer_9 : decode cX16_answer 9 = .ok (.aload_n 0, 1) := dk_42 (dk_at dksX16_answer_0 9 rfl rfl)
theorem dX16_answer_10 : decode cX16_answer 10 = .ok (.getfield 212, 3) := dk_180 0 212 (dk_at dksX16_answer_0 10 rfl rfl)
theorem dX16_answer_13 : decode cX16_answer 13 = .ok (.iload_n 1, 1) := dk_27 (dk_at dksX16_answer_0 13 rfl rfl)
theorem dX16_answer_14 : decode cX16_answer 14 = .ok (.ineg, 1) := dk_116 (dk_at dksX16_answer_0 14 rfl rfl)
theorem dX16_answer_15 : decode cX16_answer 15 = .ok (.dup2, 1) := dk_92 (dk_at dksX16_answer_0 15 rfl rfl)
theorem dX16_answer_16 : decode cX16_answer 16 = .ok (.iaload, 1) := dk_46 (dk_at dksX16_answer_0 16 rfl rfl)
theorem dX16_answer_17 : decode cX16_answer 17 = .ok (.iconst 1, 1) := dk_4 (dk_at dksX16_answer_0 17 rfl rfl)
theorem dX16_answer_18 : decode cX16_answer 18 = .ok (.iadd, 1) := dk_96 (dk_at dksX16_answer_0 18 rfl rfl)
theorem dX16_answer_19 : decode cX16_answer 19 = .ok (.iastore, 1) := dk_79 (dk_at dksX16_answer_0 19 rfl rfl)
theorem dX16_answer_20 : decode cX16_answer 20 = .ok (.iload_n 1, 1) := dk_27 (dk_at dksX16_answer_0 20 rfl rfl)
theorem dX16_answer_21 : decode cX16_answer 21 = .ok (.ireturn, 1) := dk_172 (dk_at dksX16_answer_0 21 rfl rfl)
abbrev cX16_zero : ByteArray := prog_21_method_29_code
def yX16_zero : MethodName := ⟨RX16, "zero", "(I)I"⟩
def dkwX16_zero_1 : List UInt8 := [42, 180, 0, 226, 182, 1, 157, 172]
abbrev dktX16_zero_1 : List UInt8 := dkwX16_zero_1 ++ []
def dkwX16_zero_0 : List UInt8 := [42, 27, 182, 1, 161, 156, 0, 9, 42, 2, 182, 1, 151, 172, 42, 180, 0, 226, 3, 181, 0, 162, 42, 27]
abbrev dktX16_zero_0 : List UInt8 := dkwX16_zero_0 ++ dktX16_zero_1
theorem dksX16_zero_0 : cX16_zero.data.toList.drop 0 = dktX16_zero_0 := by decide +kernel
theorem dksX16_zero_1 : cX16_zero.data.toList.drop 24 = dktX16_zero_1 := dk_seg dksX16_zero_0 24 rfl rfl
theorem dX16_zero_0 : decode cX16_zero 0 = .ok (.aload_n 0, 1) := dk_42 (dk_at dksX16_zero_0 0 rfl rfl)
theorem dX16_zero_1 : decode cX16_zero 1 = .ok (.iload_n 1, 1) := dk_27 (dk_at dksX16_zero_0 1 rfl rfl)
theorem dX16_zero_2 : decode cX16_zero 2 = .ok (.invokevirtual 417, 3) := dk_182 1 161 (dk_at dksX16_zero_0 2 rfl rfl)
theorem dX16_zero_5 : decode cX16_zero 5 = .ok (.ifCond .ge 9, 3) := dk_156 0 9 (dk_at dksX16_zero_0 5 rfl rfl)
theorem dX16_zero_8 : decode cX16_zero 8 = .ok (.aload_n 0, 1) := dk_42 (dk_at dksX16_zero_0 8 rfl rfl)
theorem dX16_zero_9 : decode cX16_zero 9 = .ok (.iconst (-1), 1) := dk_2 (dk_at dksX16_zero_0 9 rfl rfl)
theorem dX16_zero_10 : decode cX16_zero 10 = .ok (.invokevirtual 407, 3) := dk_182 1 151 (dk_at dksX16_zero_0 10 rfl rfl)
theorem dX16_zero_13 : decode cX16_zero 13 = .ok (.ireturn, 1) := dk_172 (dk_at dksX16_zero_0 13 rfl rfl)
theorem dX16_zero_14 : decode cX16_zero 14 = .ok (.aload_n 0, 1) := dk_42 (dk_at dksX16_zero_0 14 rfl rfl)
theorem dX16_zero_15 : decode cX16_zero 15 = .ok (.getfield 226, 3) := dk_180 0 226 (dk_at dksX16_zero_0 15 rfl rfl)
theorem dX16_zero_18 : decode cX16_zero 18 = .ok (.iconst 0, 1) := dk_3 (dk_at dksX16_zero_0 18 rfl rfl)
theorem dX16_zero_19 : decode cX16_zero 19 = .ok (.putfield 162, 3) := dk_181 0 162 (dk_at dksX16_zero_0 19 rfl rfl)
theorem dX16_zero_22 : decode cX16_zero 22 = .ok (.aload_n 0, 1) := dk_42 (dk_at dksX16_zero_0 22 rfl rfl)
theorem dX16_zero_23 : decode cX16_zero 23 = .ok (.iload_n 1, 1) := dk_27 (dk_at dksX16_zero_0 23 rfl rfl)
theorem dX16_zero_24 : decode cX16_zero 24 = .ok (.aload_n 0, 1) := dk_42 (dk_at dksX16_zero_1 0 rfl rfl)
theorem dX16_zero_25 : decode cX16_zero 25 = .ok (.getfield 226, 3) := dk_180 0 226 (dk_at dksX16_zero_1 1 rfl rfl)
theorem dX16_zero_28 : decode cX16_zero 28 = .ok (.invokevirtual 413, 3) := dk_182 1 157 (dk_at dksX16_zero_1 4 rfl rfl)
theorem dX16_zero_31 : decode cX16_zero 31 = .ok (.ireturn, 1) := dk_172 (dk_at dksX16_zero_1 7 rfl rfl)
abbrev cX16_stand : ByteArray := prog_21_method_26_code
def yX16_stand : MethodName := ⟨RX16, "stand", "(ILIdealCourtModel$Poly;)I"⟩
def dkwX16_stand_0 : List UInt8 := [42, 180, 0, 184, 27, 50, 44, 182, 1, 144, 42, 180, 0, 181, 27, 4, 79, 44, 180, 0, 162, 172]
abbrev dktX16_stand_0 : List UInt8 := dkwX16_stand_0 ++ []
theorem dksX16_stand_0 : cX16_stand.data.toList.drop 0 = dktX16_stand_0 := by decide +kernel
theorem dX16_stand_0 : decode cX16_stand 0 = .ok (.aload_n 0, 1) := dk_42 (dk_at dksX16_stand_0 0 rfl rfl)
theorem dX16_stand_1 : decode cX16_stand 1 = .ok (.getfield 184, 3) := dk_180 0 184 (dk_at dksX16_stand_0 1 rfl rfl)
theorem dX16_stand_4 : decode cX16_stand 4 = .ok (.iload_n 1, 1) := dk_27 (dk_at dksX16_stand_0 4 rfl rfl)
theorem dX16_stand_5 : decode cX16_stand 5 = .ok (.aaload, 1) := dk_50 (dk_at dksX16_stand_0 5 rfl rfl)
theorem dX16_stand_6 : decode cX16_stand 6 = .ok (.aload_n 2, 1) := dk_44 (dk_at dksX16_stand_0 6 rfl rfl)
theorem dX16_stand_7 : decode cX16_stand 7 = .ok (.invokevirtual 400, 3) := dk_182 1 144 (dk_at dksX16_stand_0 7 rfl rfl)
theorem dX16_stand_10 : decode cX16_stand 10 = .ok (.aload_n 0, 1) := dk_42 (dk_at dksX16_stand_0 10 rfl rfl)
theorem dX16_stand_11 : decode cX16_stand 11 = .ok (.getfield 181, 3) := dk_180 0 181 (dk_at dksX16_stand_0 11 rfl rfl)
theorem dX16_stand_14 : decode cX16_stand 14 = .ok (.iload_n 1, 1) := dk_27 (dk_at dksX16_stand_0 14 rfl rfl)
theorem dX16_stand_15 : decode cX16_stand 15 = .ok (.iconst 1, 1) := dk_4 (dk_at dksX16_stand_0 15 rfl rfl)
theorem dX16_stand_16 : decode cX16_stand 16 = .ok (.iastore, 1) := dk_79 (dk_at dksX16_stand_0 16 rfl rfl)
theorem dX16_stand_17 : decode cX16_stand 17 = .ok (.aload_n 2, 1) := dk_44 (dk_at dksX16_stand_0 17 rfl rfl)
theorem dX16_stand_18 : decode cX16_stand 18 = .ok (.getfield 162, 3) := dk_180 0 162 (dk_at dksX16_stand_0 18 rfl rfl)
theorem dX16_stand_21 : decode cX16_stand 21 = .ok (.ireturn, 1) := dk_172 (dk_at dksX16_stand_0 21 rfl rfl)
abbrev cX16_term : ByteArray := prog_21_method_30_code
def yX16_term : MethodName := ⟨RX16, "term", "(IIII)I"⟩
def dkwX16_term_6 : List UInt8 := [153, 0, 7, 4, 167, 0, 4, 3, 54, 6, 42, 27, 21, 6, 182, 1, 174, 172]
abbrev dktX16_term_6 : List UInt8 := dkwX16_term_6 ++ []
def dkwX16_term_5 : List UInt8 := [153, 0, 29, 42, 42, 180, 0, 230, 21, 4, 42, 180, 0, 246, 42, 180, 0, 249, 4, 182, 0, 172]
abbrev dktX16_term_5 : List UInt8 := dkwX16_term_5 ++ dktX16_term_6
def dkwX16_term_4 : List UInt8 := [42, 180, 0, 249, 29, 133, 182, 0, 83, 42, 42, 180, 0, 246, 42, 180, 0, 249, 182, 0, 115, 21, 6]
abbrev dktX16_term_4 : List UInt8 := dkwX16_term_4 ++ dktX16_term_5
def dkwX16_term_3 : List UInt8 := [180, 0, 230, 42, 180, 0, 184, 27, 50, 4, 182, 1, 170, 54, 6, 42, 180, 0, 246, 28, 133, 182, 0, 83]
abbrev dktX16_term_3 : List UInt8 := dkwX16_term_3 ++ dktX16_term_4
def dkwX16_term_2 : List UInt8 := [184, 0, 125, 16, 12, 164, 0, 10, 42, 16, 250, 182, 1, 151, 172, 42, 180, 0, 230, 182, 1, 167, 42, 42]
abbrev dktX16_term_2 : List UInt8 := dkwX16_term_2 ++ dktX16_term_3
def dkwX16_term_1 : List UInt8 := [42, 16, 251, 182, 1, 151, 172, 21, 4, 155, 0, 21, 21, 4, 17, 15, 255, 163, 0, 13, 21, 4]
abbrev dktX16_term_1 : List UInt8 := dkwX16_term_1 ++ dktX16_term_2
def dkwX16_term_0 : List UInt8 := [42, 27, 4, 182, 1, 164, 54, 5, 21, 5, 156, 0, 10, 42, 21, 5, 182, 1, 151, 172, 29, 154, 0, 10]
abbrev dktX16_term_0 : List UInt8 := dkwX16_term_0 ++ dktX16_term_1
theorem dksX16_term_0 : cX16_term.data.toList.drop 0 = dktX16_term_0 := by decide +kernel
theorem dksX16_term_1 : cX16_term.data.toList.drop 24 = dktX16_term_1 := dk_seg dksX16_term_0 24 rfl rfl
theorem dksX16_term_2 : cX16_term.data.toList.drop 46 = dktX16_term_2 := dk_seg dksX16_term_1 22 rfl rfl
theorem dksX16_term_3 : cX16_term.data.toList.drop 70 = dktX16_term_3 := dk_seg dksX16_term_2 24 rfl rfl
theorem dksX16_term_4 : cX16_term.data.toList.drop 94 = dktX16_term_4 := dk_seg dksX16_term_3 24 rfl rfl
theorem dksX16_term_5 : cX16_term.data.toList.drop 117 = dktX16_term_5 := dk_seg dksX16_term_4 23 rfl rfl
theorem dksX16_term_6 : cX16_term.data.toList.drop 139 = dktX16_term_6 := dk_seg dksX16_term_5 22 rfl rfl
theorem dX16_term_0 : decode cX16_term 0 = .ok (.aload_n 0, 1) := dk_42 (dk_at dksX16_term_0 0 rfl rfl)
theorem dX16_term_1 : decode cX16_term 1 = .ok (.iload_n 1, 1) := dk_27 (dk_at dksX16_term_0 1 rfl rfl)
theorem dX16_term_2 : decode cX16_term 2 = .ok (.iconst 1, 1) := dk_4 (dk_at dksX16_term_0 2 rfl rfl)
theorem dX16_term_3 : decode cX16_term 3 = .ok (.invokevirtual 420, 3) := dk_182 1 164 (dk_at dksX16_term_0 3 rfl rfl)
theorem dX16_term_6 : decode cX16_term 6 = .ok (.istore 5, 2) := dk_54 5 (dk_at dksX16_term_0 6 rfl rfl)
theorem dX16_term_8 : decode cX16_term 8 = .ok (.iload 5, 2) := dk_21 5 (dk_at dksX16_term_0 8 rfl rfl)
theorem dX16_term_10 : decode cX16_term 10 = .ok (.ifCond .ge 10, 3) := dk_156 0 10 (dk_at dksX16_term_0 10 rfl rfl)
theorem dX16_term_13 : decode cX16_term 13 = .ok (.aload_n 0, 1) := dk_42 (dk_at dksX16_term_0 13 rfl rfl)
theorem dX16_term_14 : decode cX16_term 14 = .ok (.iload 5, 2) := dk_21 5 (dk_at dksX16_term_0 14 rfl rfl)
theorem dX16_term_16 : decode cX16_term 16 = .ok (.invokevirtual 407, 3) := dk_182 1 151 (dk_at dksX16_term_0 16 rfl rfl)
theorem dX16_term_19 : decode cX16_term 19 = .ok (.ireturn, 1) := dk_172 (dk_at dksX16_term_0 19 rfl rfl)
theorem dX16_term_20 : decode cX16_term 20 = .ok (.iload_n 3, 1) := dk_29 (dk_at dksX16_term_0 20 rfl rfl)
theorem dX16_term_21 : decode cX16_term 21 = .ok (.ifCond .ne 10, 3) := dk_154 0 10 (dk_at dksX16_term_0 21 rfl rfl)
theorem dX16_term_24 : decode cX16_term 24 = .ok (.aload_n 0, 1) := dk_42 (dk_at dksX16_term_1 0 rfl rfl)
theorem dX16_term_25 : decode cX16_term 25 = .ok (.bipush (-5), 2) := dk_16 251 (dk_at dksX16_term_1 1 rfl rfl)
theorem dX16_term_27 : decode cX16_term 27 = .ok (.invokevirtual 407, 3) := dk_182 1 151 (dk_at dksX16_term_1 3 rfl rfl)
theorem dX16_term_30 : decode cX16_term 30 = .ok (.ireturn, 1) := dk_172 (dk_at dksX16_term_1 6 rfl rfl)
theorem dX16_term_31 : decode cX16_term 31 = .ok (.iload 4, 2) := dk_21 4 (dk_at dksX16_term_1 7 rfl rfl)
theorem dX16_term_33 : decode cX16_term 33 = .ok (.ifCond .lt 21, 3) := dk_155 0 21 (dk_at dksX16_term_1 9 rfl rfl)
theorem dX16_term_36 : decode cX16_term 36 = .ok (.iload 4, 2) := dk_21 4 (dk_at dksX16_term_1 12 rfl rfl)
theorem dX16_term_38 : decode cX16_term 38 = .ok (.sipush 4095, 3) := dk_17 15 255 (dk_at dksX16_term_1 14 rfl rfl)
theorem dX16_term_41 : decode cX16_term 41 = .ok (.if_icmp .gt 13, 3) := dk_163 0 13 (dk_at dksX16_term_1 17 rfl rfl)
theorem dX16_term_44 : decode cX16_term 44 = .ok (.iload 4, 2) := dk_21 4 (dk_at dksX16_term_1 20 rfl rfl)
theorem dX16_term_46 : decode cX16_term 46 = .ok (.invokestatic 125, 3) := dk_184 0 125 (dk_at dksX16_term_2 0 rfl rfl)
theorem dX16_term_49 : decode cX16_term 49 = .ok (.bipush 12, 2) := dk_16 12 (dk_at dksX16_term_2 3 rfl rfl)
theorem dX16_term_51 : decode cX16_term 51 = .ok (.if_icmp .le 10, 3) := dk_164 0 10 (dk_at dksX16_term_2 5 rfl rfl)
theorem dX16_term_54 : decode cX16_term 54 = .ok (.aload_n 0, 1) := dk_42 (dk_at dksX16_term_2 8 rfl rfl)
theorem dX16_term_55 : decode cX16_term 55 = .ok (.bipush (-6), 2) := dk_16 250 (dk_at dksX16_term_2 9 rfl rfl)
theorem dX16_term_57 : decode cX16_term 57 = .ok (.invokevirtual 407, 3) := dk_182 1 151 (dk_at dksX16_term_2 11 rfl rfl)
theorem dX16_term_60 : decode cX16_term 60 = .ok (.ireturn, 1) := dk_172 (dk_at dksX16_term_2 14 rfl rfl)
theorem dX16_term_61 : decode cX16_term 61 = .ok (.aload_n 0, 1) := dk_42 (dk_at dksX16_term_2 15 rfl rfl)
theorem dX16_term_62 : decode cX16_term 62 = .ok (.getfield 230, 3) := dk_180 0 230 (dk_at dksX16_term_2 16 rfl rfl)
theorem dX16_term_65 : decode cX16_term 65 = .ok (.invokevirtual 423, 3) := dk_182 1 167 (dk_at dksX16_term_2 19 rfl rfl)
theorem dX16_term_68 : decode cX16_term 68 = .ok (.aload_n 0, 1) := dk_42 (dk_at dksX16_term_2 22 rfl rfl)
theorem dX16_term_69 : decode cX16_term 69 = .ok (.aload_n 0, 1) := dk_42 (dk_at dksX16_term_2 23 rfl rfl)
theorem dX16_term_70 : decode cX16_term 70 = .ok (.getfield 230, 3) := dk_180 0 230 (dk_at dksX16_term_3 0 rfl rfl)
theorem dX16_term_73 : decode cX16_term 73 = .ok (.aload_n 0, 1) := dk_42 (dk_at dksX16_term_3 3 rfl rfl)
theorem dX16_term_74 : decode cX16_term 74 = .ok (.getfield 184, 3) := dk_180 0 184 (dk_at dksX16_term_3 4 rfl rfl)
theorem dX16_term_77 : decode cX16_term 77 = .ok (.iload_n 1, 1) := dk_27 (dk_at dksX16_term_3 7 rfl rfl)
theorem dX16_term_78 : decode cX16_term 78 = .ok (.aaload, 1) := dk_50 (dk_at dksX16_term_3 8 rfl rfl)
theorem dX16_term_79 : decode cX16_term 79 = .ok (.iconst 1, 1) := dk_4 (dk_at dksX16_term_3 9 rfl rfl)
theorem dX16_term_80 : decode cX16_term 80 = .ok (.invokevirtual 426, 3) := dk_182 1 170 (dk_at dksX16_term_3 10 rfl rfl)
theorem dX16_term_83 : decode cX16_term 83 = .ok (.istore 6, 2) := dk_54 6 (dk_at dksX16_term_3 13 rfl rfl)
theorem dX16_term_85 : decode cX16_term 85 = .ok (.aload_n 0, 1) := dk_42 (dk_at dksX16_term_3 15 rfl rfl)
theorem dX16_term_86 : decode cX16_term 86 = .ok (.getfield 246, 3) := dk_180 0 246 (dk_at dksX16_term_3 16 rfl rfl)
theorem dX16_term_89 : decode cX16_term 89 = .ok (.iload_n 2, 1) := dk_28 (dk_at dksX16_term_3 19 rfl rfl)
theorem dX16_term_90 : decode cX16_term 90 = .ok (.i2l, 1) := dk_133 (dk_at dksX16_term_3 20 rfl rfl)
theorem dX16_term_91 : decode cX16_term 91 = .ok (.invokevirtual 83, 3) := dk_182 0 83 (dk_at dksX16_term_3 21 rfl rfl)
theorem dX16_term_94 : decode cX16_term 94 = .ok (.aload_n 0, 1) := dk_42 (dk_at dksX16_term_4 0 rfl rfl)
theorem dX16_term_95 : decode cX16_term 95 = .ok (.getfield 249, 3) := dk_180 0 249 (dk_at dksX16_term_4 1 rfl rfl)
theorem dX16_term_98 : decode cX16_term 98 = .ok (.iload_n 3, 1) := dk_29 (dk_at dksX16_term_4 4 rfl rfl)
theorem dX16_term_99 : decode cX16_term 99 = .ok (.i2l, 1) := dk_133 (dk_at dksX16_term_4 5 rfl rfl)
theorem dX16_term_100 : decode cX16_term 100 = .ok (.invokevirtual 83, 3) := dk_182 0 83 (dk_at dksX16_term_4 6 rfl rfl)
theorem dX16_term_103 : decode cX16_term 103 = .ok (.aload_n 0, 1) := dk_42 (dk_at dksX16_term_4 9 rfl rfl)
theorem dX16_term_104 : decode cX16_term 104 = .ok (.aload_n 0, 1) := dk_42 (dk_at dksX16_term_4 10 rfl rfl)
theorem dX16_term_105 : decode cX16_term 105 = .ok (.getfield 246, 3) := dk_180 0 246 (dk_at dksX16_term_4 11 rfl rfl)
theorem dX16_term_108 : decode cX16_term 108 = .ok (.aload_n 0, 1) := dk_42 (dk_at dksX16_term_4 14 rfl rfl)
theorem dX16_term_109 : decode cX16_term 109 = .ok (.getfield 249, 3) := dk_180 0 249 (dk_at dksX16_term_4 15 rfl rfl)
theorem dX16_term_112 : decode cX16_term 112 = .ok (.invokevirtual 115, 3) := dk_182 0 115 (dk_at dksX16_term_4 18 rfl rfl)
theorem dX16_term_115 : decode cX16_term 115 = .ok (.iload 6, 2) := dk_21 6 (dk_at dksX16_term_4 21 rfl rfl)
theorem dX16_term_117 : decode cX16_term 117 = .ok (.ifCond .eq 29, 3) := dk_153 0 29 (dk_at dksX16_term_5 0 rfl rfl)
theorem dX16_term_120 : decode cX16_term 120 = .ok (.aload_n 0, 1) := dk_42 (dk_at dksX16_term_5 3 rfl rfl)
theorem dX16_term_121 : decode cX16_term 121 = .ok (.aload_n 0, 1) := dk_42 (dk_at dksX16_term_5 4 rfl rfl)
theorem dX16_term_122 : decode cX16_term 122 = .ok (.getfield 230, 3) := dk_180 0 230 (dk_at dksX16_term_5 5 rfl rfl)
theorem dX16_term_125 : decode cX16_term 125 = .ok (.iload 4, 2) := dk_21 4 (dk_at dksX16_term_5 8 rfl rfl)
theorem dX16_term_127 : decode cX16_term 127 = .ok (.aload_n 0, 1) := dk_42 (dk_at dksX16_term_5 10 rfl rfl)
theorem dX16_term_128 : decode cX16_term 128 = .ok (.getfield 246, 3) := dk_180 0 246 (dk_at dksX16_term_5 11 rfl rfl)
theorem dX16_term_131 : decode cX16_term 131 = .ok (.aload_n 0, 1) := dk_42 (dk_at dksX16_term_5 14 rfl rfl)
theorem dX16_term_132 : decode cX16_term 132 = .ok (.getfield 249, 3) := dk_180 0 249 (dk_at dksX16_term_5 15 rfl rfl)
theorem dX16_term_135 : decode cX16_term 135 = .ok (.iconst 1, 1) := dk_4 (dk_at dksX16_term_5 18 rfl rfl)
theorem dX16_term_136 : decode cX16_term 136 = .ok (.invokevirtual 172, 3) := dk_182 0 172 (dk_at dksX16_term_5 19 rfl rfl)
theorem dX16_term_139 : decode cX16_term 139 = .ok (.ifCond .eq 7, 3) := dk_153 0 7 (dk_at dksX16_term_6 0 rfl rfl)
theorem dX16_term_142 : decode cX16_term 142 = .ok (.iconst 1, 1) := dk_4 (dk_at dksX16_term_6 3 rfl rfl)
theorem dX16_term_143 : decode cX16_term 143 = .ok (.goto 4, 3) := dk_167 0 4 (dk_at dksX16_term_6 4 rfl rfl)
theorem dX16_term_146 : decode cX16_term 146 = .ok (.iconst 0, 1) := dk_3 (dk_at dksX16_term_6 7 rfl rfl)
theorem dX16_term_147 : decode cX16_term 147 = .ok (.istore 6, 2) := dk_54 6 (dk_at dksX16_term_6 8 rfl rfl)
theorem dX16_term_149 : decode cX16_term 149 = .ok (.aload_n 0, 1) := dk_42 (dk_at dksX16_term_6 10 rfl rfl)
theorem dX16_term_150 : decode cX16_term 150 = .ok (.iload_n 1, 1) := dk_27 (dk_at dksX16_term_6 11 rfl rfl)
theorem dX16_term_151 : decode cX16_term 151 = .ok (.iload 6, 2) := dk_21 6 (dk_at dksX16_term_6 12 rfl rfl)
theorem dX16_term_153 : decode cX16_term 153 = .ok (.invokevirtual 430, 3) := dk_182 1 174 (dk_at dksX16_term_6 14 rfl rfl)
theorem dX16_term_156 : decode cX16_term 156 = .ok (.ireturn, 1) := dk_172 (dk_at dksX16_term_6 17 rfl rfl)
abbrev cX16_look : ByteArray := prog_21_method_22_code
def yX16_look : MethodName := ⟨RX16, "look", "(II)I"⟩
def dkwX16_look_1 : List UInt8 := [167, 0, 23, 28, 153, 0, 18, 42, 180, 0, 181, 27, 46, 28, 159, 0, 8, 16, 253, 167, 0, 4, 3, 172]
abbrev dktX16_look_1 : List UInt8 := dkwX16_look_1 ++ []
def dkwX16_look_0 : List UInt8 := [27, 184, 1, 140, 154, 0, 7, 2, 167, 0, 37, 42, 180, 0, 181, 27, 46, 154, 0, 8, 16, 254]
abbrev dktX16_look_0 : List UInt8 := dkwX16_look_0 ++ dktX16_look_1
theorem dksX16_look_0 : cX16_look.data.toList.drop 0 = dktX16_look_0 := by decide +kernel
theorem dksX16_look_1 : cX16_look.data.toList.drop 22 = dktX16_look_1 := dk_seg dksX16_look_0 22 rfl rfl
theorem dX16_look_0 : decode cX16_look 0 = .ok (.iload_n 1, 1) := dk_27 (dk_at dksX16_look_0 0 rfl rfl)
theorem dX16_look_1 : decode cX16_look 1 = .ok (.invokestatic 396, 3) := dk_184 1 140 (dk_at dksX16_look_0 1 rfl rfl)
theorem dX16_look_4 : decode cX16_look 4 = .ok (.ifCond .ne 7, 3) := dk_154 0 7 (dk_at dksX16_look_0 4 rfl rfl)
theorem dX16_look_7 : decode cX16_look 7 = .ok (.iconst (-1), 1) := dk_2 (dk_at dksX16_look_0 7 rfl rfl)
theorem dX16_look_8 : decode cX16_look 8 = .ok (.goto 37, 3) := dk_167 0 37 (dk_at dksX16_look_0 8 rfl rfl)
theorem dX16_look_11 : decode cX16_look 11 = .ok (.aload_n 0, 1) := dk_42 (dk_at dksX16_look_0 11 rfl rfl)
theorem dX16_look_12 : decode cX16_look 12 = .ok (.getfield 181, 3) := dk_180 0 181 (dk_at dksX16_look_0 12 rfl rfl)
theorem dX16_look_15 : decode cX16_look 15 = .ok (.iload_n 1, 1) := dk_27 (dk_at dksX16_look_0 15 rfl rfl)
theorem dX16_look_16 : decode cX16_look 16 = .ok (.iaload, 1) := dk_46 (dk_at dksX16_look_0 16 rfl rfl)
theorem dX16_look_17 : decode cX16_look 17 = .ok (.ifCond .ne 8, 3) := dk_154 0 8 (dk_at dksX16_look_0 17 rfl rfl)
theorem dX16_look_20 : decode cX16_look 20 = .ok (.bipush (-2), 2) := dk_16 254 (dk_at dksX16_look_0 20 rfl rfl)
theorem dX16_look_22 : decode cX16_look 22 = .ok (.goto 23, 3) := dk_167 0 23 (dk_at dksX16_look_1 0 rfl rfl)
theorem dX16_look_25 : decode cX16_look 25 = .ok (.iload_n 2, 1) := dk_28 (dk_at dksX16_look_1 3 rfl rfl)
theorem dX16_look_26 : decode cX16_look 26 = .ok (.ifCond .eq 18, 3) := dk_153 0 18 (dk_at dksX16_look_1 4 rfl rfl)
theorem dX16_look_29 : decode cX16_look 29 = .ok (.aload_n 0, 1) := dk_42 (dk_at dksX16_look_1 7 rfl rfl)
theorem dX16_look_30 : decode cX16_look 30 = .ok (.getfield 181, 3) := dk_180 0 181 (dk_at dksX16_look_1 8 rfl rfl)
theorem dX16_look_33 : decode cX16_look 33 = .ok (.iload_n 1, 1) := dk_27 (dk_at dksX16_look_1 11 rfl rfl)
theorem dX16_look_34 : decode cX16_look 34 = .ok (.iaload, 1) := dk_46 (dk_at dksX16_look_1 12 rfl rfl)
theorem dX16_look_35 : decode cX16_look 35 = .ok (.iload_n 2, 1) := dk_28 (dk_at dksX16_look_1 13 rfl rfl)
theorem dX16_look_36 : decode cX16_look 36 = .ok (.if_icmp .eq 8, 3) := dk_159 0 8 (dk_at dksX16_look_1 14 rfl rfl)
theorem dX16_look_39 : decode cX16_look 39 = .ok (.bipush (-3), 2) := dk_16 253 (dk_at dksX16_look_1 17 rfl rfl)
theorem dX16_look_41 : decode cX16_look 41 = .ok (.goto 4, 3) := dk_167 0 4 (dk_at dksX16_look_1 19 rfl rfl)
theorem dX16_look_44 : decode cX16_look 44 = .ok (.iconst 0, 1) := dk_3 (dk_at dksX16_look_1 22 rfl rfl)
theorem dX16_look_45 : decode cX16_look 45 = .ok (.ireturn, 1) := dk_172 (dk_at dksX16_look_1 23 rfl rfl)
abbrev cX16_degreeOf : ByteArray := prog_21_method_12_code
def yX16_degreeOf : MethodName := ⟨RX16, "degreeOf", "(I)I"⟩
def dkwX16_degreeOf_0 : List UInt8 := [26, 3, 184, 0, 119, 26, 4, 184, 0, 119, 96, 26, 5, 184, 0, 119, 96, 172]
abbrev dktX16_degreeOf_0 : List UInt8 := dkwX16_degreeOf_0 ++ []
theorem dksX16_degreeOf_0 : cX16_degreeOf.data.toList.drop 0 = dktX16_degreeOf_0 := by decide +kernel
theorem dX16_degreeOf_0 : decode cX16_degreeOf 0 = .ok (.iload_n 0, 1) := dk_26 (dk_at dksX16_degreeOf_0 0 rfl rfl)
theorem dX16_degreeOf_1 : decode cX16_degreeOf 1 = .ok (.iconst 0, 1) := dk_3 (dk_at dksX16_degreeOf_0 1 rfl rfl)
theorem dX16_degreeOf_2 : decode cX16_degreeOf 2 = .ok (.invokestatic 119, 3) := dk_184 0 119 (dk_at dksX16_degreeOf_0 2 rfl rfl)
theorem dX16_degreeOf_5 : decode cX16_degreeOf 5 = .ok (.iload_n 0, 1) := dk_26 (dk_at dksX16_degreeOf_0 5 rfl rfl)
theorem dX16_degreeOf_6 : decode cX16_degreeOf 6 = .ok (.iconst 1, 1) := dk_4 (dk_at dksX16_degreeOf_0 6 rfl rfl)
theorem dX16_degreeOf_7 : decode cX16_degreeOf 7 = .ok (.invokestatic 119, 3) := dk_184 0 119 (dk_at dksX16_degreeOf_0 7 rfl rfl)
theorem dX16_degreeOf_10 : decode cX16_degreeOf 10 = .ok (.iadd, 1) := dk_96 (dk_at dksX16_degreeOf_0 10 rfl rfl)
theorem dX16_degreeOf_11 : decode cX16_degreeOf 11 = .ok (.iload_n 0, 1) := dk_26 (dk_at dksX16_degreeOf_0 11 rfl rfl)
theorem dX16_degreeOf_12 : decode cX16_degreeOf 12 = .ok (.iconst 2, 1) := dk_5 (dk_at dksX16_degreeOf_0 12 rfl rfl)
theorem dX16_degreeOf_13 : decode cX16_degreeOf 13 = .ok (.invokestatic 119, 3) := dk_184 0 119 (dk_at dksX16_degreeOf_0 13 rfl rfl)
theorem dX16_degreeOf_16 : decode cX16_degreeOf 16 = .ok (.iadd, 1) := dk_96 (dk_at dksX16_degreeOf_0 16 rfl rfl)
theorem dX16_degreeOf_17 : decode cX16_degreeOf 17 = .ok (.ireturn, 1) := dk_172 (dk_at dksX16_degreeOf_0 17 rfl rfl)
abbrev cX16_exponent : ByteArray := prog_21_method_11_code
def yX16_exponent : MethodName := ⟨RX16, "exponent", "(II)I"⟩
def dkwX16_exponent_0 : List UInt8 := [26, 7, 27, 104, 122, 16, 15, 126, 172]
abbrev dktX16_exponent_0 : List UInt8 := dkwX16_exponent_0 ++ []
theorem dksX16_exponent_0 : cX16_exponent.data.toList.drop 0 = dktX16_exponent_0 := by decide +kernel
theorem dX16_exponent_0 : decode cX16_exponent 0 = .ok (.iload_n 0, 1) := dk_26 (dk_at dksX16_exponent_0 0 rfl rfl)
theorem dX16_exponent_1 : decode cX16_exponent 1 = .ok (.iconst 4, 1) := dk_7 (dk_at dksX16_exponent_0 1 rfl rfl)
theorem dX16_exponent_2 : decode cX16_exponent 2 = .ok (.iload_n 1, 1) := dk_27 (dk_at dksX16_exponent_0 2 rfl rfl)
theorem dX16_exponent_3 : decode cX16_exponent 3 = .ok (.imul, 1) := dk_104 (dk_at dksX16_exponent_0 3 rfl rfl)
theorem dX16_exponent_4 : decode cX16_exponent 4 = .ok (.ishr, 1) := dk_122 (dk_at dksX16_exponent_0 4 rfl rfl)
theorem dX16_exponent_5 : decode cX16_exponent 5 = .ok (.bipush 15, 2) := dk_16 15 (dk_at dksX16_exponent_0 5 rfl rfl)
theorem dX16_exponent_7 : decode cX16_exponent 7 = .ok (.iand, 1) := dk_126 (dk_at dksX16_exponent_0 7 rfl rfl)
theorem dX16_exponent_8 : decode cX16_exponent 8 = .ok (.ireturn, 1) := dk_172 (dk_at dksX16_exponent_0 8 rfl rfl)
abbrev cX16_gatherAll : ByteArray := prog_21_method_18_code
def yX16_gatherAll : MethodName := ⟨RX16, "gatherAll", "(LIdealCourtModel$Sum;LIdealCourtModel$Poly;I)Z"⟩
def dkwX16_gatherAll_2 : List UInt8 := [132, 4, 1, 167, 255, 212, 4, 172]
abbrev dktX16_gatherAll_2 : List UInt8 := dkwX16_gatherAll_2 ++ []
def dkwX16_gatherAll_1 : List UInt8 := [180, 0, 170, 21, 4, 50, 44, 180, 0, 171, 21, 4, 50, 29, 182, 0, 172, 154, 0, 5, 3, 172]
abbrev dktX16_gatherAll_1 : List UInt8 := dkwX16_gatherAll_1 ++ dktX16_gatherAll_2
def dkwX16_gatherAll_0 : List UInt8 := [3, 54, 4, 21, 4, 44, 180, 0, 162, 162, 0, 41, 42, 43, 44, 180, 0, 167, 21, 4, 46, 44]
abbrev dktX16_gatherAll_0 : List UInt8 := dkwX16_gatherAll_0 ++ dktX16_gatherAll_1
theorem dksX16_gatherAll_0 : cX16_gatherAll.data.toList.drop 0 = dktX16_gatherAll_0 := by decide +kernel
theorem dksX16_gatherAll_1 : cX16_gatherAll.data.toList.drop 22 = dktX16_gatherAll_1 := dk_seg dksX16_gatherAll_0 22 rfl rfl
theorem dksX16_gatherAll_2 : cX16_gatherAll.data.toList.drop 44 = dktX16_gatherAll_2 := dk_seg dksX16_gatherAll_1 22 rfl rfl
theorem dX16_gatherAll_0 : decode cX16_gatherAll 0 = .ok (.iconst 0, 1) := dk_3 (dk_at dksX16_gatherAll_0 0 rfl rfl)
theorem dX16_gatherAll_1 : decode cX16_gatherAll 1 = .ok (.istore 4, 2) := dk_54 4 (dk_at dksX16_gatherAll_0 1 rfl rfl)
theorem dX16_gatherAll_3 : decode cX16_gatherAll 3 = .ok (.iload 4, 2) := dk_21 4 (dk_at dksX16_gatherAll_0 3 rfl rfl)
theorem dX16_gatherAll_5 : decode cX16_gatherAll 5 = .ok (.aload_n 2, 1) := dk_44 (dk_at dksX16_gatherAll_0 5 rfl rfl)
theorem dX16_gatherAll_6 : decode cX16_gatherAll 6 = .ok (.getfield 162, 3) := dk_180 0 162 (dk_at dksX16_gatherAll_0 6 rfl rfl)
theorem dX16_gatherAll_9 : decode cX16_gatherAll 9 = .ok (.if_icmp .ge 41, 3) := dk_162 0 41 (dk_at dksX16_gatherAll_0 9 rfl rfl)
theorem dX16_gatherAll_12 : decode cX16_gatherAll 12 = .ok (.aload_n 0, 1) := dk_42 (dk_at dksX16_gatherAll_0 12 rfl rfl)
theorem dX16_gatherAll_13 : decode cX16_gatherAll 13 = .ok (.aload_n 1, 1) := dk_43 (dk_at dksX16_gatherAll_0 13 rfl rfl)
theorem dX16_gatherAll_14 : decode cX16_gatherAll 14 = .ok (.aload_n 2, 1) := dk_44 (dk_at dksX16_gatherAll_0 14 rfl rfl)
theorem dX16_gatherAll_15 : decode cX16_gatherAll 15 = .ok (.getfield 167, 3) := dk_180 0 167 (dk_at dksX16_gatherAll_0 15 rfl rfl)
theorem dX16_gatherAll_18 : decode cX16_gatherAll 18 = .ok (.iload 4, 2) := dk_21 4 (dk_at dksX16_gatherAll_0 18 rfl rfl)
theorem dX16_gatherAll_20 : decode cX16_gatherAll 20 = .ok (.iaload, 1) := dk_46 (dk_at dksX16_gatherAll_0 20 rfl rfl)
theorem dX16_gatherAll_21 : decode cX16_gatherAll 21 = .ok (.aload_n 2, 1) := dk_44 (dk_at dksX16_gatherAll_0 21 rfl rfl)
theorem dX16_gatherAll_22 : decode cX16_gatherAll 22 = .ok (.getfield 170, 3) := dk_180 0 170 (dk_at dksX16_gatherAll_1 0 rfl rfl)
theorem dX16_gatherAll_25 : decode cX16_gatherAll 25 = .ok (.iload 4, 2) := dk_21 4 (dk_at dksX16_gatherAll_1 3 rfl rfl)
theorem dX16_gatherAll_27 : decode cX16_gatherAll 27 = .ok (.aaload, 1) := dk_50 (dk_at dksX16_gatherAll_1 5 rfl rfl)
theorem dX16_gatherAll_28 : decode cX16_gatherAll 28 = .ok (.aload_n 2, 1) := dk_44 (dk_at dksX16_gatherAll_1 6 rfl rfl)
theorem dX16_gatherAll_29 : decode cX16_gatherAll 29 = .ok (.getfield 171, 3) := dk_180 0 171 (dk_at dksX16_gatherAll_1 7 rfl rfl)
theorem dX16_gatherAll_32 : decode cX16_gatherAll 32 = .ok (.iload 4, 2) := dk_21 4 (dk_at dksX16_gatherAll_1 10 rfl rfl)
theorem dX16_gatherAll_34 : decode cX16_gatherAll 34 = .ok (.aaload, 1) := dk_50 (dk_at dksX16_gatherAll_1 12 rfl rfl)
theorem dX16_gatherAll_35 : decode cX16_gatherAll 35 = .ok (.iload_n 3, 1) := dk_29 (dk_at dksX16_gatherAll_1 13 rfl rfl)
theorem dX16_gatherAll_36 : decode cX16_gatherAll 36 = .ok (.invokevirtual 172, 3) := dk_182 0 172 (dk_at dksX16_gatherAll_1 14 rfl rfl)
theorem dX16_gatherAll_39 : decode cX16_gatherAll 39 = .ok (.ifCond .ne 5, 3) := dk_154 0 5 (dk_at dksX16_gatherAll_1 17 rfl rfl)
theorem dX16_gatherAll_42 : decode cX16_gatherAll 42 = .ok (.iconst 0, 1) := dk_3 (dk_at dksX16_gatherAll_1 20 rfl rfl)
theorem dX16_gatherAll_43 : decode cX16_gatherAll 43 = .ok (.ireturn, 1) := dk_172 (dk_at dksX16_gatherAll_1 21 rfl rfl)
theorem dX16_gatherAll_44 : decode cX16_gatherAll 44 = .ok (.iinc 4 1, 3) := dk_132 4 1 (dk_at dksX16_gatherAll_2 0 rfl rfl)
theorem dX16_gatherAll_47 : decode cX16_gatherAll 47 = .ok (.goto (-44), 3) := dk_167 255 212 (dk_at dksX16_gatherAll_2 3 rfl rfl)
theorem dX16_gatherAll_50 : decode cX16_gatherAll 50 = .ok (.iconst 1, 1) := dk_4 (dk_at dksX16_gatherAll_2 6 rfl rfl)
theorem dX16_gatherAll_51 : decode cX16_gatherAll 51 = .ok (.ireturn, 1) := dk_172 (dk_at dksX16_gatherAll_2 7 rfl rfl)
abbrev cX16_gather : ByteArray := prog_21_method_17_code
def yX16_gather : MethodName := ⟨RX16, "gather", "(LIdealCourtModel$Sum;ILIdealCourtModel$Num;LIdealCourtModel$Num;I)Z"⟩
def dkwX16_gather_4 : List UInt8 := [21, 6, 50, 42, 180, 0, 149, 182, 0, 18, 4, 172]
abbrev dktX16_gather_4 : List UInt8 := dkwX16_gather_4 ++ []
def dkwX16_gather_3 : List UInt8 := [153, 0, 5, 3, 172, 43, 180, 0, 145, 21, 6, 50, 42, 180, 0, 142, 182, 0, 18, 43, 180, 0, 152]
abbrev dktX16_gather_3 : List UInt8 := dkwX16_gather_3 ++ dktX16_gather_4
def dkwX16_gather_2 : List UInt8 := [25, 4, 21, 5, 182, 0, 155, 42, 180, 0, 142, 182, 0, 159, 154, 0, 13, 42, 180, 0, 149, 182, 0, 159]
abbrev dktX16_gather_2 : List UInt8 := dkwX16_gather_2 ++ dktX16_gather_3
def dkwX16_gather_1 : List UInt8 := [180, 0, 149, 43, 180, 0, 152, 21, 6, 50, 182, 0, 18, 42, 42, 180, 0, 142, 42, 180, 0, 149, 45]
abbrev dktX16_gather_1 : List UInt8 := dkwX16_gather_1 ++ dktX16_gather_2
def dkwX16_gather_0 : List UInt8 := [43, 28, 182, 0, 137, 54, 6, 42, 180, 0, 142, 43, 180, 0, 145, 21, 6, 50, 182, 0, 18, 42]
abbrev dktX16_gather_0 : List UInt8 := dkwX16_gather_0 ++ dktX16_gather_1
theorem dksX16_gather_0 : cX16_gather.data.toList.drop 0 = dktX16_gather_0 := by decide +kernel
theorem dksX16_gather_1 : cX16_gather.data.toList.drop 22 = dktX16_gather_1 := dk_seg dksX16_gather_0 22 rfl rfl
theorem dksX16_gather_2 : cX16_gather.data.toList.drop 45 = dktX16_gather_2 := dk_seg dksX16_gather_1 23 rfl rfl
theorem dksX16_gather_3 : cX16_gather.data.toList.drop 69 = dktX16_gather_3 := dk_seg dksX16_gather_2 24 rfl rfl
theorem dksX16_gather_4 : cX16_gather.data.toList.drop 92 = dktX16_gather_4 := dk_seg dksX16_gather_3 23 rfl rfl
theorem dX16_gather_0 : decode cX16_gather 0 = .ok (.aload_n 1, 1) := dk_43 (dk_at dksX16_gather_0 0 rfl rfl)
theorem dX16_gather_1 : decode cX16_gather 1 = .ok (.iload_n 2, 1) := dk_28 (dk_at dksX16_gather_0 1 rfl rfl)
theorem dX16_gather_2 : decode cX16_gather 2 = .ok (.invokevirtual 137, 3) := dk_182 0 137 (dk_at dksX16_gather_0 2 rfl rfl)
theorem dX16_gather_5 : decode cX16_gather 5 = .ok (.istore 6, 2) := dk_54 6 (dk_at dksX16_gather_0 5 rfl rfl)
theorem dX16_gather_7 : decode cX16_gather 7 = .ok (.aload_n 0, 1) := dk_42 (dk_at dksX16_gather_0 7 rfl rfl)
theorem dX16_gather_8 : decode cX16_gather 8 = .ok (.getfield 142, 3) := dk_180 0 142 (dk_at dksX16_gather_0 8 rfl rfl)
theorem dX16_gather_11 : decode cX16_gather 11 = .ok (.aload_n 1, 1) := dk_43 (dk_at dksX16_gather_0 11 rfl rfl)
theorem dX16_gather_12 : decode cX16_gather 12 = .ok (.getfield 145, 3) := dk_180 0 145 (dk_at dksX16_gather_0 12 rfl rfl)
theorem dX16_gather_15 : decode cX16_gather 15 = .ok (.iload 6, 2) := dk_21 6 (dk_at dksX16_gather_0 15 rfl rfl)
theorem dX16_gather_17 : decode cX16_gather 17 = .ok (.aaload, 1) := dk_50 (dk_at dksX16_gather_0 17 rfl rfl)
theorem dX16_gather_18 : decode cX16_gather 18 = .ok (.invokevirtual 18, 3) := dk_182 0 18 (dk_at dksX16_gather_0 18 rfl rfl)
theorem dX16_gather_21 : decode cX16_gather 21 = .ok (.aload_n 0, 1) := dk_42 (dk_at dksX16_gather_0 21 rfl rfl)
theorem dX16_gather_22 : decode cX16_gather 22 = .ok (.getfield 149, 3) := dk_180 0 149 (dk_at dksX16_gather_1 0 rfl rfl)
theorem dX16_gather_25 : decode cX16_gather 25 = .ok (.aload_n 1, 1) := dk_43 (dk_at dksX16_gather_1 3 rfl rfl)
theorem dX16_gather_26 : decode cX16_gather 26 = .ok (.getfield 152, 3) := dk_180 0 152 (dk_at dksX16_gather_1 4 rfl rfl)
theorem dX16_gather_29 : decode cX16_gather 29 = .ok (.iload 6, 2) := dk_21 6 (dk_at dksX16_gather_1 7 rfl rfl)
theorem dX16_gather_31 : decode cX16_gather 31 = .ok (.aaload, 1) := dk_50 (dk_at dksX16_gather_1 9 rfl rfl)
theorem dX16_gather_32 : decode cX16_gather 32 = .ok (.invokevirtual 18, 3) := dk_182 0 18 (dk_at dksX16_gather_1 10 rfl rfl)
theorem dX16_gather_35 : decode cX16_gather 35 = .ok (.aload_n 0, 1) := dk_42 (dk_at dksX16_gather_1 13 rfl rfl)
theorem dX16_gather_36 : decode cX16_gather 36 = .ok (.aload_n 0, 1) := dk_42 (dk_at dksX16_gather_1 14 rfl rfl)
theorem dX16_gather_37 : decode cX16_gather 37 = .ok (.getfield 142, 3) := dk_180 0 142 (dk_at dksX16_gather_1 15 rfl rfl)
theorem dX16_gather_40 : decode cX16_gather 40 = .ok (.aload_n 0, 1) := dk_42 (dk_at dksX16_gather_1 18 rfl rfl)
theorem dX16_gather_41 : decode cX16_gather 41 = .ok (.getfield 149, 3) := dk_180 0 149 (dk_at dksX16_gather_1 19 rfl rfl)
theorem dX16_gather_44 : decode cX16_gather 44 = .ok (.aload_n 3, 1) := dk_45 (dk_at dksX16_gather_1 22 rfl rfl)
theorem dX16_gather_45 : decode cX16_gather 45 = .ok (.aload 4, 2) := dk_25 4 (dk_at dksX16_gather_2 0 rfl rfl)
theorem dX16_gather_47 : decode cX16_gather 47 = .ok (.iload 5, 2) := dk_21 5 (dk_at dksX16_gather_2 2 rfl rfl)
theorem dX16_gather_49 : decode cX16_gather 49 = .ok (.invokevirtual 155, 3) := dk_182 0 155 (dk_at dksX16_gather_2 4 rfl rfl)
theorem dX16_gather_52 : decode cX16_gather 52 = .ok (.aload_n 0, 1) := dk_42 (dk_at dksX16_gather_2 7 rfl rfl)
theorem dX16_gather_53 : decode cX16_gather 53 = .ok (.getfield 142, 3) := dk_180 0 142 (dk_at dksX16_gather_2 8 rfl rfl)
theorem dX16_gather_56 : decode cX16_gather 56 = .ok (.invokevirtual 159, 3) := dk_182 0 159 (dk_at dksX16_gather_2 11 rfl rfl)
theorem dX16_gather_59 : decode cX16_gather 59 = .ok (.ifCond .ne 13, 3) := dk_154 0 13 (dk_at dksX16_gather_2 14 rfl rfl)
theorem dX16_gather_62 : decode cX16_gather 62 = .ok (.aload_n 0, 1) := dk_42 (dk_at dksX16_gather_2 17 rfl rfl)
theorem dX16_gather_63 : decode cX16_gather 63 = .ok (.getfield 149, 3) := dk_180 0 149 (dk_at dksX16_gather_2 18 rfl rfl)
theorem dX16_gather_66 : decode cX16_gather 66 = .ok (.invokevirtual 159, 3) := dk_182 0 159 (dk_at dksX16_gather_2 21 rfl rfl)
theorem dX16_gather_69 : decode cX16_gather 69 = .ok (.ifCond .eq 5, 3) := dk_153 0 5 (dk_at dksX16_gather_3 0 rfl rfl)
theorem dX16_gather_72 : decode cX16_gather 72 = .ok (.iconst 0, 1) := dk_3 (dk_at dksX16_gather_3 3 rfl rfl)
theorem dX16_gather_73 : decode cX16_gather 73 = .ok (.ireturn, 1) := dk_172 (dk_at dksX16_gather_3 4 rfl rfl)
theorem dX16_gather_74 : decode cX16_gather 74 = .ok (.aload_n 1, 1) := dk_43 (dk_at dksX16_gather_3 5 rfl rfl)
theorem dX16_gather_75 : decode cX16_gather 75 = .ok (.getfield 145, 3) := dk_180 0 145 (dk_at dksX16_gather_3 6 rfl rfl)
theorem dX16_gather_78 : decode cX16_gather 78 = .ok (.iload 6, 2) := dk_21 6 (dk_at dksX16_gather_3 9 rfl rfl)
theorem dX16_gather_80 : decode cX16_gather 80 = .ok (.aaload, 1) := dk_50 (dk_at dksX16_gather_3 11 rfl rfl)
theorem dX16_gather_81 : decode cX16_gather 81 = .ok (.aload_n 0, 1) := dk_42 (dk_at dksX16_gather_3 12 rfl rfl)
theorem dX16_gather_82 : decode cX16_gather 82 = .ok (.getfield 142, 3) := dk_180 0 142 (dk_at dksX16_gather_3 13 rfl rfl)
theorem dX16_gather_85 : decode cX16_gather 85 = .ok (.invokevirtual 18, 3) := dk_182 0 18 (dk_at dksX16_gather_3 16 rfl rfl)
theorem dX16_gather_88 : decode cX16_gather 88 = .ok (.aload_n 1, 1) := dk_43 (dk_at dksX16_gather_3 19 rfl rfl)
theorem dX16_gather_89 : decode cX16_gather 89 = .ok (.getfield 152, 3) := dk_180 0 152 (dk_at dksX16_gather_3 20 rfl rfl)
theorem dX16_gather_92 : decode cX16_gather 92 = .ok (.iload 6, 2) := dk_21 6 (dk_at dksX16_gather_4 0 rfl rfl)
theorem dX16_gather_94 : decode cX16_gather 94 = .ok (.aaload, 1) := dk_50 (dk_at dksX16_gather_4 2 rfl rfl)
theorem dX16_gather_95 : decode cX16_gather 95 = .ok (.aload_n 0, 1) := dk_42 (dk_at dksX16_gather_4 3 rfl rfl)
theorem dX16_gather_96 : decode cX16_gather 96 = .ok (.getfield 149, 3) := dk_180 0 149 (dk_at dksX16_gather_4 4 rfl rfl)
theorem dX16_gather_99 : decode cX16_gather 99 = .ok (.invokevirtual 18, 3) := dk_182 0 18 (dk_at dksX16_gather_4 7 rfl rfl)
theorem dX16_gather_102 : decode cX16_gather 102 = .ok (.iconst 1, 1) := dk_4 (dk_at dksX16_gather_4 10 rfl rfl)
theorem dX16_gather_103 : decode cX16_gather 103 = .ok (.ireturn, 1) := dk_172 (dk_at dksX16_gather_4 11 rfl rfl)
abbrev cX16_fractionAdd : ByteArray := prog_21_method_10_code
def yX16_fractionAdd : MethodName := ⟨RX16, "fractionAdd", "(LIdealCourtModel$Num;LIdealCourtModel$Num;LIdealCourtModel$Num;LIdealCourtModel$Num;I)V"⟩
def dkwX16_fractionAdd_3 : List UInt8 := [182, 0, 115, 177]
abbrev dktX16_fractionAdd_3 : List UInt8 := dkwX16_fractionAdd_3 ++ []
def dkwX16_fractionAdd_2 : List UInt8 := [182, 0, 105, 43, 42, 180, 0, 102, 182, 0, 18, 44, 42, 180, 0, 108, 182, 0, 18, 42, 43, 44]
abbrev dktX16_fractionAdd_2 : List UInt8 := dkwX16_fractionAdd_2 ++ dktX16_fractionAdd_3
def dkwX16_fractionAdd_1 : List UInt8 := [180, 0, 102, 42, 180, 0, 108, 42, 180, 0, 102, 21, 5, 184, 0, 111, 42, 42, 180, 0, 108, 44, 25, 4]
abbrev dktX16_fractionAdd_1 : List UInt8 := dkwX16_fractionAdd_1 ++ dktX16_fractionAdd_2
def dkwX16_fractionAdd_0 : List UInt8 := [42, 42, 180, 0, 102, 45, 44, 182, 0, 105, 42, 42, 180, 0, 108, 43, 25, 4, 182, 0, 105, 42]
abbrev dktX16_fractionAdd_0 : List UInt8 := dkwX16_fractionAdd_0 ++ dktX16_fractionAdd_1
theorem dksX16_fractionAdd_0 : cX16_fractionAdd.data.toList.drop 0 = dktX16_fractionAdd_0 := by decide +kernel
theorem dksX16_fractionAdd_1 : cX16_fractionAdd.data.toList.drop 22 = dktX16_fractionAdd_1 := dk_seg dksX16_fractionAdd_0 22 rfl rfl
theorem dksX16_fractionAdd_2 : cX16_fractionAdd.data.toList.drop 46 = dktX16_fractionAdd_2 := dk_seg dksX16_fractionAdd_1 24 rfl rfl
theorem dksX16_fractionAdd_3 : cX16_fractionAdd.data.toList.drop 68 = dktX16_fractionAdd_3 := dk_seg dksX16_fractionAdd_2 22 rfl rfl
theorem dX16_fractionAdd_0 : decode cX16_fractionAdd 0 = .ok (.aload_n 0, 1) := dk_42 (dk_at dksX16_fractionAdd_0 0 rfl rfl)
theorem dX16_fractionAdd_1 : decode cX16_fractionAdd 1 = .ok (.aload_n 0, 1) := dk_42 (dk_at dksX16_fractionAdd_0 1 rfl rfl)
theorem dX16_fractionAdd_2 : decode cX16_fractionAdd 2 = .ok (.getfield 102, 3) := dk_180 0 102 (dk_at dksX16_fractionAdd_0 2 rfl rfl)
theorem dX16_fractionAdd_5 : decode cX16_fractionAdd 5 = .ok (.aload_n 3, 1) := dk_45 (dk_at dksX16_fractionAdd_0 5 rfl rfl)
theorem dX16_fractionAdd_6 : decode cX16_fractionAdd 6 = .ok (.aload_n 2, 1) := dk_44 (dk_at dksX16_fractionAdd_0 6 rfl rfl)
theorem dX16_fractionAdd_7 : decode cX16_fractionAdd 7 = .ok (.invokevirtual 105, 3) := dk_182 0 105 (dk_at dksX16_fractionAdd_0 7 rfl rfl)
theorem dX16_fractionAdd_10 : decode cX16_fractionAdd 10 = .ok (.aload_n 0, 1) := dk_42 (dk_at dksX16_fractionAdd_0 10 rfl rfl)
theorem dX16_fractionAdd_11 : decode cX16_fractionAdd 11 = .ok (.aload_n 0, 1) := dk_42 (dk_at dksX16_fractionAdd_0 11 rfl rfl)
theorem dX16_fractionAdd_12 : decode cX16_fractionAdd 12 = .ok (.getfield 108, 3) := dk_180 0 108 (dk_at dksX16_fractionAdd_0 12 rfl rfl)
theorem dX16_fractionAdd_15 : decode cX16_fractionAdd 15 = .ok (.aload_n 1, 1) := dk_43 (dk_at dksX16_fractionAdd_0 15 rfl rfl)
theorem dX16_fractionAdd_16 : decode cX16_fractionAdd 16 = .ok (.aload 4, 2) := dk_25 4 (dk_at dksX16_fractionAdd_0 16 rfl rfl)
theorem dX16_fractionAdd_18 : decode cX16_fractionAdd 18 = .ok (.invokevirtual 105, 3) := dk_182 0 105 (dk_at dksX16_fractionAdd_0 18 rfl rfl)
theorem dX16_fractionAdd_21 : decode cX16_fractionAdd 21 = .ok (.aload_n 0, 1) := dk_42 (dk_at dksX16_fractionAdd_0 21 rfl rfl)
theorem dX16_fractionAdd_22 : decode cX16_fractionAdd 22 = .ok (.getfield 102, 3) := dk_180 0 102 (dk_at dksX16_fractionAdd_1 0 rfl rfl)
theorem dX16_fractionAdd_25 : decode cX16_fractionAdd 25 = .ok (.aload_n 0, 1) := dk_42 (dk_at dksX16_fractionAdd_1 3 rfl rfl)
theorem dX16_fractionAdd_26 : decode cX16_fractionAdd 26 = .ok (.getfield 108, 3) := dk_180 0 108 (dk_at dksX16_fractionAdd_1 4 rfl rfl)
theorem dX16_fractionAdd_29 : decode cX16_fractionAdd 29 = .ok (.aload_n 0, 1) := dk_42 (dk_at dksX16_fractionAdd_1 7 rfl rfl)
theorem dX16_fractionAdd_30 : decode cX16_fractionAdd 30 = .ok (.getfield 102, 3) := dk_180 0 102 (dk_at dksX16_fractionAdd_1 8 rfl rfl)
theorem dX16_fractionAdd_33 : decode cX16_fractionAdd 33 = .ok (.iload 5, 2) := dk_21 5 (dk_at dksX16_fractionAdd_1 11 rfl rfl)
theorem dX16_fractionAdd_35 : decode cX16_fractionAdd 35 = .ok (.invokestatic 111, 3) := dk_184 0 111 (dk_at dksX16_fractionAdd_1 13 rfl rfl)
theorem dX16_fractionAdd_38 : decode cX16_fractionAdd 38 = .ok (.aload_n 0, 1) := dk_42 (dk_at dksX16_fractionAdd_1 16 rfl rfl)
theorem dX16_fractionAdd_39 : decode cX16_fractionAdd 39 = .ok (.aload_n 0, 1) := dk_42 (dk_at dksX16_fractionAdd_1 17 rfl rfl)
theorem dX16_fractionAdd_40 : decode cX16_fractionAdd 40 = .ok (.getfield 108, 3) := dk_180 0 108 (dk_at dksX16_fractionAdd_1 18 rfl rfl)
theorem dX16_fractionAdd_43 : decode cX16_fractionAdd 43 = .ok (.aload_n 2, 1) := dk_44 (dk_at dksX16_fractionAdd_1 21 rfl rfl)
theorem dX16_fractionAdd_44 : decode cX16_fractionAdd 44 = .ok (.aload 4, 2) := dk_25 4 (dk_at dksX16_fractionAdd_1 22 rfl rfl)
theorem dX16_fractionAdd_46 : decode cX16_fractionAdd 46 = .ok (.invokevirtual 105, 3) := dk_182 0 105 (dk_at dksX16_fractionAdd_2 0 rfl rfl)
theorem dX16_fractionAdd_49 : decode cX16_fractionAdd 49 = .ok (.aload_n 1, 1) := dk_43 (dk_at dksX16_fractionAdd_2 3 rfl rfl)
theorem dX16_fractionAdd_50 : decode cX16_fractionAdd 50 = .ok (.aload_n 0, 1) := dk_42 (dk_at dksX16_fractionAdd_2 4 rfl rfl)
theorem dX16_fractionAdd_51 : decode cX16_fractionAdd 51 = .ok (.getfield 102, 3) := dk_180 0 102 (dk_at dksX16_fractionAdd_2 5 rfl rfl)
theorem dX16_fractionAdd_54 : decode cX16_fractionAdd 54 = .ok (.invokevirtual 18, 3) := dk_182 0 18 (dk_at dksX16_fractionAdd_2 8 rfl rfl)
theorem dX16_fractionAdd_57 : decode cX16_fractionAdd 57 = .ok (.aload_n 2, 1) := dk_44 (dk_at dksX16_fractionAdd_2 11 rfl rfl)
theorem dX16_fractionAdd_58 : decode cX16_fractionAdd 58 = .ok (.aload_n 0, 1) := dk_42 (dk_at dksX16_fractionAdd_2 12 rfl rfl)
theorem dX16_fractionAdd_59 : decode cX16_fractionAdd 59 = .ok (.getfield 108, 3) := dk_180 0 108 (dk_at dksX16_fractionAdd_2 13 rfl rfl)
theorem dX16_fractionAdd_62 : decode cX16_fractionAdd 62 = .ok (.invokevirtual 18, 3) := dk_182 0 18 (dk_at dksX16_fractionAdd_2 16 rfl rfl)
theorem dX16_fractionAdd_65 : decode cX16_fractionAdd 65 = .ok (.aload_n 0, 1) := dk_42 (dk_at dksX16_fractionAdd_2 19 rfl rfl)
theorem dX16_fractionAdd_66 : decode cX16_fractionAdd 66 = .ok (.aload_n 1, 1) := dk_43 (dk_at dksX16_fractionAdd_2 20 rfl rfl)
theorem dX16_fractionAdd_67 : decode cX16_fractionAdd 67 = .ok (.aload_n 2, 1) := dk_44 (dk_at dksX16_fractionAdd_2 21 rfl rfl)
theorem dX16_fractionAdd_68 : decode cX16_fractionAdd 68 = .ok (.invokevirtual 115, 3) := dk_182 0 115 (dk_at dksX16_fractionAdd_3 0 rfl rfl)
theorem dX16_fractionAdd_71 : decode cX16_fractionAdd 71 = .ok (.return_, 1) := dk_177 (dk_at dksX16_fractionAdd_3 3 rfl rfl)
abbrev cX16_multiply : ByteArray := prog_21_method_5_code
def yX16_multiply : MethodName := ⟨RX16, "multiply", "(LIdealCourtModel$Num;LIdealCourtModel$Num;LIdealCourtModel$Num;)V"⟩
def dkwX16_multiply_10 : List UInt8 := [21, 6, 46, 79, 132, 6, 1, 167, 255, 232, 43, 21, 4, 181, 0, 7, 43, 21, 5, 181, 0, 15, 177]
abbrev dktX16_multiply_10 : List UInt8 := dkwX16_multiply_10 ++ []
def dkwX16_multiply_9 : List UInt8 := [3, 100, 54, 4, 3, 54, 6, 21, 6, 21, 4, 162, 0, 23, 43, 180, 0, 11, 21, 6, 42, 180, 0, 40]
abbrev dktX16_multiply_9 : List UInt8 := dkwX16_multiply_9 ++ dktX16_multiply_10
def dkwX16_multiply_8 : List UInt8 := [180, 0, 15, 104, 54, 5, 21, 4, 42, 180, 0, 40, 21, 4, 4, 100, 46, 154, 0, 7, 4, 167, 0, 4]
abbrev dktX16_multiply_8 : List UInt8 := dkwX16_multiply_8 ++ dktX16_multiply_9
def dkwX16_multiply_7 : List UInt8 := [20, 0, 30, 109, 55, 6, 132, 8, 1, 167, 255, 165, 132, 5, 1, 167, 255, 144, 44, 180, 0, 15, 45]
abbrev dktX16_multiply_7 : List UInt8 := dkwX16_multiply_7 ++ dktX16_multiply_8
def dkwX16_multiply_6 : List UInt8 := [97, 97, 55, 6, 42, 180, 0, 40, 21, 5, 21, 8, 96, 22, 6, 20, 0, 30, 113, 136, 79, 22, 6]
abbrev dktX16_multiply_6 : List UInt8 := dkwX16_multiply_6 ++ dktX16_multiply_7
def dkwX16_multiply_5 : List UInt8 := [162, 0, 23, 44, 180, 0, 11, 21, 5, 46, 133, 45, 180, 0, 11, 21, 8, 46, 133, 105, 167, 0, 4, 9]
abbrev dktX16_multiply_5 : List UInt8 := dkwX16_multiply_5 ++ dktX16_multiply_6
def dkwX16_multiply_4 : List UInt8 := [158, 0, 81, 22, 6, 42, 180, 0, 40, 21, 5, 21, 8, 96, 46, 133, 21, 8, 45, 180, 0, 7]
abbrev dktX16_multiply_4 : List UInt8 := dkwX16_multiply_4 ++ dktX16_multiply_5
def dkwX16_multiply_3 : List UInt8 := [162, 0, 109, 9, 55, 6, 3, 54, 8, 21, 8, 45, 180, 0, 7, 161, 0, 10, 22, 6, 9, 148]
abbrev dktX16_multiply_3 : List UInt8 := dkwX16_multiply_3 ++ dktX16_multiply_4
def dkwX16_multiply_2 : List UInt8 := [180, 0, 40, 21, 5, 3, 79, 132, 5, 1, 167, 255, 238, 3, 54, 5, 21, 5, 44, 180, 0, 7]
abbrev dktX16_multiply_2 : List UInt8 := dkwX16_multiply_2 ++ dktX16_multiply_3
def dkwX16_multiply_1 : List UInt8 := [177, 44, 180, 0, 7, 45, 180, 0, 7, 96, 54, 4, 3, 54, 5, 21, 5, 21, 4, 162, 0, 17, 42]
abbrev dktX16_multiply_1 : List UInt8 := dkwX16_multiply_1 ++ dktX16_multiply_2
def dkwX16_multiply_0 : List UInt8 := [44, 180, 0, 15, 153, 0, 10, 45, 180, 0, 15, 154, 0, 14, 43, 3, 181, 0, 15, 43, 3, 181, 0, 7]
abbrev dktX16_multiply_0 : List UInt8 := dkwX16_multiply_0 ++ dktX16_multiply_1
theorem dksX16_multiply_0 : cX16_multiply.data.toList.drop 0 = dktX16_multiply_0 := by decide +kernel
theorem dksX16_multiply_1 : cX16_multiply.data.toList.drop 24 = dktX16_multiply_1 := dk_seg dksX16_multiply_0 24 rfl rfl
theorem dksX16_multiply_2 : cX16_multiply.data.toList.drop 47 = dktX16_multiply_2 := dk_seg dksX16_multiply_1 23 rfl rfl
theorem dksX16_multiply_3 : cX16_multiply.data.toList.drop 69 = dktX16_multiply_3 := dk_seg dksX16_multiply_2 22 rfl rfl
theorem dksX16_multiply_4 : cX16_multiply.data.toList.drop 91 = dktX16_multiply_4 := dk_seg dksX16_multiply_3 22 rfl rfl
theorem dksX16_multiply_5 : cX16_multiply.data.toList.drop 113 = dktX16_multiply_5 := dk_seg dksX16_multiply_4 22 rfl rfl
theorem dksX16_multiply_6 : cX16_multiply.data.toList.drop 137 = dktX16_multiply_6 := dk_seg dksX16_multiply_5 24 rfl rfl
theorem dksX16_multiply_7 : cX16_multiply.data.toList.drop 160 = dktX16_multiply_7 := dk_seg dksX16_multiply_6 23 rfl rfl
theorem dksX16_multiply_8 : cX16_multiply.data.toList.drop 183 = dktX16_multiply_8 := dk_seg dksX16_multiply_7 23 rfl rfl
theorem dksX16_multiply_9 : cX16_multiply.data.toList.drop 207 = dktX16_multiply_9 := dk_seg dksX16_multiply_8 24 rfl rfl
theorem dksX16_multiply_10 : cX16_multiply.data.toList.drop 231 = dktX16_multiply_10 := dk_seg dksX16_multiply_9 24 rfl rfl
theorem dX16_multiply_0 : decode cX16_multiply 0 = .ok (.aload_n 2, 1) := dk_44 (dk_at dksX16_multiply_0 0 rfl rfl)
theorem dX16_multiply_1 : decode cX16_multiply 1 = .ok (.getfield 15, 3) := dk_180 0 15 (dk_at dksX16_multiply_0 1 rfl rfl)
theorem dX16_multiply_4 : decode cX16_multiply 4 = .ok (.ifCond .eq 10, 3) := dk_153 0 10 (dk_at dksX16_multiply_0 4 rfl rfl)
theorem dX16_multiply_7 : decode cX16_multiply 7 = .ok (.aload_n 3, 1) := dk_45 (dk_at dksX16_multiply_0 7 rfl rfl)
theorem dX16_multiply_8 : decode cX16_multiply 8 = .ok (.getfield 15, 3) := dk_180 0 15 (dk_at dksX16_multiply_0 8 rfl rfl)
theorem dX16_multiply_11 : decode cX16_multiply 11 = .ok (.ifCond .ne 14, 3) := dk_154 0 14 (dk_at dksX16_multiply_0 11 rfl rfl)
theorem dX16_multiply_14 : decode cX16_multiply 14 = .ok (.aload_n 1, 1) := dk_43 (dk_at dksX16_multiply_0 14 rfl rfl)
theorem dX16_multiply_15 : decode cX16_multiply 15 = .ok (.iconst 0, 1) := dk_3 (dk_at dksX16_multiply_0 15 rfl rfl)
theorem dX16_multiply_16 : decode cX16_multiply 16 = .ok (.putfield 15, 3) := dk_181 0 15 (dk_at dksX16_multiply_0 16 rfl rfl)
theorem dX16_multiply_19 : decode cX16_multiply 19 = .ok (.aload_n 1, 1) := dk_43 (dk_at dksX16_multiply_0 19 rfl rfl)
theorem dX16_multiply_20 : decode cX16_multiply 20 = .ok (.iconst 0, 1) := dk_3 (dk_at dksX16_multiply_0 20 rfl rfl)
theorem dX16_multiply_21 : decode cX16_multiply 21 = .ok (.putfield 7, 3) := dk_181 0 7 (dk_at dksX16_multiply_0 21 rfl rfl)
theorem dX16_multiply_24 : decode cX16_multiply 24 = .ok (.return_, 1) := dk_177 (dk_at dksX16_multiply_1 0 rfl rfl)
theorem dX16_multiply_25 : decode cX16_multiply 25 = .ok (.aload_n 2, 1) := dk_44 (dk_at dksX16_multiply_1 1 rfl rfl)
theorem dX16_multiply_26 : decode cX16_multiply 26 = .ok (.getfield 7, 3) := dk_180 0 7 (dk_at dksX16_multiply_1 2 rfl rfl)
theorem dX16_multiply_29 : decode cX16_multiply 29 = .ok (.aload_n 3, 1) := dk_45 (dk_at dksX16_multiply_1 5 rfl rfl)
theorem dX16_multiply_30 : decode cX16_multiply 30 = .ok (.getfield 7, 3) := dk_180 0 7 (dk_at dksX16_multiply_1 6 rfl rfl)
theorem dX16_multiply_33 : decode cX16_multiply 33 = .ok (.iadd, 1) := dk_96 (dk_at dksX16_multiply_1 9 rfl rfl)
theorem dX16_multiply_34 : decode cX16_multiply 34 = .ok (.istore 4, 2) := dk_54 4 (dk_at dksX16_multiply_1 10 rfl rfl)
theorem dX16_multiply_36 : decode cX16_multiply 36 = .ok (.iconst 0, 1) := dk_3 (dk_at dksX16_multiply_1 12 rfl rfl)
theorem dX16_multiply_37 : decode cX16_multiply 37 = .ok (.istore 5, 2) := dk_54 5 (dk_at dksX16_multiply_1 13 rfl rfl)
theorem dX16_multiply_39 : decode cX16_multiply 39 = .ok (.iload 5, 2) := dk_21 5 (dk_at dksX16_multiply_1 15 rfl rfl)
theorem dX16_multiply_41 : decode cX16_multiply 41 = .ok (.iload 4, 2) := dk_21 4 (dk_at dksX16_multiply_1 17 rfl rfl)
theorem dX16_multiply_43 : decode cX16_multiply 43 = .ok (.if_icmp .ge 17, 3) := dk_162 0 17 (dk_at dksX16_multiply_1 19 rfl rfl)
theorem dX16_multiply_46 : decode cX16_multiply 46 = .ok (.aload_n 0, 1) := dk_42 (dk_at dksX16_multiply_1 22 rfl rfl)
theorem dX16_multiply_47 : decode cX16_multiply 47 = .ok (.getfield 40, 3) := dk_180 0 40 (dk_at dksX16_multiply_2 0 rfl rfl)
theorem dX16_multiply_50 : decode cX16_multiply 50 = .ok (.iload 5, 2) := dk_21 5 (dk_at dksX16_multiply_2 3 rfl rfl)
theorem dX16_multiply_52 : decode cX16_multiply 52 = .ok (.iconst 0, 1) := dk_3 (dk_at dksX16_multiply_2 5 rfl rfl)
theorem dX16_multiply_53 : decode cX16_multiply 53 = .ok (.iastore, 1) := dk_79 (dk_at dksX16_multiply_2 6 rfl rfl)
theorem dX16_multiply_54 : decode cX16_multiply 54 = .ok (.iinc 5 1, 3) := dk_132 5 1 (dk_at dksX16_multiply_2 7 rfl rfl)
theorem dX16_multiply_57 : decode cX16_multiply 57 = .ok (.goto (-18), 3) := dk_167 255 238 (dk_at dksX16_multiply_2 10 rfl rfl)
theorem dX16_multiply_60 : decode cX16_multiply 60 = .ok (.iconst 0, 1) := dk_3 (dk_at dksX16_multiply_2 13 rfl rfl)
theorem dX16_multiply_61 : decode cX16_multiply 61 = .ok (.istore 5, 2) := dk_54 5 (dk_at dksX16_multiply_2 14 rfl rfl)
theorem dX16_multiply_63 : decode cX16_multiply 63 = .ok (.iload 5, 2) := dk_21 5 (dk_at dksX16_multiply_2 16 rfl rfl)
theorem dX16_multiply_65 : decode cX16_multiply 65 = .ok (.aload_n 2, 1) := dk_44 (dk_at dksX16_multiply_2 18 rfl rfl)
theorem dX16_multiply_66 : decode cX16_multiply 66 = .ok (.getfield 7, 3) := dk_180 0 7 (dk_at dksX16_multiply_2 19 rfl rfl)
theorem dX16_multiply_69 : decode cX16_multiply 69 = .ok (.if_icmp .ge 109, 3) := dk_162 0 109 (dk_at dksX16_multiply_3 0 rfl rfl)
theorem dX16_multiply_72 : decode cX16_multiply 72 = .ok (.lconst 0, 1) := dk_9 (dk_at dksX16_multiply_3 3 rfl rfl)
theorem dX16_multiply_73 : decode cX16_multiply 73 = .ok (.lstore 6, 2) := dk_55 6 (dk_at dksX16_multiply_3 4 rfl rfl)
theorem dX16_multiply_75 : decode cX16_multiply 75 = .ok (.iconst 0, 1) := dk_3 (dk_at dksX16_multiply_3 6 rfl rfl)
theorem dX16_multiply_76 : decode cX16_multiply 76 = .ok (.istore 8, 2) := dk_54 8 (dk_at dksX16_multiply_3 7 rfl rfl)
theorem dX16_multiply_78 : decode cX16_multiply 78 = .ok (.iload 8, 2) := dk_21 8 (dk_at dksX16_multiply_3 9 rfl rfl)
theorem dX16_multiply_80 : decode cX16_multiply 80 = .ok (.aload_n 3, 1) := dk_45 (dk_at dksX16_multiply_3 11 rfl rfl)
theorem dX16_multiply_81 : decode cX16_multiply 81 = .ok (.getfield 7, 3) := dk_180 0 7 (dk_at dksX16_multiply_3 12 rfl rfl)
theorem dX16_multiply_84 : decode cX16_multiply 84 = .ok (.if_icmp .lt 10, 3) := dk_161 0 10 (dk_at dksX16_multiply_3 15 rfl rfl)
theorem dX16_multiply_87 : decode cX16_multiply 87 = .ok (.lload 6, 2) := dk_22 6 (dk_at dksX16_multiply_3 18 rfl rfl)
theorem dX16_multiply_89 : decode cX16_multiply 89 = .ok (.lconst 0, 1) := dk_9 (dk_at dksX16_multiply_3 20 rfl rfl)
theorem dX16_multiply_90 : decode cX16_multiply 90 = .ok (.lcmp, 1) := dk_148 (dk_at dksX16_multiply_3 21 rfl rfl)
theorem dX16_multiply_91 : decode cX16_multiply 91 = .ok (.ifCond .le 81, 3) := dk_158 0 81 (dk_at dksX16_multiply_4 0 rfl rfl)
theorem dX16_multiply_94 : decode cX16_multiply 94 = .ok (.lload 6, 2) := dk_22 6 (dk_at dksX16_multiply_4 3 rfl rfl)
theorem dX16_multiply_96 : decode cX16_multiply 96 = .ok (.aload_n 0, 1) := dk_42 (dk_at dksX16_multiply_4 5 rfl rfl)
theorem dX16_multiply_97 : decode cX16_multiply 97 = .ok (.getfield 40, 3) := dk_180 0 40 (dk_at dksX16_multiply_4 6 rfl rfl)
theorem dX16_multiply_100 : decode cX16_multiply 100 = .ok (.iload 5, 2) := dk_21 5 (dk_at dksX16_multiply_4 9 rfl rfl)
theorem dX16_multiply_102 : decode cX16_multiply 102 = .ok (.iload 8, 2) := dk_21 8 (dk_at dksX16_multiply_4 11 rfl rfl)
theorem dX16_multiply_104 : decode cX16_multiply 104 = .ok (.iadd, 1) := dk_96 (dk_at dksX16_multiply_4 13 rfl rfl)
theorem dX16_multiply_105 : decode cX16_multiply 105 = .ok (.iaload, 1) := dk_46 (dk_at dksX16_multiply_4 14 rfl rfl)
theorem dX16_multiply_106 : decode cX16_multiply 106 = .ok (.i2l, 1) := dk_133 (dk_at dksX16_multiply_4 15 rfl rfl)
theorem dX16_multiply_107 : decode cX16_multiply 107 = .ok (.iload 8, 2) := dk_21 8 (dk_at dksX16_multiply_4 16 rfl rfl)
theorem dX16_multiply_109 : decode cX16_multiply 109 = .ok (.aload_n 3, 1) := dk_45 (dk_at dksX16_multiply_4 18 rfl rfl)
theorem dX16_multiply_110 : decode cX16_multiply 110 = .ok (.getfield 7, 3) := dk_180 0 7 (dk_at dksX16_multiply_4 19 rfl rfl)
theorem dX16_multiply_113 : decode cX16_multiply 113 = .ok (.if_icmp .ge 23, 3) := dk_162 0 23 (dk_at dksX16_multiply_5 0 rfl rfl)
theorem dX16_multiply_116 : decode cX16_multiply 116 = .ok (.aload_n 2, 1) := dk_44 (dk_at dksX16_multiply_5 3 rfl rfl)
theorem dX16_multiply_117 : decode cX16_multiply 117 = .ok (.getfield 11, 3) := dk_180 0 11 (dk_at dksX16_multiply_5 4 rfl rfl)
theorem dX16_multiply_120 : decode cX16_multiply 120 = .ok (.iload 5, 2) := dk_21 5 (dk_at dksX16_multiply_5 7 rfl rfl)
theorem dX16_multiply_122 : decode cX16_multiply 122 = .ok (.iaload, 1) := dk_46 (dk_at dksX16_multiply_5 9 rfl rfl)
theorem dX16_multiply_123 : decode cX16_multiply 123 = .ok (.i2l, 1) := dk_133 (dk_at dksX16_multiply_5 10 rfl rfl)
theorem dX16_multiply_124 : decode cX16_multiply 124 = .ok (.aload_n 3, 1) := dk_45 (dk_at dksX16_multiply_5 11 rfl rfl)
theorem dX16_multiply_125 : decode cX16_multiply 125 = .ok (.getfield 11, 3) := dk_180 0 11 (dk_at dksX16_multiply_5 12 rfl rfl)
theorem dX16_multiply_128 : decode cX16_multiply 128 = .ok (.iload 8, 2) := dk_21 8 (dk_at dksX16_multiply_5 15 rfl rfl)
theorem dX16_multiply_130 : decode cX16_multiply 130 = .ok (.iaload, 1) := dk_46 (dk_at dksX16_multiply_5 17 rfl rfl)
theorem dX16_multiply_131 : decode cX16_multiply 131 = .ok (.i2l, 1) := dk_133 (dk_at dksX16_multiply_5 18 rfl rfl)
theorem dX16_multiply_132 : decode cX16_multiply 132 = .ok (.lmul, 1) := dk_105 (dk_at dksX16_multiply_5 19 rfl rfl)
theorem dX16_multiply_133 : decode cX16_multiply 133 = .ok (.goto 4, 3) := dk_167 0 4 (dk_at dksX16_multiply_5 20 rfl rfl)
theorem dX16_multiply_136 : decode cX16_multiply 136 = .ok (.lconst 0, 1) := dk_9 (dk_at dksX16_multiply_5 23 rfl rfl)
theorem dX16_multiply_137 : decode cX16_multiply 137 = .ok (.ladd, 1) := dk_97 (dk_at dksX16_multiply_6 0 rfl rfl)
theorem dX16_multiply_138 : decode cX16_multiply 138 = .ok (.ladd, 1) := dk_97 (dk_at dksX16_multiply_6 1 rfl rfl)
theorem dX16_multiply_139 : decode cX16_multiply 139 = .ok (.lstore 6, 2) := dk_55 6 (dk_at dksX16_multiply_6 2 rfl rfl)
theorem dX16_multiply_141 : decode cX16_multiply 141 = .ok (.aload_n 0, 1) := dk_42 (dk_at dksX16_multiply_6 4 rfl rfl)
theorem dX16_multiply_142 : decode cX16_multiply 142 = .ok (.getfield 40, 3) := dk_180 0 40 (dk_at dksX16_multiply_6 5 rfl rfl)
theorem dX16_multiply_145 : decode cX16_multiply 145 = .ok (.iload 5, 2) := dk_21 5 (dk_at dksX16_multiply_6 8 rfl rfl)
theorem dX16_multiply_147 : decode cX16_multiply 147 = .ok (.iload 8, 2) := dk_21 8 (dk_at dksX16_multiply_6 10 rfl rfl)
theorem dX16_multiply_149 : decode cX16_multiply 149 = .ok (.iadd, 1) := dk_96 (dk_at dksX16_multiply_6 12 rfl rfl)
theorem dX16_multiply_150 : decode cX16_multiply 150 = .ok (.lload 6, 2) := dk_22 6 (dk_at dksX16_multiply_6 13 rfl rfl)
theorem dX16_multiply_152 : decode cX16_multiply 152 = .ok (.ldc2_w 30, 3) := dk_20 0 30 (dk_at dksX16_multiply_6 15 rfl rfl)
theorem dX16_multiply_155 : decode cX16_multiply 155 = .ok (.lrem, 1) := dk_113 (dk_at dksX16_multiply_6 18 rfl rfl)
theorem dX16_multiply_156 : decode cX16_multiply 156 = .ok (.l2i, 1) := dk_136 (dk_at dksX16_multiply_6 19 rfl rfl)
theorem dX16_multiply_157 : decode cX16_multiply 157 = .ok (.iastore, 1) := dk_79 (dk_at dksX16_multiply_6 20 rfl rfl)
theorem dX16_multiply_158 : decode cX16_multiply 158 = .ok (.lload 6, 2) := dk_22 6 (dk_at dksX16_multiply_6 21 rfl rfl)
theorem dX16_multiply_160 : decode cX16_multiply 160 = .ok (.ldc2_w 30, 3) := dk_20 0 30 (dk_at dksX16_multiply_7 0 rfl rfl)
theorem dX16_multiply_163 : decode cX16_multiply 163 = .ok (.ldiv, 1) := dk_109 (dk_at dksX16_multiply_7 3 rfl rfl)
theorem dX16_multiply_164 : decode cX16_multiply 164 = .ok (.lstore 6, 2) := dk_55 6 (dk_at dksX16_multiply_7 4 rfl rfl)
theorem dX16_multiply_166 : decode cX16_multiply 166 = .ok (.iinc 8 1, 3) := dk_132 8 1 (dk_at dksX16_multiply_7 6 rfl rfl)
theorem dX16_multiply_169 : decode cX16_multiply 169 = .ok (.goto (-91), 3) := dk_167 255 165 (dk_at dksX16_multiply_7 9 rfl rfl)
theorem dX16_multiply_172 : decode cX16_multiply 172 = .ok (.iinc 5 1, 3) := dk_132 5 1 (dk_at dksX16_multiply_7 12 rfl rfl)
theorem dX16_multiply_175 : decode cX16_multiply 175 = .ok (.goto (-112), 3) := dk_167 255 144 (dk_at dksX16_multiply_7 15 rfl rfl)
theorem dX16_multiply_178 : decode cX16_multiply 178 = .ok (.aload_n 2, 1) := dk_44 (dk_at dksX16_multiply_7 18 rfl rfl)
theorem dX16_multiply_179 : decode cX16_multiply 179 = .ok (.getfield 15, 3) := dk_180 0 15 (dk_at dksX16_multiply_7 19 rfl rfl)
theorem dX16_multiply_182 : decode cX16_multiply 182 = .ok (.aload_n 3, 1) := dk_45 (dk_at dksX16_multiply_7 22 rfl rfl)
theorem dX16_multiply_183 : decode cX16_multiply 183 = .ok (.getfield 15, 3) := dk_180 0 15 (dk_at dksX16_multiply_8 0 rfl rfl)
theorem dX16_multiply_186 : decode cX16_multiply 186 = .ok (.imul, 1) := dk_104 (dk_at dksX16_multiply_8 3 rfl rfl)
theorem dX16_multiply_187 : decode cX16_multiply 187 = .ok (.istore 5, 2) := dk_54 5 (dk_at dksX16_multiply_8 4 rfl rfl)
theorem dX16_multiply_189 : decode cX16_multiply 189 = .ok (.iload 4, 2) := dk_21 4 (dk_at dksX16_multiply_8 6 rfl rfl)
theorem dX16_multiply_191 : decode cX16_multiply 191 = .ok (.aload_n 0, 1) := dk_42 (dk_at dksX16_multiply_8 8 rfl rfl)
theorem dX16_multiply_192 : decode cX16_multiply 192 = .ok (.getfield 40, 3) := dk_180 0 40 (dk_at dksX16_multiply_8 9 rfl rfl)
theorem dX16_multiply_195 : decode cX16_multiply 195 = .ok (.iload 4, 2) := dk_21 4 (dk_at dksX16_multiply_8 12 rfl rfl)
theorem dX16_multiply_197 : decode cX16_multiply 197 = .ok (.iconst 1, 1) := dk_4 (dk_at dksX16_multiply_8 14 rfl rfl)
theorem dX16_multiply_198 : decode cX16_multiply 198 = .ok (.isub, 1) := dk_100 (dk_at dksX16_multiply_8 15 rfl rfl)
theorem dX16_multiply_199 : decode cX16_multiply 199 = .ok (.iaload, 1) := dk_46 (dk_at dksX16_multiply_8 16 rfl rfl)
theorem dX16_multiply_200 : decode cX16_multiply 200 = .ok (.ifCond .ne 7, 3) := dk_154 0 7 (dk_at dksX16_multiply_8 17 rfl rfl)
theorem dX16_multiply_203 : decode cX16_multiply 203 = .ok (.iconst 1, 1) := dk_4 (dk_at dksX16_multiply_8 20 rfl rfl)
theorem dX16_multiply_204 : decode cX16_multiply 204 = .ok (.goto 4, 3) := dk_167 0 4 (dk_at dksX16_multiply_8 21 rfl rfl)
theorem dX16_multiply_207 : decode cX16_multiply 207 = .ok (.iconst 0, 1) := dk_3 (dk_at dksX16_multiply_9 0 rfl rfl)
theorem dX16_multiply_208 : decode cX16_multiply 208 = .ok (.isub, 1) := dk_100 (dk_at dksX16_multiply_9 1 rfl rfl)
theorem dX16_multiply_209 : decode cX16_multiply 209 = .ok (.istore 4, 2) := dk_54 4 (dk_at dksX16_multiply_9 2 rfl rfl)
theorem dX16_multiply_211 : decode cX16_multiply 211 = .ok (.iconst 0, 1) := dk_3 (dk_at dksX16_multiply_9 4 rfl rfl)
theorem dX16_multiply_212 : decode cX16_multiply 212 = .ok (.istore 6, 2) := dk_54 6 (dk_at dksX16_multiply_9 5 rfl rfl)
theorem dX16_multiply_214 : decode cX16_multiply 214 = .ok (.iload 6, 2) := dk_21 6 (dk_at dksX16_multiply_9 7 rfl rfl)
theorem dX16_multiply_216 : decode cX16_multiply 216 = .ok (.iload 4, 2) := dk_21 4 (dk_at dksX16_multiply_9 9 rfl rfl)
theorem dX16_multiply_218 : decode cX16_multiply 218 = .ok (.if_icmp .ge 23, 3) := dk_162 0 23 (dk_at dksX16_multiply_9 11 rfl rfl)
theorem dX16_multiply_221 : decode cX16_multiply 221 = .ok (.aload_n 1, 1) := dk_43 (dk_at dksX16_multiply_9 14 rfl rfl)
theorem dX16_multiply_222 : decode cX16_multiply 222 = .ok (.getfield 11, 3) := dk_180 0 11 (dk_at dksX16_multiply_9 15 rfl rfl)
theorem dX16_multiply_225 : decode cX16_multiply 225 = .ok (.iload 6, 2) := dk_21 6 (dk_at dksX16_multiply_9 18 rfl rfl)
theorem dX16_multiply_227 : decode cX16_multiply 227 = .ok (.aload_n 0, 1) := dk_42 (dk_at dksX16_multiply_9 20 rfl rfl)
theorem dX16_multiply_228 : decode cX16_multiply 228 = .ok (.getfield 40, 3) := dk_180 0 40 (dk_at dksX16_multiply_9 21 rfl rfl)
theorem dX16_multiply_231 : decode cX16_multiply 231 = .ok (.iload 6, 2) := dk_21 6 (dk_at dksX16_multiply_10 0 rfl rfl)
theorem dX16_multiply_233 : decode cX16_multiply 233 = .ok (.iaload, 1) := dk_46 (dk_at dksX16_multiply_10 2 rfl rfl)
theorem dX16_multiply_234 : decode cX16_multiply 234 = .ok (.iastore, 1) := dk_79 (dk_at dksX16_multiply_10 3 rfl rfl)
theorem dX16_multiply_235 : decode cX16_multiply 235 = .ok (.iinc 6 1, 3) := dk_132 6 1 (dk_at dksX16_multiply_10 4 rfl rfl)
theorem dX16_multiply_238 : decode cX16_multiply 238 = .ok (.goto (-24), 3) := dk_167 255 232 (dk_at dksX16_multiply_10 7 rfl rfl)
theorem dX16_multiply_241 : decode cX16_multiply 241 = .ok (.aload_n 1, 1) := dk_43 (dk_at dksX16_multiply_10 10 rfl rfl)
theorem dX16_multiply_242 : decode cX16_multiply 242 = .ok (.iload 4, 2) := dk_21 4 (dk_at dksX16_multiply_10 11 rfl rfl)
theorem dX16_multiply_244 : decode cX16_multiply 244 = .ok (.putfield 7, 3) := dk_181 0 7 (dk_at dksX16_multiply_10 13 rfl rfl)
theorem dX16_multiply_247 : decode cX16_multiply 247 = .ok (.aload_n 1, 1) := dk_43 (dk_at dksX16_multiply_10 16 rfl rfl)
theorem dX16_multiply_248 : decode cX16_multiply 248 = .ok (.iload 5, 2) := dk_21 5 (dk_at dksX16_multiply_10 17 rfl rfl)
theorem dX16_multiply_250 : decode cX16_multiply 250 = .ok (.putfield 15, 3) := dk_181 0 15 (dk_at dksX16_multiply_10 19 rfl rfl)
theorem dX16_multiply_253 : decode cX16_multiply 253 = .ok (.return_, 1) := dk_177 (dk_at dksX16_multiply_10 22 rfl rfl)
abbrev cX16_add : ByteArray := prog_21_method_4_code
def yX16_add : MethodName := ⟨RX16, "add", "(LIdealCourtModel$Num;LIdealCourtModel$Num;LIdealCourtModel$Num;I)V"⟩
def dkwX16_add_17 : List UInt8 := [21, 9, 184, 0, 36, 42, 21, 8, 181, 0, 15, 177]
abbrev dktX16_add_17 : List UInt8 := dkwX16_add_17 ++ []
def dkwX16_add_16 : List UInt8 := [156, 0, 12, 22, 14, 20, 0, 30, 97, 167, 0, 5, 22, 14, 136, 79, 132, 13, 1, 167, 255, 171, 42]
abbrev dktX16_add_16 : List UInt8 := dkwX16_add_16 ++ dktX16_add_17
def dkwX16_add_15 : List UInt8 := [22, 14, 9, 148, 156, 0, 7, 10, 167, 0, 4, 9, 55, 11, 42, 180, 0, 11, 21, 13, 22, 14, 9, 148]
abbrev dktX16_add_15 : List UInt8 := dkwX16_add_15 ++ dktX16_add_16
def dkwX16_add_14 : List UInt8 := [101, 21, 13, 21, 10, 162, 0, 14, 25, 7, 180, 0, 11, 21, 13, 46, 167, 0, 4, 3, 133, 101, 55, 14]
abbrev dktX16_add_14 : List UInt8 := dkwX16_add_14 ++ dktX16_add_15
def dkwX16_add_13 : List UInt8 := [9, 55, 11, 3, 54, 13, 21, 13, 21, 9, 162, 0, 84, 25, 6, 180, 0, 11, 21, 13, 46, 133, 22, 11]
abbrev dktX16_add_13 : List UInt8 := dkwX16_add_13 ++ dktX16_add_14
def dkwX16_add_12 : List UInt8 := [180, 0, 15, 167, 0, 5, 21, 4, 54, 8, 25, 6, 180, 0, 7, 54, 9, 25, 7, 180, 0, 7, 54, 10]
abbrev dktX16_add_12 : List UInt8 := dkwX16_add_12 ++ dktX16_add_13
def dkwX16_add_11 : List UInt8 := [167, 0, 4, 44, 58, 6, 21, 5, 158, 0, 7, 44, 167, 0, 4, 43, 58, 7, 21, 5, 158, 0, 10, 43]
abbrev dktX16_add_11 : List UInt8 := dkwX16_add_11 ++ dktX16_add_12
def dkwX16_add_10 : List UInt8 := [21, 5, 154, 0, 14, 42, 3, 181, 0, 15, 42, 3, 181, 0, 7, 177, 21, 5, 158, 0, 7, 43]
abbrev dktX16_add_10 : List UInt8 := dkwX16_add_10 ++ dktX16_add_11
def dkwX16_add_9 : List UInt8 := [21, 5, 22, 6, 136, 79, 42, 89, 180, 0, 7, 4, 96, 181, 0, 7, 177, 43, 44, 184, 0, 32, 54, 5]
abbrev dktX16_add_9 : List UInt8 := dkwX16_add_9 ++ dktX16_add_10
def dkwX16_add_8 : List UInt8 := [42, 21, 5, 181, 0, 7, 42, 21, 10, 181, 0, 15, 22, 6, 9, 148, 158, 0, 23, 42, 180, 0, 11]
abbrev dktX16_add_8 : List UInt8 := dkwX16_add_8 ++ dktX16_add_9
def dkwX16_add_7 : List UInt8 := [21, 11, 22, 6, 20, 0, 30, 113, 136, 79, 22, 6, 20, 0, 30, 109, 55, 6, 132, 11, 1, 167, 255, 180]
abbrev dktX16_add_7 : List UInt8 := dkwX16_add_7 ++ dktX16_add_8
def dkwX16_add_6 : List UInt8 := [162, 0, 13, 44, 180, 0, 11, 21, 11, 46, 167, 0, 4, 3, 133, 97, 97, 55, 6, 42, 180, 0, 11]
abbrev dktX16_add_6 : List UInt8 := dkwX16_add_6 ++ dktX16_add_7
def dkwX16_add_5 : List UInt8 := [21, 11, 21, 8, 162, 0, 13, 43, 180, 0, 11, 21, 11, 46, 167, 0, 4, 3, 133, 21, 11, 21, 9]
abbrev dktX16_add_5 : List UInt8 := dkwX16_add_5 ++ dktX16_add_6
def dkwX16_add_4 : List UInt8 := [180, 0, 7, 54, 9, 43, 180, 0, 15, 54, 10, 3, 54, 11, 21, 11, 21, 5, 162, 0, 75, 22, 6]
abbrev dktX16_add_4 : List UInt8 := dkwX16_add_4 ++ dktX16_add_5
def dkwX16_add_3 : List UInt8 := [180, 0, 7, 44, 180, 0, 7, 184, 0, 22, 54, 5, 9, 55, 6, 43, 180, 0, 7, 54, 8, 44]
abbrev dktX16_add_3 : List UInt8 := dkwX16_add_3 ++ dktX16_add_4
def dkwX16_add_2 : List UInt8 := [167, 0, 4, 43, 182, 0, 18, 42, 21, 5, 181, 0, 15, 177, 43, 180, 0, 15, 21, 4, 160, 0, 159, 43]
abbrev dktX16_add_2 : List UInt8 := dkwX16_add_2 ++ dktX16_add_3
def dkwX16_add_1 : List UInt8 := [154, 0, 8, 21, 4, 167, 0, 7, 43, 180, 0, 15, 54, 5, 42, 43, 180, 0, 15, 154, 0, 7, 44]
abbrev dktX16_add_1 : List UInt8 := dkwX16_add_1 ++ dktX16_add_2
def dkwX16_add_0 : List UInt8 := [44, 180, 0, 15, 29, 104, 54, 4, 21, 4, 153, 0, 10, 43, 180, 0, 15, 154, 0, 44, 43, 180, 0, 15]
abbrev dktX16_add_0 : List UInt8 := dkwX16_add_0 ++ dktX16_add_1
theorem dksX16_add_0 : cX16_add.data.toList.drop 0 = dktX16_add_0 := by decide +kernel
theorem dksX16_add_1 : cX16_add.data.toList.drop 24 = dktX16_add_1 := dk_seg dksX16_add_0 24 rfl rfl
theorem dksX16_add_2 : cX16_add.data.toList.drop 47 = dktX16_add_2 := dk_seg dksX16_add_1 23 rfl rfl
theorem dksX16_add_3 : cX16_add.data.toList.drop 71 = dktX16_add_3 := dk_seg dksX16_add_2 24 rfl rfl
theorem dksX16_add_4 : cX16_add.data.toList.drop 93 = dktX16_add_4 := dk_seg dksX16_add_3 22 rfl rfl
theorem dksX16_add_5 : cX16_add.data.toList.drop 116 = dktX16_add_5 := dk_seg dksX16_add_4 23 rfl rfl
theorem dksX16_add_6 : cX16_add.data.toList.drop 139 = dktX16_add_6 := dk_seg dksX16_add_5 23 rfl rfl
theorem dksX16_add_7 : cX16_add.data.toList.drop 162 = dktX16_add_7 := dk_seg dksX16_add_6 23 rfl rfl
theorem dksX16_add_8 : cX16_add.data.toList.drop 186 = dktX16_add_8 := dk_seg dksX16_add_7 24 rfl rfl
theorem dksX16_add_9 : cX16_add.data.toList.drop 209 = dktX16_add_9 := dk_seg dksX16_add_8 23 rfl rfl
theorem dksX16_add_10 : cX16_add.data.toList.drop 233 = dktX16_add_10 := dk_seg dksX16_add_9 24 rfl rfl
theorem dksX16_add_11 : cX16_add.data.toList.drop 255 = dktX16_add_11 := dk_seg dksX16_add_10 22 rfl rfl
theorem dksX16_add_12 : cX16_add.data.toList.drop 279 = dktX16_add_12 := dk_seg dksX16_add_11 24 rfl rfl
theorem dksX16_add_13 : cX16_add.data.toList.drop 303 = dktX16_add_13 := dk_seg dksX16_add_12 24 rfl rfl
theorem dksX16_add_14 : cX16_add.data.toList.drop 327 = dktX16_add_14 := dk_seg dksX16_add_13 24 rfl rfl
theorem dksX16_add_15 : cX16_add.data.toList.drop 351 = dktX16_add_15 := dk_seg dksX16_add_14 24 rfl rfl
theorem dksX16_add_16 : cX16_add.data.toList.drop 375 = dktX16_add_16 := dk_seg dksX16_add_15 24 rfl rfl
theorem dksX16_add_17 : cX16_add.data.toList.drop 398 = dktX16_add_17 := dk_seg dksX16_add_16 23 rfl rfl
theorem dX16_add_0 : decode cX16_add 0 = .ok (.aload_n 2, 1) := dk_44 (dk_at dksX16_add_0 0 rfl rfl)
theorem dX16_add_1 : decode cX16_add 1 = .ok (.getfield 15, 3) := dk_180 0 15 (dk_at dksX16_add_0 1 rfl rfl)
theorem dX16_add_4 : decode cX16_add 4 = .ok (.iload_n 3, 1) := dk_29 (dk_at dksX16_add_0 4 rfl rfl)
theorem dX16_add_5 : decode cX16_add 5 = .ok (.imul, 1) := dk_104 (dk_at dksX16_add_0 5 rfl rfl)
theorem dX16_add_6 : decode cX16_add 6 = .ok (.istore 4, 2) := dk_54 4 (dk_at dksX16_add_0 6 rfl rfl)
theorem dX16_add_8 : decode cX16_add 8 = .ok (.iload 4, 2) := dk_21 4 (dk_at dksX16_add_0 8 rfl rfl)
theorem dX16_add_10 : decode cX16_add 10 = .ok (.ifCond .eq 10, 3) := dk_153 0 10 (dk_at dksX16_add_0 10 rfl rfl)
theorem dX16_add_13 : decode cX16_add 13 = .ok (.aload_n 1, 1) := dk_43 (dk_at dksX16_add_0 13 rfl rfl)
theorem dX16_add_14 : decode cX16_add 14 = .ok (.getfield 15, 3) := dk_180 0 15 (dk_at dksX16_add_0 14 rfl rfl)
theorem dX16_add_17 : decode cX16_add 17 = .ok (.ifCond .ne 44, 3) := dk_154 0 44 (dk_at dksX16_add_0 17 rfl rfl)
theorem dX16_add_20 : decode cX16_add 20 = .ok (.aload_n 1, 1) := dk_43 (dk_at dksX16_add_0 20 rfl rfl)
theorem dX16_add_21 : decode cX16_add 21 = .ok (.getfield 15, 3) := dk_180 0 15 (dk_at dksX16_add_0 21 rfl rfl)
theorem dX16_add_24 : decode cX16_add 24 = .ok (.ifCond .ne 8, 3) := dk_154 0 8 (dk_at dksX16_add_1 0 rfl rfl)
theorem dX16_add_27 : decode cX16_add 27 = .ok (.iload 4, 2) := dk_21 4 (dk_at dksX16_add_1 3 rfl rfl)
theorem dX16_add_29 : decode cX16_add 29 = .ok (.goto 7, 3) := dk_167 0 7 (dk_at dksX16_add_1 5 rfl rfl)
theorem dX16_add_32 : decode cX16_add 32 = .ok (.aload_n 1, 1) := dk_43 (dk_at dksX16_add_1 8 rfl rfl)
theorem dX16_add_33 : decode cX16_add 33 = .ok (.getfield 15, 3) := dk_180 0 15 (dk_at dksX16_add_1 9 rfl rfl)
theorem dX16_add_36 : decode cX16_add 36 = .ok (.istore 5, 2) := dk_54 5 (dk_at dksX16_add_1 12 rfl rfl)
theorem dX16_add_38 : decode cX16_add 38 = .ok (.aload_n 0, 1) := dk_42 (dk_at dksX16_add_1 14 rfl rfl)
theorem dX16_add_39 : decode cX16_add 39 = .ok (.aload_n 1, 1) := dk_43 (dk_at dksX16_add_1 15 rfl rfl)
theorem dX16_add_40 : decode cX16_add 40 = .ok (.getfield 15, 3) := dk_180 0 15 (dk_at dksX16_add_1 16 rfl rfl)
theorem dX16_add_43 : decode cX16_add 43 = .ok (.ifCond .ne 7, 3) := dk_154 0 7 (dk_at dksX16_add_1 19 rfl rfl)
theorem dX16_add_46 : decode cX16_add 46 = .ok (.aload_n 2, 1) := dk_44 (dk_at dksX16_add_1 22 rfl rfl)
theorem dX16_add_47 : decode cX16_add 47 = .ok (.goto 4, 3) := dk_167 0 4 (dk_at dksX16_add_2 0 rfl rfl)
theorem dX16_add_50 : decode cX16_add 50 = .ok (.aload_n 1, 1) := dk_43 (dk_at dksX16_add_2 3 rfl rfl)
theorem dX16_add_51 : decode cX16_add 51 = .ok (.invokevirtual 18, 3) := dk_182 0 18 (dk_at dksX16_add_2 4 rfl rfl)
theorem dX16_add_54 : decode cX16_add 54 = .ok (.aload_n 0, 1) := dk_42 (dk_at dksX16_add_2 7 rfl rfl)
theorem dX16_add_55 : decode cX16_add 55 = .ok (.iload 5, 2) := dk_21 5 (dk_at dksX16_add_2 8 rfl rfl)
theorem dX16_add_57 : decode cX16_add 57 = .ok (.putfield 15, 3) := dk_181 0 15 (dk_at dksX16_add_2 10 rfl rfl)
theorem dX16_add_60 : decode cX16_add 60 = .ok (.return_, 1) := dk_177 (dk_at dksX16_add_2 13 rfl rfl)
theorem dX16_add_61 : decode cX16_add 61 = .ok (.aload_n 1, 1) := dk_43 (dk_at dksX16_add_2 14 rfl rfl)
theorem dX16_add_62 : decode cX16_add 62 = .ok (.getfield 15, 3) := dk_180 0 15 (dk_at dksX16_add_2 15 rfl rfl)
theorem dX16_add_65 : decode cX16_add 65 = .ok (.iload 4, 2) := dk_21 4 (dk_at dksX16_add_2 18 rfl rfl)
theorem dX16_add_67 : decode cX16_add 67 = .ok (.if_icmp .ne 159, 3) := dk_160 0 159 (dk_at dksX16_add_2 20 rfl rfl)
theorem dX16_add_70 : decode cX16_add 70 = .ok (.aload_n 1, 1) := dk_43 (dk_at dksX16_add_2 23 rfl rfl)
theorem dX16_add_71 : decode cX16_add 71 = .ok (.getfield 7, 3) := dk_180 0 7 (dk_at dksX16_add_3 0 rfl rfl)
theorem dX16_add_74 : decode cX16_add 74 = .ok (.aload_n 2, 1) := dk_44 (dk_at dksX16_add_3 3 rfl rfl)
theorem dX16_add_75 : decode cX16_add 75 = .ok (.getfield 7, 3) := dk_180 0 7 (dk_at dksX16_add_3 4 rfl rfl)
theorem dX16_add_78 : decode cX16_add 78 = .ok (.invokestatic 22, 3) := dk_184 0 22 (dk_at dksX16_add_3 7 rfl rfl)
theorem dX16_add_81 : decode cX16_add 81 = .ok (.istore 5, 2) := dk_54 5 (dk_at dksX16_add_3 10 rfl rfl)
theorem dX16_add_83 : decode cX16_add 83 = .ok (.lconst 0, 1) := dk_9 (dk_at dksX16_add_3 12 rfl rfl)
theorem dX16_add_84 : decode cX16_add 84 = .ok (.lstore 6, 2) := dk_55 6 (dk_at dksX16_add_3 13 rfl rfl)
theorem dX16_add_86 : decode cX16_add 86 = .ok (.aload_n 1, 1) := dk_43 (dk_at dksX16_add_3 15 rfl rfl)
theorem dX16_add_87 : decode cX16_add 87 = .ok (.getfield 7, 3) := dk_180 0 7 (dk_at dksX16_add_3 16 rfl rfl)
theorem dX16_add_90 : decode cX16_add 90 = .ok (.istore 8, 2) := dk_54 8 (dk_at dksX16_add_3 19 rfl rfl)
theorem dX16_add_92 : decode cX16_add 92 = .ok (.aload_n 2, 1) := dk_44 (dk_at dksX16_add_3 21 rfl rfl)
theorem dX16_add_93 : decode cX16_add 93 = .ok (.getfield 7, 3) := dk_180 0 7 (dk_at dksX16_add_4 0 rfl rfl)
theorem dX16_add_96 : decode cX16_add 96 = .ok (.istore 9, 2) := dk_54 9 (dk_at dksX16_add_4 3 rfl rfl)
theorem dX16_add_98 : decode cX16_add 98 = .ok (.aload_n 1, 1) := dk_43 (dk_at dksX16_add_4 5 rfl rfl)
theorem dX16_add_99 : decode cX16_add 99 = .ok (.getfield 15, 3) := dk_180 0 15 (dk_at dksX16_add_4 6 rfl rfl)
theorem dX16_add_102 : decode cX16_add 102 = .ok (.istore 10, 2) := dk_54 10 (dk_at dksX16_add_4 9 rfl rfl)
theorem dX16_add_104 : decode cX16_add 104 = .ok (.iconst 0, 1) := dk_3 (dk_at dksX16_add_4 11 rfl rfl)
theorem dX16_add_105 : decode cX16_add 105 = .ok (.istore 11, 2) := dk_54 11 (dk_at dksX16_add_4 12 rfl rfl)
theorem dX16_add_107 : decode cX16_add 107 = .ok (.iload 11, 2) := dk_21 11 (dk_at dksX16_add_4 14 rfl rfl)
theorem dX16_add_109 : decode cX16_add 109 = .ok (.iload 5, 2) := dk_21 5 (dk_at dksX16_add_4 16 rfl rfl)
theorem dX16_add_111 : decode cX16_add 111 = .ok (.if_icmp .ge 75, 3) := dk_162 0 75 (dk_at dksX16_add_4 18 rfl rfl)
theorem dX16_add_114 : decode cX16_add 114 = .ok (.lload 6, 2) := dk_22 6 (dk_at dksX16_add_4 21 rfl rfl)
theorem dX16_add_116 : decode cX16_add 116 = .ok (.iload 11, 2) := dk_21 11 (dk_at dksX16_add_5 0 rfl rfl)
theorem dX16_add_118 : decode cX16_add 118 = .ok (.iload 8, 2) := dk_21 8 (dk_at dksX16_add_5 2 rfl rfl)
theorem dX16_add_120 : decode cX16_add 120 = .ok (.if_icmp .ge 13, 3) := dk_162 0 13 (dk_at dksX16_add_5 4 rfl rfl)
theorem dX16_add_123 : decode cX16_add 123 = .ok (.aload_n 1, 1) := dk_43 (dk_at dksX16_add_5 7 rfl rfl)
theorem dX16_add_124 : decode cX16_add 124 = .ok (.getfield 11, 3) := dk_180 0 11 (dk_at dksX16_add_5 8 rfl rfl)
theorem dX16_add_127 : decode cX16_add 127 = .ok (.iload 11, 2) := dk_21 11 (dk_at dksX16_add_5 11 rfl rfl)
theorem dX16_add_129 : decode cX16_add 129 = .ok (.iaload, 1) := dk_46 (dk_at dksX16_add_5 13 rfl rfl)
theorem dX16_add_130 : decode cX16_add 130 = .ok (.goto 4, 3) := dk_167 0 4 (dk_at dksX16_add_5 14 rfl rfl)
theorem dX16_add_133 : decode cX16_add 133 = .ok (.iconst 0, 1) := dk_3 (dk_at dksX16_add_5 17 rfl rfl)
theorem dX16_add_134 : decode cX16_add 134 = .ok (.i2l, 1) := dk_133 (dk_at dksX16_add_5 18 rfl rfl)
theorem dX16_add_135 : decode cX16_add 135 = .ok (.iload 11, 2) := dk_21 11 (dk_at dksX16_add_5 19 rfl rfl)
theorem dX16_add_137 : decode cX16_add 137 = .ok (.iload 9, 2) := dk_21 9 (dk_at dksX16_add_5 21 rfl rfl)
theorem dX16_add_139 : decode cX16_add 139 = .ok (.if_icmp .ge 13, 3) := dk_162 0 13 (dk_at dksX16_add_6 0 rfl rfl)
theorem dX16_add_142 : decode cX16_add 142 = .ok (.aload_n 2, 1) := dk_44 (dk_at dksX16_add_6 3 rfl rfl)
theorem dX16_add_143 : decode cX16_add 143 = .ok (.getfield 11, 3) := dk_180 0 11 (dk_at dksX16_add_6 4 rfl rfl)
theorem dX16_add_146 : decode cX16_add 146 = .ok (.iload 11, 2) := dk_21 11 (dk_at dksX16_add_6 7 rfl rfl)
theorem dX16_add_148 : decode cX16_add 148 = .ok (.iaload, 1) := dk_46 (dk_at dksX16_add_6 9 rfl rfl)
theorem dX16_add_149 : decode cX16_add 149 = .ok (.goto 4, 3) := dk_167 0 4 (dk_at dksX16_add_6 10 rfl rfl)
theorem dX16_add_152 : decode cX16_add 152 = .ok (.iconst 0, 1) := dk_3 (dk_at dksX16_add_6 13 rfl rfl)
theorem dX16_add_153 : decode cX16_add 153 = .ok (.i2l, 1) := dk_133 (dk_at dksX16_add_6 14 rfl rfl)
theorem dX16_add_154 : decode cX16_add 154 = .ok (.ladd, 1) := dk_97 (dk_at dksX16_add_6 15 rfl rfl)
theorem dX16_add_155 : decode cX16_add 155 = .ok (.ladd, 1) := dk_97 (dk_at dksX16_add_6 16 rfl rfl)
theorem dX16_add_156 : decode cX16_add 156 = .ok (.lstore 6, 2) := dk_55 6 (dk_at dksX16_add_6 17 rfl rfl)
theorem dX16_add_158 : decode cX16_add 158 = .ok (.aload_n 0, 1) := dk_42 (dk_at dksX16_add_6 19 rfl rfl)
theorem dX16_add_159 : decode cX16_add 159 = .ok (.getfield 11, 3) := dk_180 0 11 (dk_at dksX16_add_6 20 rfl rfl)
theorem dX16_add_162 : decode cX16_add 162 = .ok (.iload 11, 2) := dk_21 11 (dk_at dksX16_add_7 0 rfl rfl)
theorem dX16_add_164 : decode cX16_add 164 = .ok (.lload 6, 2) := dk_22 6 (dk_at dksX16_add_7 2 rfl rfl)
theorem dX16_add_166 : decode cX16_add 166 = .ok (.ldc2_w 30, 3) := dk_20 0 30 (dk_at dksX16_add_7 4 rfl rfl)
theorem dX16_add_169 : decode cX16_add 169 = .ok (.lrem, 1) := dk_113 (dk_at dksX16_add_7 7 rfl rfl)
theorem dX16_add_170 : decode cX16_add 170 = .ok (.l2i, 1) := dk_136 (dk_at dksX16_add_7 8 rfl rfl)
theorem dX16_add_171 : decode cX16_add 171 = .ok (.iastore, 1) := dk_79 (dk_at dksX16_add_7 9 rfl rfl)
theorem dX16_add_172 : decode cX16_add 172 = .ok (.lload 6, 2) := dk_22 6 (dk_at dksX16_add_7 10 rfl rfl)
theorem dX16_add_174 : decode cX16_add 174 = .ok (.ldc2_w 30, 3) := dk_20 0 30 (dk_at dksX16_add_7 12 rfl rfl)
theorem dX16_add_177 : decode cX16_add 177 = .ok (.ldiv, 1) := dk_109 (dk_at dksX16_add_7 15 rfl rfl)
theorem dX16_add_178 : decode cX16_add 178 = .ok (.lstore 6, 2) := dk_55 6 (dk_at dksX16_add_7 16 rfl rfl)
theorem dX16_add_180 : decode cX16_add 180 = .ok (.iinc 11 1, 3) := dk_132 11 1 (dk_at dksX16_add_7 18 rfl rfl)
theorem dX16_add_183 : decode cX16_add 183 = .ok (.goto (-76), 3) := dk_167 255 180 (dk_at dksX16_add_7 21 rfl rfl)
theorem dX16_add_186 : decode cX16_add 186 = .ok (.aload_n 0, 1) := dk_42 (dk_at dksX16_add_8 0 rfl rfl)
theorem dX16_add_187 : decode cX16_add 187 = .ok (.iload 5, 2) := dk_21 5 (dk_at dksX16_add_8 1 rfl rfl)
theorem dX16_add_189 : decode cX16_add 189 = .ok (.putfield 7, 3) := dk_181 0 7 (dk_at dksX16_add_8 3 rfl rfl)
theorem dX16_add_192 : decode cX16_add 192 = .ok (.aload_n 0, 1) := dk_42 (dk_at dksX16_add_8 6 rfl rfl)
theorem dX16_add_193 : decode cX16_add 193 = .ok (.iload 10, 2) := dk_21 10 (dk_at dksX16_add_8 7 rfl rfl)
theorem dX16_add_195 : decode cX16_add 195 = .ok (.putfield 15, 3) := dk_181 0 15 (dk_at dksX16_add_8 9 rfl rfl)
theorem dX16_add_198 : decode cX16_add 198 = .ok (.lload 6, 2) := dk_22 6 (dk_at dksX16_add_8 12 rfl rfl)
theorem dX16_add_200 : decode cX16_add 200 = .ok (.lconst 0, 1) := dk_9 (dk_at dksX16_add_8 14 rfl rfl)
theorem dX16_add_201 : decode cX16_add 201 = .ok (.lcmp, 1) := dk_148 (dk_at dksX16_add_8 15 rfl rfl)
theorem dX16_add_202 : decode cX16_add 202 = .ok (.ifCond .le 23, 3) := dk_158 0 23 (dk_at dksX16_add_8 16 rfl rfl)
theorem dX16_add_205 : decode cX16_add 205 = .ok (.aload_n 0, 1) := dk_42 (dk_at dksX16_add_8 19 rfl rfl)
theorem dX16_add_206 : decode cX16_add 206 = .ok (.getfield 11, 3) := dk_180 0 11 (dk_at dksX16_add_8 20 rfl rfl)
theorem dX16_add_209 : decode cX16_add 209 = .ok (.iload 5, 2) := dk_21 5 (dk_at dksX16_add_9 0 rfl rfl)
theorem dX16_add_211 : decode cX16_add 211 = .ok (.lload 6, 2) := dk_22 6 (dk_at dksX16_add_9 2 rfl rfl)
theorem dX16_add_213 : decode cX16_add 213 = .ok (.l2i, 1) := dk_136 (dk_at dksX16_add_9 4 rfl rfl)
theorem dX16_add_214 : decode cX16_add 214 = .ok (.iastore, 1) := dk_79 (dk_at dksX16_add_9 5 rfl rfl)
theorem dX16_add_215 : decode cX16_add 215 = .ok (.aload_n 0, 1) := dk_42 (dk_at dksX16_add_9 6 rfl rfl)
theorem dX16_add_216 : decode cX16_add 216 = .ok (.dup, 1) := dk_89 (dk_at dksX16_add_9 7 rfl rfl)
theorem dX16_add_217 : decode cX16_add 217 = .ok (.getfield 7, 3) := dk_180 0 7 (dk_at dksX16_add_9 8 rfl rfl)
theorem dX16_add_220 : decode cX16_add 220 = .ok (.iconst 1, 1) := dk_4 (dk_at dksX16_add_9 11 rfl rfl)
theorem dX16_add_221 : decode cX16_add 221 = .ok (.iadd, 1) := dk_96 (dk_at dksX16_add_9 12 rfl rfl)
theorem dX16_add_222 : decode cX16_add 222 = .ok (.putfield 7, 3) := dk_181 0 7 (dk_at dksX16_add_9 13 rfl rfl)
theorem dX16_add_225 : decode cX16_add 225 = .ok (.return_, 1) := dk_177 (dk_at dksX16_add_9 16 rfl rfl)
theorem dX16_add_226 : decode cX16_add 226 = .ok (.aload_n 1, 1) := dk_43 (dk_at dksX16_add_9 17 rfl rfl)
theorem dX16_add_227 : decode cX16_add 227 = .ok (.aload_n 2, 1) := dk_44 (dk_at dksX16_add_9 18 rfl rfl)
theorem dX16_add_228 : decode cX16_add 228 = .ok (.invokestatic 32, 3) := dk_184 0 32 (dk_at dksX16_add_9 19 rfl rfl)
theorem dX16_add_231 : decode cX16_add 231 = .ok (.istore 5, 2) := dk_54 5 (dk_at dksX16_add_9 22 rfl rfl)
theorem dX16_add_233 : decode cX16_add 233 = .ok (.iload 5, 2) := dk_21 5 (dk_at dksX16_add_10 0 rfl rfl)
theorem dX16_add_235 : decode cX16_add 235 = .ok (.ifCond .ne 14, 3) := dk_154 0 14 (dk_at dksX16_add_10 2 rfl rfl)
theorem dX16_add_238 : decode cX16_add 238 = .ok (.aload_n 0, 1) := dk_42 (dk_at dksX16_add_10 5 rfl rfl)
theorem dX16_add_239 : decode cX16_add 239 = .ok (.iconst 0, 1) := dk_3 (dk_at dksX16_add_10 6 rfl rfl)
theorem dX16_add_240 : decode cX16_add 240 = .ok (.putfield 15, 3) := dk_181 0 15 (dk_at dksX16_add_10 7 rfl rfl)
theorem dX16_add_243 : decode cX16_add 243 = .ok (.aload_n 0, 1) := dk_42 (dk_at dksX16_add_10 10 rfl rfl)
theorem dX16_add_244 : decode cX16_add 244 = .ok (.iconst 0, 1) := dk_3 (dk_at dksX16_add_10 11 rfl rfl)
theorem dX16_add_245 : decode cX16_add 245 = .ok (.putfield 7, 3) := dk_181 0 7 (dk_at dksX16_add_10 12 rfl rfl)
theorem dX16_add_248 : decode cX16_add 248 = .ok (.return_, 1) := dk_177 (dk_at dksX16_add_10 15 rfl rfl)
theorem dX16_add_249 : decode cX16_add 249 = .ok (.iload 5, 2) := dk_21 5 (dk_at dksX16_add_10 16 rfl rfl)
theorem dX16_add_251 : decode cX16_add 251 = .ok (.ifCond .le 7, 3) := dk_158 0 7 (dk_at dksX16_add_10 18 rfl rfl)
theorem dX16_add_254 : decode cX16_add 254 = .ok (.aload_n 1, 1) := dk_43 (dk_at dksX16_add_10 21 rfl rfl)
theorem dX16_add_255 : decode cX16_add 255 = .ok (.goto 4, 3) := dk_167 0 4 (dk_at dksX16_add_11 0 rfl rfl)
theorem dX16_add_258 : decode cX16_add 258 = .ok (.aload_n 2, 1) := dk_44 (dk_at dksX16_add_11 3 rfl rfl)
theorem dX16_add_259 : decode cX16_add 259 = .ok (.astore 6, 2) := dk_58 6 (dk_at dksX16_add_11 4 rfl rfl)
theorem dX16_add_261 : decode cX16_add 261 = .ok (.iload 5, 2) := dk_21 5 (dk_at dksX16_add_11 6 rfl rfl)
theorem dX16_add_263 : decode cX16_add 263 = .ok (.ifCond .le 7, 3) := dk_158 0 7 (dk_at dksX16_add_11 8 rfl rfl)
theorem dX16_add_266 : decode cX16_add 266 = .ok (.aload_n 2, 1) := dk_44 (dk_at dksX16_add_11 11 rfl rfl)
theorem dX16_add_267 : decode cX16_add 267 = .ok (.goto 4, 3) := dk_167 0 4 (dk_at dksX16_add_11 12 rfl rfl)
theorem dX16_add_270 : decode cX16_add 270 = .ok (.aload_n 1, 1) := dk_43 (dk_at dksX16_add_11 15 rfl rfl)
theorem dX16_add_271 : decode cX16_add 271 = .ok (.astore 7, 2) := dk_58 7 (dk_at dksX16_add_11 16 rfl rfl)
theorem dX16_add_273 : decode cX16_add 273 = .ok (.iload 5, 2) := dk_21 5 (dk_at dksX16_add_11 18 rfl rfl)
theorem dX16_add_275 : decode cX16_add 275 = .ok (.ifCond .le 10, 3) := dk_158 0 10 (dk_at dksX16_add_11 20 rfl rfl)
theorem dX16_add_278 : decode cX16_add 278 = .ok (.aload_n 1, 1) := dk_43 (dk_at dksX16_add_11 23 rfl rfl)
theorem dX16_add_279 : decode cX16_add 279 = .ok (.getfield 15, 3) := dk_180 0 15 (dk_at dksX16_add_12 0 rfl rfl)
theorem dX16_add_282 : decode cX16_add 282 = .ok (.goto 5, 3) := dk_167 0 5 (dk_at dksX16_add_12 3 rfl rfl)
theorem dX16_add_285 : decode cX16_add 285 = .ok (.iload 4, 2) := dk_21 4 (dk_at dksX16_add_12 6 rfl rfl)
theorem dX16_add_287 : decode cX16_add 287 = .ok (.istore 8, 2) := dk_54 8 (dk_at dksX16_add_12 8 rfl rfl)
theorem dX16_add_289 : decode cX16_add 289 = .ok (.aload 6, 2) := dk_25 6 (dk_at dksX16_add_12 10 rfl rfl)
theorem dX16_add_291 : decode cX16_add 291 = .ok (.getfield 7, 3) := dk_180 0 7 (dk_at dksX16_add_12 12 rfl rfl)
theorem dX16_add_294 : decode cX16_add 294 = .ok (.istore 9, 2) := dk_54 9 (dk_at dksX16_add_12 15 rfl rfl)
theorem dX16_add_296 : decode cX16_add 296 = .ok (.aload 7, 2) := dk_25 7 (dk_at dksX16_add_12 17 rfl rfl)
theorem dX16_add_298 : decode cX16_add 298 = .ok (.getfield 7, 3) := dk_180 0 7 (dk_at dksX16_add_12 19 rfl rfl)
theorem dX16_add_301 : decode cX16_add 301 = .ok (.istore 10, 2) := dk_54 10 (dk_at dksX16_add_12 22 rfl rfl)
theorem dX16_add_303 : decode cX16_add 303 = .ok (.lconst 0, 1) := dk_9 (dk_at dksX16_add_13 0 rfl rfl)
theorem dX16_add_304 : decode cX16_add 304 = .ok (.lstore 11, 2) := dk_55 11 (dk_at dksX16_add_13 1 rfl rfl)
theorem dX16_add_306 : decode cX16_add 306 = .ok (.iconst 0, 1) := dk_3 (dk_at dksX16_add_13 3 rfl rfl)
theorem dX16_add_307 : decode cX16_add 307 = .ok (.istore 13, 2) := dk_54 13 (dk_at dksX16_add_13 4 rfl rfl)
theorem dX16_add_309 : decode cX16_add 309 = .ok (.iload 13, 2) := dk_21 13 (dk_at dksX16_add_13 6 rfl rfl)
theorem dX16_add_311 : decode cX16_add 311 = .ok (.iload 9, 2) := dk_21 9 (dk_at dksX16_add_13 8 rfl rfl)
theorem dX16_add_313 : decode cX16_add 313 = .ok (.if_icmp .ge 84, 3) := dk_162 0 84 (dk_at dksX16_add_13 10 rfl rfl)
theorem dX16_add_316 : decode cX16_add 316 = .ok (.aload 6, 2) := dk_25 6 (dk_at dksX16_add_13 13 rfl rfl)
theorem dX16_add_318 : decode cX16_add 318 = .ok (.getfield 11, 3) := dk_180 0 11 (dk_at dksX16_add_13 15 rfl rfl)
theorem dX16_add_321 : decode cX16_add 321 = .ok (.iload 13, 2) := dk_21 13 (dk_at dksX16_add_13 18 rfl rfl)
theorem dX16_add_323 : decode cX16_add 323 = .ok (.iaload, 1) := dk_46 (dk_at dksX16_add_13 20 rfl rfl)
theorem dX16_add_324 : decode cX16_add 324 = .ok (.i2l, 1) := dk_133 (dk_at dksX16_add_13 21 rfl rfl)
theorem dX16_add_325 : decode cX16_add 325 = .ok (.lload 11, 2) := dk_22 11 (dk_at dksX16_add_13 22 rfl rfl)
theorem dX16_add_327 : decode cX16_add 327 = .ok (.lsub, 1) := dk_101 (dk_at dksX16_add_14 0 rfl rfl)
theorem dX16_add_328 : decode cX16_add 328 = .ok (.iload 13, 2) := dk_21 13 (dk_at dksX16_add_14 1 rfl rfl)
theorem dX16_add_330 : decode cX16_add 330 = .ok (.iload 10, 2) := dk_21 10 (dk_at dksX16_add_14 3 rfl rfl)
theorem dX16_add_332 : decode cX16_add 332 = .ok (.if_icmp .ge 14, 3) := dk_162 0 14 (dk_at dksX16_add_14 5 rfl rfl)
theorem dX16_add_335 : decode cX16_add 335 = .ok (.aload 7, 2) := dk_25 7 (dk_at dksX16_add_14 8 rfl rfl)
theorem dX16_add_337 : decode cX16_add 337 = .ok (.getfield 11, 3) := dk_180 0 11 (dk_at dksX16_add_14 10 rfl rfl)
theorem dX16_add_340 : decode cX16_add 340 = .ok (.iload 13, 2) := dk_21 13 (dk_at dksX16_add_14 13 rfl rfl)
theorem dX16_add_342 : decode cX16_add 342 = .ok (.iaload, 1) := dk_46 (dk_at dksX16_add_14 15 rfl rfl)
theorem dX16_add_343 : decode cX16_add 343 = .ok (.goto 4, 3) := dk_167 0 4 (dk_at dksX16_add_14 16 rfl rfl)
theorem dX16_add_346 : decode cX16_add 346 = .ok (.iconst 0, 1) := dk_3 (dk_at dksX16_add_14 19 rfl rfl)
theorem dX16_add_347 : decode cX16_add 347 = .ok (.i2l, 1) := dk_133 (dk_at dksX16_add_14 20 rfl rfl)
theorem dX16_add_348 : decode cX16_add 348 = .ok (.lsub, 1) := dk_101 (dk_at dksX16_add_14 21 rfl rfl)
theorem dX16_add_349 : decode cX16_add 349 = .ok (.lstore 14, 2) := dk_55 14 (dk_at dksX16_add_14 22 rfl rfl)
theorem dX16_add_351 : decode cX16_add 351 = .ok (.lload 14, 2) := dk_22 14 (dk_at dksX16_add_15 0 rfl rfl)
theorem dX16_add_353 : decode cX16_add 353 = .ok (.lconst 0, 1) := dk_9 (dk_at dksX16_add_15 2 rfl rfl)
theorem dX16_add_354 : decode cX16_add 354 = .ok (.lcmp, 1) := dk_148 (dk_at dksX16_add_15 3 rfl rfl)
theorem dX16_add_355 : decode cX16_add 355 = .ok (.ifCond .ge 7, 3) := dk_156 0 7 (dk_at dksX16_add_15 4 rfl rfl)
theorem dX16_add_358 : decode cX16_add 358 = .ok (.lconst 1, 1) := dk_10 (dk_at dksX16_add_15 7 rfl rfl)
theorem dX16_add_359 : decode cX16_add 359 = .ok (.goto 4, 3) := dk_167 0 4 (dk_at dksX16_add_15 8 rfl rfl)
theorem dX16_add_362 : decode cX16_add 362 = .ok (.lconst 0, 1) := dk_9 (dk_at dksX16_add_15 11 rfl rfl)
theorem dX16_add_363 : decode cX16_add 363 = .ok (.lstore 11, 2) := dk_55 11 (dk_at dksX16_add_15 12 rfl rfl)
theorem dX16_add_365 : decode cX16_add 365 = .ok (.aload_n 0, 1) := dk_42 (dk_at dksX16_add_15 14 rfl rfl)
theorem dX16_add_366 : decode cX16_add 366 = .ok (.getfield 11, 3) := dk_180 0 11 (dk_at dksX16_add_15 15 rfl rfl)
theorem dX16_add_369 : decode cX16_add 369 = .ok (.iload 13, 2) := dk_21 13 (dk_at dksX16_add_15 18 rfl rfl)
theorem dX16_add_371 : decode cX16_add 371 = .ok (.lload 14, 2) := dk_22 14 (dk_at dksX16_add_15 20 rfl rfl)
theorem dX16_add_373 : decode cX16_add 373 = .ok (.lconst 0, 1) := dk_9 (dk_at dksX16_add_15 22 rfl rfl)
theorem dX16_add_374 : decode cX16_add 374 = .ok (.lcmp, 1) := dk_148 (dk_at dksX16_add_15 23 rfl rfl)
theorem dX16_add_375 : decode cX16_add 375 = .ok (.ifCond .ge 12, 3) := dk_156 0 12 (dk_at dksX16_add_16 0 rfl rfl)
theorem dX16_add_378 : decode cX16_add 378 = .ok (.lload 14, 2) := dk_22 14 (dk_at dksX16_add_16 3 rfl rfl)
theorem dX16_add_380 : decode cX16_add 380 = .ok (.ldc2_w 30, 3) := dk_20 0 30 (dk_at dksX16_add_16 5 rfl rfl)
theorem dX16_add_383 : decode cX16_add 383 = .ok (.ladd, 1) := dk_97 (dk_at dksX16_add_16 8 rfl rfl)
theorem dX16_add_384 : decode cX16_add 384 = .ok (.goto 5, 3) := dk_167 0 5 (dk_at dksX16_add_16 9 rfl rfl)
theorem dX16_add_387 : decode cX16_add 387 = .ok (.lload 14, 2) := dk_22 14 (dk_at dksX16_add_16 12 rfl rfl)
theorem dX16_add_389 : decode cX16_add 389 = .ok (.l2i, 1) := dk_136 (dk_at dksX16_add_16 14 rfl rfl)
theorem dX16_add_390 : decode cX16_add 390 = .ok (.iastore, 1) := dk_79 (dk_at dksX16_add_16 15 rfl rfl)
theorem dX16_add_391 : decode cX16_add 391 = .ok (.iinc 13 1, 3) := dk_132 13 1 (dk_at dksX16_add_16 16 rfl rfl)
theorem dX16_add_394 : decode cX16_add 394 = .ok (.goto (-85), 3) := dk_167 255 171 (dk_at dksX16_add_16 19 rfl rfl)
theorem dX16_add_397 : decode cX16_add 397 = .ok (.aload_n 0, 1) := dk_42 (dk_at dksX16_add_16 22 rfl rfl)
theorem dX16_add_398 : decode cX16_add 398 = .ok (.iload 9, 2) := dk_21 9 (dk_at dksX16_add_17 0 rfl rfl)
theorem dX16_add_400 : decode cX16_add 400 = .ok (.invokestatic 36, 3) := dk_184 0 36 (dk_at dksX16_add_17 2 rfl rfl)
theorem dX16_add_403 : decode cX16_add 403 = .ok (.aload_n 0, 1) := dk_42 (dk_at dksX16_add_17 5 rfl rfl)
theorem dX16_add_404 : decode cX16_add 404 = .ok (.iload 8, 2) := dk_21 8 (dk_at dksX16_add_17 6 rfl rfl)
theorem dX16_add_406 : decode cX16_add 406 = .ok (.putfield 15, 3) := dk_181 0 15 (dk_at dksX16_add_17 8 rfl rfl)
theorem dX16_add_409 : decode cX16_add 409 = .ok (.return_, 1) := dk_177 (dk_at dksX16_add_17 11 rfl rfl)
abbrev cX16_compare : ByteArray := prog_21_method_2_code
def yX16_compare : MethodName := ⟨RX16, "compare", "(LIdealCourtModel$Num;LIdealCourtModel$Num;)I"⟩
def dkwX16_compare_3 : List UInt8 := [167, 0, 4, 4, 172, 132, 2, 255, 167, 255, 213, 3, 172]
abbrev dktX16_compare_3 : List UInt8 := dkwX16_compare_3 ++ []
def dkwX16_compare_2 : List UInt8 := [180, 0, 11, 28, 46, 159, 0, 24, 42, 180, 0, 11, 28, 46, 43, 180, 0, 11, 28, 46, 162, 0, 7, 2]
abbrev dktX16_compare_2 : List UInt8 := dkwX16_compare_2 ++ dktX16_compare_3
def dkwX16_compare_1 : List UInt8 := [167, 0, 4, 4, 172, 42, 180, 0, 7, 4, 100, 61, 28, 155, 0, 45, 42, 180, 0, 11, 28, 46, 43]
abbrev dktX16_compare_1 : List UInt8 := dkwX16_compare_1 ++ dktX16_compare_2
def dkwX16_compare_0 : List UInt8 := [42, 180, 0, 7, 43, 180, 0, 7, 159, 0, 20, 42, 180, 0, 7, 43, 180, 0, 7, 162, 0, 7, 2]
abbrev dktX16_compare_0 : List UInt8 := dkwX16_compare_0 ++ dktX16_compare_1
theorem dksX16_compare_0 : cX16_compare.data.toList.drop 0 = dktX16_compare_0 := by decide +kernel
theorem dksX16_compare_1 : cX16_compare.data.toList.drop 23 = dktX16_compare_1 := dk_seg dksX16_compare_0 23 rfl rfl
theorem dksX16_compare_2 : cX16_compare.data.toList.drop 46 = dktX16_compare_2 := dk_seg dksX16_compare_1 23 rfl rfl
theorem dksX16_compare_3 : cX16_compare.data.toList.drop 70 = dktX16_compare_3 := dk_seg dksX16_compare_2 24 rfl rfl
theorem dX16_compare_0 : decode cX16_compare 0 = .ok (.aload_n 0, 1) := dk_42 (dk_at dksX16_compare_0 0 rfl rfl)
theorem dX16_compare_1 : decode cX16_compare 1 = .ok (.getfield 7, 3) := dk_180 0 7 (dk_at dksX16_compare_0 1 rfl rfl)
theorem dX16_compare_4 : decode cX16_compare 4 = .ok (.aload_n 1, 1) := dk_43 (dk_at dksX16_compare_0 4 rfl rfl)
theorem dX16_compare_5 : decode cX16_compare 5 = .ok (.getfield 7, 3) := dk_180 0 7 (dk_at dksX16_compare_0 5 rfl rfl)
theorem dX16_compare_8 : decode cX16_compare 8 = .ok (.if_icmp .eq 20, 3) := dk_159 0 20 (dk_at dksX16_compare_0 8 rfl rfl)
theorem dX16_compare_11 : decode cX16_compare 11 = .ok (.aload_n 0, 1) := dk_42 (dk_at dksX16_compare_0 11 rfl rfl)
theorem dX16_compare_12 : decode cX16_compare 12 = .ok (.getfield 7, 3) := dk_180 0 7 (dk_at dksX16_compare_0 12 rfl rfl)
theorem dX16_compare_15 : decode cX16_compare 15 = .ok (.aload_n 1, 1) := dk_43 (dk_at dksX16_compare_0 15 rfl rfl)
theorem dX16_compare_16 : decode cX16_compare 16 = .ok (.getfield 7, 3) := dk_180 0 7 (dk_at dksX16_compare_0 16 rfl rfl)
theorem dX16_compare_19 : decode cX16_compare 19 = .ok (.if_icmp .ge 7, 3) := dk_162 0 7 (dk_at dksX16_compare_0 19 rfl rfl)
theorem dX16_compare_22 : decode cX16_compare 22 = .ok (.iconst (-1), 1) := dk_2 (dk_at dksX16_compare_0 22 rfl rfl)
theorem dX16_compare_23 : decode cX16_compare 23 = .ok (.goto 4, 3) := dk_167 0 4 (dk_at dksX16_compare_1 0 rfl rfl)
theorem dX16_compare_26 : decode cX16_compare 26 = .ok (.iconst 1, 1) := dk_4 (dk_at dksX16_compare_1 3 rfl rfl)
theorem dX16_compare_27 : decode cX16_compare 27 = .ok (.ireturn, 1) := dk_172 (dk_at dksX16_compare_1 4 rfl rfl)
theorem dX16_compare_28 : decode cX16_compare 28 = .ok (.aload_n 0, 1) := dk_42 (dk_at dksX16_compare_1 5 rfl rfl)
theorem dX16_compare_29 : decode cX16_compare 29 = .ok (.getfield 7, 3) := dk_180 0 7 (dk_at dksX16_compare_1 6 rfl rfl)
theorem dX16_compare_32 : decode cX16_compare 32 = .ok (.iconst 1, 1) := dk_4 (dk_at dksX16_compare_1 9 rfl rfl)
theorem dX16_compare_33 : decode cX16_compare 33 = .ok (.isub, 1) := dk_100 (dk_at dksX16_compare_1 10 rfl rfl)
theorem dX16_compare_34 : decode cX16_compare 34 = .ok (.istore_n 2, 1) := dk_61 (dk_at dksX16_compare_1 11 rfl rfl)
theorem dX16_compare_35 : decode cX16_compare 35 = .ok (.iload_n 2, 1) := dk_28 (dk_at dksX16_compare_1 12 rfl rfl)
theorem dX16_compare_36 : decode cX16_compare 36 = .ok (.ifCond .lt 45, 3) := dk_155 0 45 (dk_at dksX16_compare_1 13 rfl rfl)
theorem dX16_compare_39 : decode cX16_compare 39 = .ok (.aload_n 0, 1) := dk_42 (dk_at dksX16_compare_1 16 rfl rfl)
theorem dX16_compare_40 : decode cX16_compare 40 = .ok (.getfield 11, 3) := dk_180 0 11 (dk_at dksX16_compare_1 17 rfl rfl)
theorem dX16_compare_43 : decode cX16_compare 43 = .ok (.iload_n 2, 1) := dk_28 (dk_at dksX16_compare_1 20 rfl rfl)
theorem dX16_compare_44 : decode cX16_compare 44 = .ok (.iaload, 1) := dk_46 (dk_at dksX16_compare_1 21 rfl rfl)
theorem dX16_compare_45 : decode cX16_compare 45 = .ok (.aload_n 1, 1) := dk_43 (dk_at dksX16_compare_1 22 rfl rfl)
theorem dX16_compare_46 : decode cX16_compare 46 = .ok (.getfield 11, 3) := dk_180 0 11 (dk_at dksX16_compare_2 0 rfl rfl)
theorem dX16_compare_49 : decode cX16_compare 49 = .ok (.iload_n 2, 1) := dk_28 (dk_at dksX16_compare_2 3 rfl rfl)
theorem dX16_compare_50 : decode cX16_compare 50 = .ok (.iaload, 1) := dk_46 (dk_at dksX16_compare_2 4 rfl rfl)
theorem dX16_compare_51 : decode cX16_compare 51 = .ok (.if_icmp .eq 24, 3) := dk_159 0 24 (dk_at dksX16_compare_2 5 rfl rfl)
theorem dX16_compare_54 : decode cX16_compare 54 = .ok (.aload_n 0, 1) := dk_42 (dk_at dksX16_compare_2 8 rfl rfl)
theorem dX16_compare_55 : decode cX16_compare 55 = .ok (.getfield 11, 3) := dk_180 0 11 (dk_at dksX16_compare_2 9 rfl rfl)
theorem dX16_compare_58 : decode cX16_compare 58 = .ok (.iload_n 2, 1) := dk_28 (dk_at dksX16_compare_2 12 rfl rfl)
theorem dX16_compare_59 : decode cX16_compare 59 = .ok (.iaload, 1) := dk_46 (dk_at dksX16_compare_2 13 rfl rfl)
theorem dX16_compare_60 : decode cX16_compare 60 = .ok (.aload_n 1, 1) := dk_43 (dk_at dksX16_compare_2 14 rfl rfl)
theorem dX16_compare_61 : decode cX16_compare 61 = .ok (.getfield 11, 3) := dk_180 0 11 (dk_at dksX16_compare_2 15 rfl rfl)
theorem dX16_compare_64 : decode cX16_compare 64 = .ok (.iload_n 2, 1) := dk_28 (dk_at dksX16_compare_2 18 rfl rfl)
theorem dX16_compare_65 : decode cX16_compare 65 = .ok (.iaload, 1) := dk_46 (dk_at dksX16_compare_2 19 rfl rfl)
theorem dX16_compare_66 : decode cX16_compare 66 = .ok (.if_icmp .ge 7, 3) := dk_162 0 7 (dk_at dksX16_compare_2 20 rfl rfl)
theorem dX16_compare_69 : decode cX16_compare 69 = .ok (.iconst (-1), 1) := dk_2 (dk_at dksX16_compare_2 23 rfl rfl)
theorem dX16_compare_70 : decode cX16_compare 70 = .ok (.goto 4, 3) := dk_167 0 4 (dk_at dksX16_compare_3 0 rfl rfl)
theorem dX16_compare_73 : decode cX16_compare 73 = .ok (.iconst 1, 1) := dk_4 (dk_at dksX16_compare_3 3 rfl rfl)
theorem dX16_compare_74 : decode cX16_compare 74 = .ok (.ireturn, 1) := dk_172 (dk_at dksX16_compare_3 4 rfl rfl)
theorem dX16_compare_75 : decode cX16_compare 75 = .ok (.iinc 2 (-1), 3) := dk_132 2 255 (dk_at dksX16_compare_3 5 rfl rfl)
theorem dX16_compare_78 : decode cX16_compare 78 = .ok (.goto (-43), 3) := dk_167 255 213 (dk_at dksX16_compare_3 8 rfl rfl)
theorem dX16_compare_81 : decode cX16_compare 81 = .ok (.iconst 0, 1) := dk_3 (dk_at dksX16_compare_3 11 rfl rfl)
theorem dX16_compare_82 : decode cX16_compare 82 = .ok (.ireturn, 1) := dk_172 (dk_at dksX16_compare_3 12 rfl rfl)
abbrev cX16_trim : ByteArray := prog_21_method_3_code
def yX16_trim : MethodName := ⟨RX16, "trim", "(LIdealCourtModel$Num;I)V"⟩
def dkwX16_trim_1 : List UInt8 := [154, 0, 16, 42, 89, 180, 0, 7, 4, 100, 181, 0, 7, 167, 255, 225, 177]
abbrev dktX16_trim_1 : List UInt8 := dkwX16_trim_1 ++ []
def dkwX16_trim_0 : List UInt8 := [42, 27, 181, 0, 7, 42, 180, 0, 7, 158, 0, 30, 42, 180, 0, 11, 42, 180, 0, 7, 4, 100, 46]
abbrev dktX16_trim_0 : List UInt8 := dkwX16_trim_0 ++ dktX16_trim_1
theorem dksX16_trim_0 : cX16_trim.data.toList.drop 0 = dktX16_trim_0 := by decide +kernel
theorem dksX16_trim_1 : cX16_trim.data.toList.drop 23 = dktX16_trim_1 := dk_seg dksX16_trim_0 23 rfl rfl
theorem dX16_trim_0 : decode cX16_trim 0 = .ok (.aload_n 0, 1) := dk_42 (dk_at dksX16_trim_0 0 rfl rfl)
theorem dX16_trim_1 : decode cX16_trim 1 = .ok (.iload_n 1, 1) := dk_27 (dk_at dksX16_trim_0 1 rfl rfl)
theorem dX16_trim_2 : decode cX16_trim 2 = .ok (.putfield 7, 3) := dk_181 0 7 (dk_at dksX16_trim_0 2 rfl rfl)
theorem dX16_trim_5 : decode cX16_trim 5 = .ok (.aload_n 0, 1) := dk_42 (dk_at dksX16_trim_0 5 rfl rfl)
theorem dX16_trim_6 : decode cX16_trim 6 = .ok (.getfield 7, 3) := dk_180 0 7 (dk_at dksX16_trim_0 6 rfl rfl)
theorem dX16_trim_9 : decode cX16_trim 9 = .ok (.ifCond .le 30, 3) := dk_158 0 30 (dk_at dksX16_trim_0 9 rfl rfl)
theorem dX16_trim_12 : decode cX16_trim 12 = .ok (.aload_n 0, 1) := dk_42 (dk_at dksX16_trim_0 12 rfl rfl)
theorem dX16_trim_13 : decode cX16_trim 13 = .ok (.getfield 11, 3) := dk_180 0 11 (dk_at dksX16_trim_0 13 rfl rfl)
theorem dX16_trim_16 : decode cX16_trim 16 = .ok (.aload_n 0, 1) := dk_42 (dk_at dksX16_trim_0 16 rfl rfl)
theorem dX16_trim_17 : decode cX16_trim 17 = .ok (.getfield 7, 3) := dk_180 0 7 (dk_at dksX16_trim_0 17 rfl rfl)
theorem dX16_trim_20 : decode cX16_trim 20 = .ok (.iconst 1, 1) := dk_4 (dk_at dksX16_trim_0 20 rfl rfl)
theorem dX16_trim_21 : decode cX16_trim 21 = .ok (.isub, 1) := dk_100 (dk_at dksX16_trim_0 21 rfl rfl)
theorem dX16_trim_22 : decode cX16_trim 22 = .ok (.iaload, 1) := dk_46 (dk_at dksX16_trim_0 22 rfl rfl)
theorem dX16_trim_23 : decode cX16_trim 23 = .ok (.ifCond .ne 16, 3) := dk_154 0 16 (dk_at dksX16_trim_1 0 rfl rfl)
theorem dX16_trim_26 : decode cX16_trim 26 = .ok (.aload_n 0, 1) := dk_42 (dk_at dksX16_trim_1 3 rfl rfl)
theorem dX16_trim_27 : decode cX16_trim 27 = .ok (.dup, 1) := dk_89 (dk_at dksX16_trim_1 4 rfl rfl)
theorem dX16_trim_28 : decode cX16_trim 28 = .ok (.getfield 7, 3) := dk_180 0 7 (dk_at dksX16_trim_1 5 rfl rfl)
theorem dX16_trim_31 : decode cX16_trim 31 = .ok (.iconst 1, 1) := dk_4 (dk_at dksX16_trim_1 8 rfl rfl)
theorem dX16_trim_32 : decode cX16_trim 32 = .ok (.isub, 1) := dk_100 (dk_at dksX16_trim_1 9 rfl rfl)
theorem dX16_trim_33 : decode cX16_trim 33 = .ok (.putfield 7, 3) := dk_181 0 7 (dk_at dksX16_trim_1 10 rfl rfl)
theorem dX16_trim_36 : decode cX16_trim 36 = .ok (.goto (-31), 3) := dk_167 255 225 (dk_at dksX16_trim_1 13 rfl rfl)
theorem dX16_trim_39 : decode cX16_trim 39 = .ok (.return_, 1) := dk_177 (dk_at dksX16_trim_1 16 rfl rfl)
abbrev cX16_lowest : ByteArray := prog_21_method_9_code
def yX16_lowest : MethodName := ⟨RX16, "lowest", "(LIdealCourtModel$Num;LIdealCourtModel$Num;)V"⟩
def dkwX16_lowest_3 : List UInt8 := [180, 0, 95, 182, 0, 87, 42, 44, 1, 44, 42, 180, 0, 95, 182, 0, 87, 177]
abbrev dktX16_lowest_3 : List UInt8 := dkwX16_lowest_3 ++ []
def dkwX16_lowest_2 : List UInt8 := [180, 0, 95, 43, 44, 182, 0, 98, 42, 180, 0, 95, 182, 0, 91, 154, 0, 25, 42, 43, 1, 43, 42]
abbrev dktX16_lowest_2 : List UInt8 := dkwX16_lowest_2 ++ dktX16_lowest_3
def dkwX16_lowest_1 : List UInt8 := [180, 0, 15, 116, 181, 0, 15, 44, 4, 181, 0, 15, 44, 182, 0, 91, 153, 0, 4, 177, 42, 42]
abbrev dktX16_lowest_1 : List UInt8 := dkwX16_lowest_1 ++ dktX16_lowest_2
def dkwX16_lowest_0 : List UInt8 := [43, 180, 0, 15, 154, 0, 9, 44, 10, 182, 0, 83, 177, 44, 180, 0, 15, 156, 0, 17, 43, 43]
abbrev dktX16_lowest_0 : List UInt8 := dkwX16_lowest_0 ++ dktX16_lowest_1
theorem dksX16_lowest_0 : cX16_lowest.data.toList.drop 0 = dktX16_lowest_0 := by decide +kernel
theorem dksX16_lowest_1 : cX16_lowest.data.toList.drop 22 = dktX16_lowest_1 := dk_seg dksX16_lowest_0 22 rfl rfl
theorem dksX16_lowest_2 : cX16_lowest.data.toList.drop 44 = dktX16_lowest_2 := dk_seg dksX16_lowest_1 22 rfl rfl
theorem dksX16_lowest_3 : cX16_lowest.data.toList.drop 67 = dktX16_lowest_3 := dk_seg dksX16_lowest_2 23 rfl rfl
theorem dX16_lowest_0 : decode cX16_lowest 0 = .ok (.aload_n 1, 1) := dk_43 (dk_at dksX16_lowest_0 0 rfl rfl)
theorem dX16_lowest_1 : decode cX16_lowest 1 = .ok (.getfield 15, 3) := dk_180 0 15 (dk_at dksX16_lowest_0 1 rfl rfl)
theorem dX16_lowest_4 : decode cX16_lowest 4 = .ok (.ifCond .ne 9, 3) := dk_154 0 9 (dk_at dksX16_lowest_0 4 rfl rfl)
theorem dX16_lowest_7 : decode cX16_lowest 7 = .ok (.aload_n 2, 1) := dk_44 (dk_at dksX16_lowest_0 7 rfl rfl)
theorem dX16_lowest_8 : decode cX16_lowest 8 = .ok (.lconst 1, 1) := dk_10 (dk_at dksX16_lowest_0 8 rfl rfl)
theorem dX16_lowest_9 : decode cX16_lowest 9 = .ok (.invokevirtual 83, 3) := dk_182 0 83 (dk_at dksX16_lowest_0 9 rfl rfl)
theorem dX16_lowest_12 : decode cX16_lowest 12 = .ok (.return_, 1) := dk_177 (dk_at dksX16_lowest_0 12 rfl rfl)
theorem dX16_lowest_13 : decode cX16_lowest 13 = .ok (.aload_n 2, 1) := dk_44 (dk_at dksX16_lowest_0 13 rfl rfl)
theorem dX16_lowest_14 : decode cX16_lowest 14 = .ok (.getfield 15, 3) := dk_180 0 15 (dk_at dksX16_lowest_0 14 rfl rfl)
theorem dX16_lowest_17 : decode cX16_lowest 17 = .ok (.ifCond .ge 17, 3) := dk_156 0 17 (dk_at dksX16_lowest_0 17 rfl rfl)
theorem dX16_lowest_20 : decode cX16_lowest 20 = .ok (.aload_n 1, 1) := dk_43 (dk_at dksX16_lowest_0 20 rfl rfl)
theorem dX16_lowest_21 : decode cX16_lowest 21 = .ok (.aload_n 1, 1) := dk_43 (dk_at dksX16_lowest_0 21 rfl rfl)
theorem dX16_lowest_22 : decode cX16_lowest 22 = .ok (.getfield 15, 3) := dk_180 0 15 (dk_at dksX16_lowest_1 0 rfl rfl)
theorem dX16_lowest_25 : decode cX16_lowest 25 = .ok (.ineg, 1) := dk_116 (dk_at dksX16_lowest_1 3 rfl rfl)
theorem dX16_lowest_26 : decode cX16_lowest 26 = .ok (.putfield 15, 3) := dk_181 0 15 (dk_at dksX16_lowest_1 4 rfl rfl)
theorem dX16_lowest_29 : decode cX16_lowest 29 = .ok (.aload_n 2, 1) := dk_44 (dk_at dksX16_lowest_1 7 rfl rfl)
theorem dX16_lowest_30 : decode cX16_lowest 30 = .ok (.iconst 1, 1) := dk_4 (dk_at dksX16_lowest_1 8 rfl rfl)
theorem dX16_lowest_31 : decode cX16_lowest 31 = .ok (.putfield 15, 3) := dk_181 0 15 (dk_at dksX16_lowest_1 9 rfl rfl)
theorem dX16_lowest_34 : decode cX16_lowest 34 = .ok (.aload_n 2, 1) := dk_44 (dk_at dksX16_lowest_1 12 rfl rfl)
theorem dX16_lowest_35 : decode cX16_lowest 35 = .ok (.invokevirtual 91, 3) := dk_182 0 91 (dk_at dksX16_lowest_1 13 rfl rfl)
theorem dX16_lowest_38 : decode cX16_lowest 38 = .ok (.ifCond .eq 4, 3) := dk_153 0 4 (dk_at dksX16_lowest_1 16 rfl rfl)
theorem dX16_lowest_41 : decode cX16_lowest 41 = .ok (.return_, 1) := dk_177 (dk_at dksX16_lowest_1 19 rfl rfl)
theorem dX16_lowest_42 : decode cX16_lowest 42 = .ok (.aload_n 0, 1) := dk_42 (dk_at dksX16_lowest_1 20 rfl rfl)
theorem dX16_lowest_43 : decode cX16_lowest 43 = .ok (.aload_n 0, 1) := dk_42 (dk_at dksX16_lowest_1 21 rfl rfl)
theorem dX16_lowest_44 : decode cX16_lowest 44 = .ok (.getfield 95, 3) := dk_180 0 95 (dk_at dksX16_lowest_2 0 rfl rfl)
theorem dX16_lowest_47 : decode cX16_lowest 47 = .ok (.aload_n 1, 1) := dk_43 (dk_at dksX16_lowest_2 3 rfl rfl)
theorem dX16_lowest_48 : decode cX16_lowest 48 = .ok (.aload_n 2, 1) := dk_44 (dk_at dksX16_lowest_2 4 rfl rfl)
theorem dX16_lowest_49 : decode cX16_lowest 49 = .ok (.invokevirtual 98, 3) := dk_182 0 98 (dk_at dksX16_lowest_2 5 rfl rfl)
theorem dX16_lowest_52 : decode cX16_lowest 52 = .ok (.aload_n 0, 1) := dk_42 (dk_at dksX16_lowest_2 8 rfl rfl)
theorem dX16_lowest_53 : decode cX16_lowest 53 = .ok (.getfield 95, 3) := dk_180 0 95 (dk_at dksX16_lowest_2 9 rfl rfl)
theorem dX16_lowest_56 : decode cX16_lowest 56 = .ok (.invokevirtual 91, 3) := dk_182 0 91 (dk_at dksX16_lowest_2 12 rfl rfl)
theorem dX16_lowest_59 : decode cX16_lowest 59 = .ok (.ifCond .ne 25, 3) := dk_154 0 25 (dk_at dksX16_lowest_2 15 rfl rfl)
theorem dX16_lowest_62 : decode cX16_lowest 62 = .ok (.aload_n 0, 1) := dk_42 (dk_at dksX16_lowest_2 18 rfl rfl)
theorem dX16_lowest_63 : decode cX16_lowest 63 = .ok (.aload_n 1, 1) := dk_43 (dk_at dksX16_lowest_2 19 rfl rfl)
theorem dX16_lowest_64 : decode cX16_lowest 64 = .ok (.aconst_null, 1) := dk_1 (dk_at dksX16_lowest_2 20 rfl rfl)
theorem dX16_lowest_65 : decode cX16_lowest 65 = .ok (.aload_n 1, 1) := dk_43 (dk_at dksX16_lowest_2 21 rfl rfl)
theorem dX16_lowest_66 : decode cX16_lowest 66 = .ok (.aload_n 0, 1) := dk_42 (dk_at dksX16_lowest_2 22 rfl rfl)
theorem dX16_lowest_67 : decode cX16_lowest 67 = .ok (.getfield 95, 3) := dk_180 0 95 (dk_at dksX16_lowest_3 0 rfl rfl)
theorem dX16_lowest_70 : decode cX16_lowest 70 = .ok (.invokevirtual 87, 3) := dk_182 0 87 (dk_at dksX16_lowest_3 3 rfl rfl)
theorem dX16_lowest_73 : decode cX16_lowest 73 = .ok (.aload_n 0, 1) := dk_42 (dk_at dksX16_lowest_3 6 rfl rfl)
theorem dX16_lowest_74 : decode cX16_lowest 74 = .ok (.aload_n 2, 1) := dk_44 (dk_at dksX16_lowest_3 7 rfl rfl)
theorem dX16_lowest_75 : decode cX16_lowest 75 = .ok (.aconst_null, 1) := dk_1 (dk_at dksX16_lowest_3 8 rfl rfl)
theorem dX16_lowest_76 : decode cX16_lowest 76 = .ok (.aload_n 2, 1) := dk_44 (dk_at dksX16_lowest_3 9 rfl rfl)
theorem dX16_lowest_77 : decode cX16_lowest 77 = .ok (.aload_n 0, 1) := dk_42 (dk_at dksX16_lowest_3 10 rfl rfl)
theorem dX16_lowest_78 : decode cX16_lowest 78 = .ok (.getfield 95, 3) := dk_180 0 95 (dk_at dksX16_lowest_3 11 rfl rfl)
theorem dX16_lowest_81 : decode cX16_lowest 81 = .ok (.invokevirtual 87, 3) := dk_182 0 87 (dk_at dksX16_lowest_3 14 rfl rfl)
theorem dX16_lowest_84 : decode cX16_lowest 84 = .ok (.return_, 1) := dk_177 (dk_at dksX16_lowest_3 17 rfl rfl)
abbrev cX16_gcd : ByteArray := prog_21_method_8_code
def yX16_gcd : MethodName := ⟨RX16, "gcd", "(LIdealCourtModel$Num;LIdealCourtModel$Num;LIdealCourtModel$Num;)V"⟩
def dkwX16_gcd_6 : List UInt8 := [43, 25, 4, 182, 0, 18, 43, 43, 180, 0, 7, 154, 0, 7, 3, 167, 0, 4, 4, 181, 0, 15, 177]
abbrev dktX16_gcd_6 : List UInt8 := dkwX16_gcd_6 ++ []
def dkwX16_gcd_5 : List UInt8 := [25, 5, 182, 0, 87, 25, 4, 58, 7, 25, 5, 58, 4, 25, 6, 58, 5, 25, 7, 58, 6, 167, 255, 148]
abbrev dktX16_gcd_5 : List UInt8 := dkwX16_gcd_5 ++ dktX16_gcd_6
def dkwX16_gcd_4 : List UInt8 := [22, 11, 55, 9, 167, 255, 234, 25, 4, 22, 7, 182, 0, 83, 167, 0, 33, 42, 1, 25, 6, 25, 4]
abbrev dktX16_gcd_4 : List UInt8 := dkwX16_gcd_4 ++ dktX16_gcd_5
def dkwX16_gcd_3 : List UInt8 := [184, 0, 79, 55, 9, 22, 9, 9, 148, 153, 0, 21, 22, 7, 22, 9, 113, 55, 11, 22, 9, 55, 7]
abbrev dktX16_gcd_3 : List UInt8 := dkwX16_gcd_3 ++ dktX16_gcd_4
def dkwX16_gcd_2 : List UInt8 := [25, 5, 180, 0, 7, 5, 163, 0, 58, 25, 4, 182, 0, 75, 184, 0, 79, 55, 7, 25, 5, 182, 0, 75]
abbrev dktX16_gcd_2 : List UInt8 := dkwX16_gcd_2 ++ dktX16_gcd_3
def dkwX16_gcd_1 : List UInt8 := [25, 5, 45, 182, 0, 18, 25, 5, 180, 0, 15, 153, 0, 106, 25, 4, 180, 0, 7, 5, 163, 0, 67]
abbrev dktX16_gcd_1 : List UInt8 := dkwX16_gcd_1 ++ dktX16_gcd_2
def dkwX16_gcd_0 : List UInt8 := [42, 180, 0, 65, 58, 4, 42, 180, 0, 69, 58, 5, 42, 180, 0, 72, 58, 6, 25, 4, 44, 182, 0, 18]
abbrev dktX16_gcd_0 : List UInt8 := dkwX16_gcd_0 ++ dktX16_gcd_1
theorem dksX16_gcd_0 : cX16_gcd.data.toList.drop 0 = dktX16_gcd_0 := by decide +kernel
theorem dksX16_gcd_1 : cX16_gcd.data.toList.drop 24 = dktX16_gcd_1 := dk_seg dksX16_gcd_0 24 rfl rfl
theorem dksX16_gcd_2 : cX16_gcd.data.toList.drop 47 = dktX16_gcd_2 := dk_seg dksX16_gcd_1 23 rfl rfl
theorem dksX16_gcd_3 : cX16_gcd.data.toList.drop 71 = dktX16_gcd_3 := dk_seg dksX16_gcd_2 24 rfl rfl
theorem dksX16_gcd_4 : cX16_gcd.data.toList.drop 94 = dktX16_gcd_4 := dk_seg dksX16_gcd_3 23 rfl rfl
theorem dksX16_gcd_5 : cX16_gcd.data.toList.drop 117 = dktX16_gcd_5 := dk_seg dksX16_gcd_4 23 rfl rfl
theorem dksX16_gcd_6 : cX16_gcd.data.toList.drop 141 = dktX16_gcd_6 := dk_seg dksX16_gcd_5 24 rfl rfl
theorem dX16_gcd_0 : decode cX16_gcd 0 = .ok (.aload_n 0, 1) := dk_42 (dk_at dksX16_gcd_0 0 rfl rfl)
theorem dX16_gcd_1 : decode cX16_gcd 1 = .ok (.getfield 65, 3) := dk_180 0 65 (dk_at dksX16_gcd_0 1 rfl rfl)
theorem dX16_gcd_4 : decode cX16_gcd 4 = .ok (.astore 4, 2) := dk_58 4 (dk_at dksX16_gcd_0 4 rfl rfl)
theorem dX16_gcd_6 : decode cX16_gcd 6 = .ok (.aload_n 0, 1) := dk_42 (dk_at dksX16_gcd_0 6 rfl rfl)
theorem dX16_gcd_7 : decode cX16_gcd 7 = .ok (.getfield 69, 3) := dk_180 0 69 (dk_at dksX16_gcd_0 7 rfl rfl)
theorem dX16_gcd_10 : decode cX16_gcd 10 = .ok (.astore 5, 2) := dk_58 5 (dk_at dksX16_gcd_0 10 rfl rfl)
theorem dX16_gcd_12 : decode cX16_gcd 12 = .ok (.aload_n 0, 1) := dk_42 (dk_at dksX16_gcd_0 12 rfl rfl)
theorem dX16_gcd_13 : decode cX16_gcd 13 = .ok (.getfield 72, 3) := dk_180 0 72 (dk_at dksX16_gcd_0 13 rfl rfl)
theorem dX16_gcd_16 : decode cX16_gcd 16 = .ok (.astore 6, 2) := dk_58 6 (dk_at dksX16_gcd_0 16 rfl rfl)
theorem dX16_gcd_18 : decode cX16_gcd 18 = .ok (.aload 4, 2) := dk_25 4 (dk_at dksX16_gcd_0 18 rfl rfl)
theorem dX16_gcd_20 : decode cX16_gcd 20 = .ok (.aload_n 2, 1) := dk_44 (dk_at dksX16_gcd_0 20 rfl rfl)
theorem dX16_gcd_21 : decode cX16_gcd 21 = .ok (.invokevirtual 18, 3) := dk_182 0 18 (dk_at dksX16_gcd_0 21 rfl rfl)
theorem dX16_gcd_24 : decode cX16_gcd 24 = .ok (.aload 5, 2) := dk_25 5 (dk_at dksX16_gcd_1 0 rfl rfl)
theorem dX16_gcd_26 : decode cX16_gcd 26 = .ok (.aload_n 3, 1) := dk_45 (dk_at dksX16_gcd_1 2 rfl rfl)
theorem dX16_gcd_27 : decode cX16_gcd 27 = .ok (.invokevirtual 18, 3) := dk_182 0 18 (dk_at dksX16_gcd_1 3 rfl rfl)
theorem dX16_gcd_30 : decode cX16_gcd 30 = .ok (.aload 5, 2) := dk_25 5 (dk_at dksX16_gcd_1 6 rfl rfl)
theorem dX16_gcd_32 : decode cX16_gcd 32 = .ok (.getfield 15, 3) := dk_180 0 15 (dk_at dksX16_gcd_1 8 rfl rfl)
theorem dX16_gcd_35 : decode cX16_gcd 35 = .ok (.ifCond .eq 106, 3) := dk_153 0 106 (dk_at dksX16_gcd_1 11 rfl rfl)
theorem dX16_gcd_38 : decode cX16_gcd 38 = .ok (.aload 4, 2) := dk_25 4 (dk_at dksX16_gcd_1 14 rfl rfl)
theorem dX16_gcd_40 : decode cX16_gcd 40 = .ok (.getfield 7, 3) := dk_180 0 7 (dk_at dksX16_gcd_1 16 rfl rfl)
theorem dX16_gcd_43 : decode cX16_gcd 43 = .ok (.iconst 2, 1) := dk_5 (dk_at dksX16_gcd_1 19 rfl rfl)
theorem dX16_gcd_44 : decode cX16_gcd 44 = .ok (.if_icmp .gt 67, 3) := dk_163 0 67 (dk_at dksX16_gcd_1 20 rfl rfl)
theorem dX16_gcd_47 : decode cX16_gcd 47 = .ok (.aload 5, 2) := dk_25 5 (dk_at dksX16_gcd_2 0 rfl rfl)
theorem dX16_gcd_49 : decode cX16_gcd 49 = .ok (.getfield 7, 3) := dk_180 0 7 (dk_at dksX16_gcd_2 2 rfl rfl)
theorem dX16_gcd_52 : decode cX16_gcd 52 = .ok (.iconst 2, 1) := dk_5 (dk_at dksX16_gcd_2 5 rfl rfl)
theorem dX16_gcd_53 : decode cX16_gcd 53 = .ok (.if_icmp .gt 58, 3) := dk_163 0 58 (dk_at dksX16_gcd_2 6 rfl rfl)
theorem dX16_gcd_56 : decode cX16_gcd 56 = .ok (.aload 4, 2) := dk_25 4 (dk_at dksX16_gcd_2 9 rfl rfl)
theorem dX16_gcd_58 : decode cX16_gcd 58 = .ok (.invokevirtual 75, 3) := dk_182 0 75 (dk_at dksX16_gcd_2 11 rfl rfl)
theorem dX16_gcd_61 : decode cX16_gcd 61 = .ok (.invokestatic 79, 3) := dk_184 0 79 (dk_at dksX16_gcd_2 14 rfl rfl)
theorem dX16_gcd_64 : decode cX16_gcd 64 = .ok (.lstore 7, 2) := dk_55 7 (dk_at dksX16_gcd_2 17 rfl rfl)
theorem dX16_gcd_66 : decode cX16_gcd 66 = .ok (.aload 5, 2) := dk_25 5 (dk_at dksX16_gcd_2 19 rfl rfl)
theorem dX16_gcd_68 : decode cX16_gcd 68 = .ok (.invokevirtual 75, 3) := dk_182 0 75 (dk_at dksX16_gcd_2 21 rfl rfl)
theorem dX16_gcd_71 : decode cX16_gcd 71 = .ok (.invokestatic 79, 3) := dk_184 0 79 (dk_at dksX16_gcd_3 0 rfl rfl)
theorem dX16_gcd_74 : decode cX16_gcd 74 = .ok (.lstore 9, 2) := dk_55 9 (dk_at dksX16_gcd_3 3 rfl rfl)
theorem dX16_gcd_76 : decode cX16_gcd 76 = .ok (.lload 9, 2) := dk_22 9 (dk_at dksX16_gcd_3 5 rfl rfl)
theorem dX16_gcd_78 : decode cX16_gcd 78 = .ok (.lconst 0, 1) := dk_9 (dk_at dksX16_gcd_3 7 rfl rfl)
theorem dX16_gcd_79 : decode cX16_gcd 79 = .ok (.lcmp, 1) := dk_148 (dk_at dksX16_gcd_3 8 rfl rfl)
theorem dX16_gcd_80 : decode cX16_gcd 80 = .ok (.ifCond .eq 21, 3) := dk_153 0 21 (dk_at dksX16_gcd_3 9 rfl rfl)
theorem dX16_gcd_83 : decode cX16_gcd 83 = .ok (.lload 7, 2) := dk_22 7 (dk_at dksX16_gcd_3 12 rfl rfl)
theorem dX16_gcd_85 : decode cX16_gcd 85 = .ok (.lload 9, 2) := dk_22 9 (dk_at dksX16_gcd_3 14 rfl rfl)
theorem dX16_gcd_87 : decode cX16_gcd 87 = .ok (.lrem, 1) := dk_113 (dk_at dksX16_gcd_3 16 rfl rfl)
theorem dX16_gcd_88 : decode cX16_gcd 88 = .ok (.lstore 11, 2) := dk_55 11 (dk_at dksX16_gcd_3 17 rfl rfl)
theorem dX16_gcd_90 : decode cX16_gcd 90 = .ok (.lload 9, 2) := dk_22 9 (dk_at dksX16_gcd_3 19 rfl rfl)
theorem dX16_gcd_92 : decode cX16_gcd 92 = .ok (.lstore 7, 2) := dk_55 7 (dk_at dksX16_gcd_3 21 rfl rfl)
theorem dX16_gcd_94 : decode cX16_gcd 94 = .ok (.lload 11, 2) := dk_22 11 (dk_at dksX16_gcd_4 0 rfl rfl)
theorem dX16_gcd_96 : decode cX16_gcd 96 = .ok (.lstore 9, 2) := dk_55 9 (dk_at dksX16_gcd_4 2 rfl rfl)
theorem dX16_gcd_98 : decode cX16_gcd 98 = .ok (.goto (-22), 3) := dk_167 255 234 (dk_at dksX16_gcd_4 4 rfl rfl)
theorem dX16_gcd_101 : decode cX16_gcd 101 = .ok (.aload 4, 2) := dk_25 4 (dk_at dksX16_gcd_4 7 rfl rfl)
theorem dX16_gcd_103 : decode cX16_gcd 103 = .ok (.lload 7, 2) := dk_22 7 (dk_at dksX16_gcd_4 9 rfl rfl)
theorem dX16_gcd_105 : decode cX16_gcd 105 = .ok (.invokevirtual 83, 3) := dk_182 0 83 (dk_at dksX16_gcd_4 11 rfl rfl)
theorem dX16_gcd_108 : decode cX16_gcd 108 = .ok (.goto 33, 3) := dk_167 0 33 (dk_at dksX16_gcd_4 14 rfl rfl)
theorem dX16_gcd_111 : decode cX16_gcd 111 = .ok (.aload_n 0, 1) := dk_42 (dk_at dksX16_gcd_4 17 rfl rfl)
theorem dX16_gcd_112 : decode cX16_gcd 112 = .ok (.aconst_null, 1) := dk_1 (dk_at dksX16_gcd_4 18 rfl rfl)
theorem dX16_gcd_113 : decode cX16_gcd 113 = .ok (.aload 6, 2) := dk_25 6 (dk_at dksX16_gcd_4 19 rfl rfl)
theorem dX16_gcd_115 : decode cX16_gcd 115 = .ok (.aload 4, 2) := dk_25 4 (dk_at dksX16_gcd_4 21 rfl rfl)
theorem dX16_gcd_117 : decode cX16_gcd 117 = .ok (.aload 5, 2) := dk_25 5 (dk_at dksX16_gcd_5 0 rfl rfl)
theorem dX16_gcd_119 : decode cX16_gcd 119 = .ok (.invokevirtual 87, 3) := dk_182 0 87 (dk_at dksX16_gcd_5 2 rfl rfl)
theorem dX16_gcd_122 : decode cX16_gcd 122 = .ok (.aload 4, 2) := dk_25 4 (dk_at dksX16_gcd_5 5 rfl rfl)
theorem dX16_gcd_124 : decode cX16_gcd 124 = .ok (.astore 7, 2) := dk_58 7 (dk_at dksX16_gcd_5 7 rfl rfl)
theorem dX16_gcd_126 : decode cX16_gcd 126 = .ok (.aload 5, 2) := dk_25 5 (dk_at dksX16_gcd_5 9 rfl rfl)
theorem dX16_gcd_128 : decode cX16_gcd 128 = .ok (.astore 4, 2) := dk_58 4 (dk_at dksX16_gcd_5 11 rfl rfl)
theorem dX16_gcd_130 : decode cX16_gcd 130 = .ok (.aload 6, 2) := dk_25 6 (dk_at dksX16_gcd_5 13 rfl rfl)
theorem dX16_gcd_132 : decode cX16_gcd 132 = .ok (.astore 5, 2) := dk_58 5 (dk_at dksX16_gcd_5 15 rfl rfl)
theorem dX16_gcd_134 : decode cX16_gcd 134 = .ok (.aload 7, 2) := dk_25 7 (dk_at dksX16_gcd_5 17 rfl rfl)
theorem dX16_gcd_136 : decode cX16_gcd 136 = .ok (.astore 6, 2) := dk_58 6 (dk_at dksX16_gcd_5 19 rfl rfl)
theorem dX16_gcd_138 : decode cX16_gcd 138 = .ok (.goto (-108), 3) := dk_167 255 148 (dk_at dksX16_gcd_5 21 rfl rfl)
theorem dX16_gcd_141 : decode cX16_gcd 141 = .ok (.aload_n 1, 1) := dk_43 (dk_at dksX16_gcd_6 0 rfl rfl)
theorem dX16_gcd_142 : decode cX16_gcd 142 = .ok (.aload 4, 2) := dk_25 4 (dk_at dksX16_gcd_6 1 rfl rfl)
theorem dX16_gcd_144 : decode cX16_gcd 144 = .ok (.invokevirtual 18, 3) := dk_182 0 18 (dk_at dksX16_gcd_6 3 rfl rfl)
theorem dX16_gcd_147 : decode cX16_gcd 147 = .ok (.aload_n 1, 1) := dk_43 (dk_at dksX16_gcd_6 6 rfl rfl)
theorem dX16_gcd_148 : decode cX16_gcd 148 = .ok (.aload_n 1, 1) := dk_43 (dk_at dksX16_gcd_6 7 rfl rfl)
theorem dX16_gcd_149 : decode cX16_gcd 149 = .ok (.getfield 7, 3) := dk_180 0 7 (dk_at dksX16_gcd_6 8 rfl rfl)
theorem dX16_gcd_152 : decode cX16_gcd 152 = .ok (.ifCond .ne 7, 3) := dk_154 0 7 (dk_at dksX16_gcd_6 11 rfl rfl)
theorem dX16_gcd_155 : decode cX16_gcd 155 = .ok (.iconst 0, 1) := dk_3 (dk_at dksX16_gcd_6 14 rfl rfl)
theorem dX16_gcd_156 : decode cX16_gcd 156 = .ok (.goto 4, 3) := dk_167 0 4 (dk_at dksX16_gcd_6 15 rfl rfl)
theorem dX16_gcd_159 : decode cX16_gcd 159 = .ok (.iconst 1, 1) := dk_4 (dk_at dksX16_gcd_6 18 rfl rfl)
theorem dX16_gcd_160 : decode cX16_gcd 160 = .ok (.putfield 15, 3) := dk_181 0 15 (dk_at dksX16_gcd_6 19 rfl rfl)
theorem dX16_gcd_163 : decode cX16_gcd 163 = .ok (.return_, 1) := dk_177 (dk_at dksX16_gcd_6 22 rfl rfl)
abbrev cX16_divide : ByteArray := prog_21_method_6_code
def yX16_divide : MethodName := ⟨RX16, "divide", "(LIdealCourtModel$Num;LIdealCourtModel$Num;LIdealCourtModel$Num;LIdealCourtModel$Num;)V"⟩
def dkwX16_divide_16 : List UInt8 := [44, 44, 180, 0, 7, 154, 0, 7, 3, 167, 0, 5, 21, 5, 181, 0, 15, 177]
abbrev dktX16_divide_16 : List UInt8 := dkwX16_divide_16 ++ []
def dkwX16_divide_15 : List UInt8 := [22, 9, 109, 136, 79, 22, 13, 22, 9, 113, 55, 13, 132, 15, 255, 167, 255, 211, 44, 21, 7, 184, 0, 36]
abbrev dktX16_divide_15 : List UInt8 := dkwX16_divide_15 ++ dktX16_divide_16
def dkwX16_divide_14 : List UInt8 := [20, 0, 30, 105, 42, 180, 0, 43, 21, 15, 46, 133, 97, 55, 13, 44, 180, 0, 11, 21, 15, 22, 13]
abbrev dktX16_divide_14 : List UInt8 := dkwX16_divide_14 ++ dktX16_divide_15
def dkwX16_divide_13 : List UInt8 := [181, 0, 15, 44, 198, 0, 83, 9, 55, 13, 21, 7, 4, 100, 54, 15, 21, 15, 155, 0, 46, 22, 13]
abbrev dktX16_divide_13 : List UInt8 := dkwX16_divide_13 ++ dktX16_divide_14
def dkwX16_divide_12 : List UInt8 := [21, 8, 4, 96, 184, 0, 36, 43, 43, 180, 0, 7, 154, 0, 7, 3, 167, 0, 8, 21, 5, 21, 6, 104]
abbrev dktX16_divide_12 : List UInt8 := dkwX16_divide_12 ++ dktX16_divide_13
def dkwX16_divide_11 : List UInt8 := [163, 0, 23, 43, 180, 0, 11, 21, 13, 42, 180, 0, 49, 21, 13, 46, 79, 132, 13, 1, 167, 255, 232, 43]
abbrev dktX16_divide_11 : List UInt8 := dkwX16_divide_11 ++ dktX16_divide_12
def dkwX16_divide_10 : List UInt8 := [182, 0, 52, 136, 79, 132, 13, 255, 167, 255, 232, 43, 198, 0, 61, 3, 54, 13, 21, 13, 21, 8]
abbrev dktX16_divide_10 : List UInt8 := dkwX16_divide_10 ++ dktX16_divide_11
def dkwX16_divide_9 : List UInt8 := [167, 255, 207, 21, 8, 54, 13, 21, 13, 155, 0, 25, 42, 180, 0, 49, 21, 13, 42, 21, 13, 21, 7]
abbrev dktX16_divide_9 : List UInt8 := dkwX16_divide_9 ++ dktX16_divide_10
def dkwX16_divide_8 : List UInt8 := [180, 0, 46, 21, 13, 22, 11, 20, 0, 30, 113, 136, 79, 22, 11, 20, 0, 30, 109, 55, 11, 132, 13, 1]
abbrev dktX16_divide_8 : List UInt8 := dkwX16_divide_8 ++ dktX16_divide_9
def dkwX16_divide_7 : List UInt8 := [21, 7, 162, 0, 48, 22, 11, 25, 4, 180, 0, 11, 21, 13, 46, 133, 22, 9, 105, 97, 55, 11, 42]
abbrev dktX16_divide_7 : List UInt8 := dkwX16_divide_7 ++ dktX16_divide_8
def dkwX16_divide_6 : List UInt8 := [167, 255, 206, 42, 180, 0, 43, 45, 180, 0, 7, 22, 11, 136, 79, 9, 55, 11, 3, 54, 13, 21, 13]
abbrev dktX16_divide_6 : List UInt8 := dkwX16_divide_6 ++ dktX16_divide_7
def dkwX16_divide_5 : List UInt8 := [180, 0, 43, 21, 13, 22, 11, 20, 0, 30, 113, 136, 79, 22, 11, 20, 0, 30, 109, 55, 11, 132, 13, 1]
abbrev dktX16_divide_5 : List UInt8 := dkwX16_divide_5 ++ dktX16_divide_6
def dkwX16_divide_4 : List UInt8 := [45, 180, 0, 7, 162, 0, 47, 22, 11, 45, 180, 0, 11, 21, 13, 46, 133, 22, 9, 105, 97, 55, 11, 42]
abbrev dktX16_divide_4 : List UInt8 := dkwX16_divide_4 ++ dktX16_divide_5
def dkwX16_divide_3 : List UInt8 := [25, 4, 180, 0, 11, 21, 7, 4, 100, 46, 133, 10, 97, 109, 55, 9, 9, 55, 11, 3, 54, 13, 21, 13]
abbrev dktX16_divide_3 : List UInt8 := dkwX16_divide_3 ++ dktX16_divide_4
def dkwX16_divide_2 : List UInt8 := [181, 0, 7, 177, 25, 4, 180, 0, 7, 54, 7, 45, 180, 0, 7, 21, 7, 100, 54, 8, 20, 0, 30]
abbrev dktX16_divide_2 : List UInt8 := dkwX16_divide_2 ++ dktX16_divide_3
def dkwX16_divide_1 : List UInt8 := [198, 0, 13, 44, 45, 165, 0, 8, 44, 45, 182, 0, 18, 43, 198, 0, 13, 43, 3, 181, 0, 15, 43, 3]
abbrev dktX16_divide_1 : List UInt8 := dkwX16_divide_1 ++ dktX16_divide_2
def dkwX16_divide_0 : List UInt8 := [45, 180, 0, 15, 54, 5, 25, 4, 180, 0, 15, 54, 6, 45, 25, 4, 184, 0, 32, 156, 0, 32, 44]
abbrev dktX16_divide_0 : List UInt8 := dkwX16_divide_0 ++ dktX16_divide_1
theorem dksX16_divide_0 : cX16_divide.data.toList.drop 0 = dktX16_divide_0 := by decide +kernel
theorem dksX16_divide_1 : cX16_divide.data.toList.drop 23 = dktX16_divide_1 := dk_seg dksX16_divide_0 23 rfl rfl
theorem dksX16_divide_2 : cX16_divide.data.toList.drop 47 = dktX16_divide_2 := dk_seg dksX16_divide_1 24 rfl rfl
theorem dksX16_divide_3 : cX16_divide.data.toList.drop 70 = dktX16_divide_3 := dk_seg dksX16_divide_2 23 rfl rfl
theorem dksX16_divide_4 : cX16_divide.data.toList.drop 94 = dktX16_divide_4 := dk_seg dksX16_divide_3 24 rfl rfl
theorem dksX16_divide_5 : cX16_divide.data.toList.drop 118 = dktX16_divide_5 := dk_seg dksX16_divide_4 24 rfl rfl
theorem dksX16_divide_6 : cX16_divide.data.toList.drop 142 = dktX16_divide_6 := dk_seg dksX16_divide_5 24 rfl rfl
theorem dksX16_divide_7 : cX16_divide.data.toList.drop 165 = dktX16_divide_7 := dk_seg dksX16_divide_6 23 rfl rfl
theorem dksX16_divide_8 : cX16_divide.data.toList.drop 188 = dktX16_divide_8 := dk_seg dksX16_divide_7 23 rfl rfl
theorem dksX16_divide_9 : cX16_divide.data.toList.drop 212 = dktX16_divide_9 := dk_seg dksX16_divide_8 24 rfl rfl
theorem dksX16_divide_10 : cX16_divide.data.toList.drop 235 = dktX16_divide_10 := dk_seg dksX16_divide_9 23 rfl rfl
theorem dksX16_divide_11 : cX16_divide.data.toList.drop 257 = dktX16_divide_11 := dk_seg dksX16_divide_10 22 rfl rfl
theorem dksX16_divide_12 : cX16_divide.data.toList.drop 281 = dktX16_divide_12 := dk_seg dksX16_divide_11 24 rfl rfl
theorem dksX16_divide_13 : cX16_divide.data.toList.drop 305 = dktX16_divide_13 := dk_seg dksX16_divide_12 24 rfl rfl
theorem dksX16_divide_14 : cX16_divide.data.toList.drop 328 = dktX16_divide_14 := dk_seg dksX16_divide_13 23 rfl rfl
theorem dksX16_divide_15 : cX16_divide.data.toList.drop 351 = dktX16_divide_15 := dk_seg dksX16_divide_14 23 rfl rfl
theorem dksX16_divide_16 : cX16_divide.data.toList.drop 375 = dktX16_divide_16 := dk_seg dksX16_divide_15 24 rfl rfl
theorem dX16_divide_0 : decode cX16_divide 0 = .ok (.aload_n 3, 1) := dk_45 (dk_at dksX16_divide_0 0 rfl rfl)
theorem dX16_divide_1 : decode cX16_divide 1 = .ok (.getfield 15, 3) := dk_180 0 15 (dk_at dksX16_divide_0 1 rfl rfl)
theorem dX16_divide_4 : decode cX16_divide 4 = .ok (.istore 5, 2) := dk_54 5 (dk_at dksX16_divide_0 4 rfl rfl)
theorem dX16_divide_6 : decode cX16_divide 6 = .ok (.aload 4, 2) := dk_25 4 (dk_at dksX16_divide_0 6 rfl rfl)
theorem dX16_divide_8 : decode cX16_divide 8 = .ok (.getfield 15, 3) := dk_180 0 15 (dk_at dksX16_divide_0 8 rfl rfl)
theorem dX16_divide_11 : decode cX16_divide 11 = .ok (.istore 6, 2) := dk_54 6 (dk_at dksX16_divide_0 11 rfl rfl)
theorem dX16_divide_13 : decode cX16_divide 13 = .ok (.aload_n 3, 1) := dk_45 (dk_at dksX16_divide_0 13 rfl rfl)
theorem dX16_divide_14 : decode cX16_divide 14 = .ok (.aload 4, 2) := dk_25 4 (dk_at dksX16_divide_0 14 rfl rfl)
theorem dX16_divide_16 : decode cX16_divide 16 = .ok (.invokestatic 32, 3) := dk_184 0 32 (dk_at dksX16_divide_0 16 rfl rfl)
theorem dX16_divide_19 : decode cX16_divide 19 = .ok (.ifCond .ge 32, 3) := dk_156 0 32 (dk_at dksX16_divide_0 19 rfl rfl)
theorem dX16_divide_22 : decode cX16_divide 22 = .ok (.aload_n 2, 1) := dk_44 (dk_at dksX16_divide_0 22 rfl rfl)
theorem dX16_divide_23 : decode cX16_divide 23 = .ok (.ifnull 13, 3) := dk_198 0 13 (dk_at dksX16_divide_1 0 rfl rfl)
theorem dX16_divide_26 : decode cX16_divide 26 = .ok (.aload_n 2, 1) := dk_44 (dk_at dksX16_divide_1 3 rfl rfl)
theorem dX16_divide_27 : decode cX16_divide 27 = .ok (.aload_n 3, 1) := dk_45 (dk_at dksX16_divide_1 4 rfl rfl)
theorem dX16_divide_28 : decode cX16_divide 28 = .ok (.if_acmp .eq 8, 3) := dk_165 0 8 (dk_at dksX16_divide_1 5 rfl rfl)
theorem dX16_divide_31 : decode cX16_divide 31 = .ok (.aload_n 2, 1) := dk_44 (dk_at dksX16_divide_1 8 rfl rfl)
theorem dX16_divide_32 : decode cX16_divide 32 = .ok (.aload_n 3, 1) := dk_45 (dk_at dksX16_divide_1 9 rfl rfl)
theorem dX16_divide_33 : decode cX16_divide 33 = .ok (.invokevirtual 18, 3) := dk_182 0 18 (dk_at dksX16_divide_1 10 rfl rfl)
theorem dX16_divide_36 : decode cX16_divide 36 = .ok (.aload_n 1, 1) := dk_43 (dk_at dksX16_divide_1 13 rfl rfl)
theorem dX16_divide_37 : decode cX16_divide 37 = .ok (.ifnull 13, 3) := dk_198 0 13 (dk_at dksX16_divide_1 14 rfl rfl)
theorem dX16_divide_40 : decode cX16_divide 40 = .ok (.aload_n 1, 1) := dk_43 (dk_at dksX16_divide_1 17 rfl rfl)
theorem dX16_divide_41 : decode cX16_divide 41 = .ok (.iconst 0, 1) := dk_3 (dk_at dksX16_divide_1 18 rfl rfl)
theorem dX16_divide_42 : decode cX16_divide 42 = .ok (.putfield 15, 3) := dk_181 0 15 (dk_at dksX16_divide_1 19 rfl rfl)
theorem dX16_divide_45 : decode cX16_divide 45 = .ok (.aload_n 1, 1) := dk_43 (dk_at dksX16_divide_1 22 rfl rfl)
theorem dX16_divide_46 : decode cX16_divide 46 = .ok (.iconst 0, 1) := dk_3 (dk_at dksX16_divide_1 23 rfl rfl)
theorem dX16_divide_47 : decode cX16_divide 47 = .ok (.putfield 7, 3) := dk_181 0 7 (dk_at dksX16_divide_2 0 rfl rfl)
theorem dX16_divide_50 : decode cX16_divide 50 = .ok (.return_, 1) := dk_177 (dk_at dksX16_divide_2 3 rfl rfl)
theorem dX16_divide_51 : decode cX16_divide 51 = .ok (.aload 4, 2) := dk_25 4 (dk_at dksX16_divide_2 4 rfl rfl)
theorem dX16_divide_53 : decode cX16_divide 53 = .ok (.getfield 7, 3) := dk_180 0 7 (dk_at dksX16_divide_2 6 rfl rfl)
theorem dX16_divide_56 : decode cX16_divide 56 = .ok (.istore 7, 2) := dk_54 7 (dk_at dksX16_divide_2 9 rfl rfl)
theorem dX16_divide_58 : decode cX16_divide 58 = .ok (.aload_n 3, 1) := dk_45 (dk_at dksX16_divide_2 11 rfl rfl)
theorem dX16_divide_59 : decode cX16_divide 59 = .ok (.getfield 7, 3) := dk_180 0 7 (dk_at dksX16_divide_2 12 rfl rfl)
theorem dX16_divide_62 : decode cX16_divide 62 = .ok (.iload 7, 2) := dk_21 7 (dk_at dksX16_divide_2 15 rfl rfl)
theorem dX16_divide_64 : decode cX16_divide 64 = .ok (.isub, 1) := dk_100 (dk_at dksX16_divide_2 17 rfl rfl)
theorem dX16_divide_65 : decode cX16_divide 65 = .ok (.istore 8, 2) := dk_54 8 (dk_at dksX16_divide_2 18 rfl rfl)
theorem dX16_divide_67 : decode cX16_divide 67 = .ok (.ldc2_w 30, 3) := dk_20 0 30 (dk_at dksX16_divide_2 20 rfl rfl)
theorem dX16_divide_70 : decode cX16_divide 70 = .ok (.aload 4, 2) := dk_25 4 (dk_at dksX16_divide_3 0 rfl rfl)
theorem dX16_divide_72 : decode cX16_divide 72 = .ok (.getfield 11, 3) := dk_180 0 11 (dk_at dksX16_divide_3 2 rfl rfl)
theorem dX16_divide_75 : decode cX16_divide 75 = .ok (.iload 7, 2) := dk_21 7 (dk_at dksX16_divide_3 5 rfl rfl)
theorem dX16_divide_77 : decode cX16_divide 77 = .ok (.iconst 1, 1) := dk_4 (dk_at dksX16_divide_3 7 rfl rfl)
theorem dX16_divide_78 : decode cX16_divide 78 = .ok (.isub, 1) := dk_100 (dk_at dksX16_divide_3 8 rfl rfl)
theorem dX16_divide_79 : decode cX16_divide 79 = .ok (.iaload, 1) := dk_46 (dk_at dksX16_divide_3 9 rfl rfl)
theorem dX16_divide_80 : decode cX16_divide 80 = .ok (.i2l, 1) := dk_133 (dk_at dksX16_divide_3 10 rfl rfl)
theorem dX16_divide_81 : decode cX16_divide 81 = .ok (.lconst 1, 1) := dk_10 (dk_at dksX16_divide_3 11 rfl rfl)
theorem dX16_divide_82 : decode cX16_divide 82 = .ok (.ladd, 1) := dk_97 (dk_at dksX16_divide_3 12 rfl rfl)
theorem dX16_divide_83 : decode cX16_divide 83 = .ok (.ldiv, 1) := dk_109 (dk_at dksX16_divide_3 13 rfl rfl)
theorem dX16_divide_84 : decode cX16_divide 84 = .ok (.lstore 9, 2) := dk_55 9 (dk_at dksX16_divide_3 14 rfl rfl)
theorem dX16_divide_86 : decode cX16_divide 86 = .ok (.lconst 0, 1) := dk_9 (dk_at dksX16_divide_3 16 rfl rfl)
theorem dX16_divide_87 : decode cX16_divide 87 = .ok (.lstore 11, 2) := dk_55 11 (dk_at dksX16_divide_3 17 rfl rfl)
theorem dX16_divide_89 : decode cX16_divide 89 = .ok (.iconst 0, 1) := dk_3 (dk_at dksX16_divide_3 19 rfl rfl)
theorem dX16_divide_90 : decode cX16_divide 90 = .ok (.istore 13, 2) := dk_54 13 (dk_at dksX16_divide_3 20 rfl rfl)
theorem dX16_divide_92 : decode cX16_divide 92 = .ok (.iload 13, 2) := dk_21 13 (dk_at dksX16_divide_3 22 rfl rfl)
theorem dX16_divide_94 : decode cX16_divide 94 = .ok (.aload_n 3, 1) := dk_45 (dk_at dksX16_divide_4 0 rfl rfl)
theorem dX16_divide_95 : decode cX16_divide 95 = .ok (.getfield 7, 3) := dk_180 0 7 (dk_at dksX16_divide_4 1 rfl rfl)
theorem dX16_divide_98 : decode cX16_divide 98 = .ok (.if_icmp .ge 47, 3) := dk_162 0 47 (dk_at dksX16_divide_4 4 rfl rfl)
theorem dX16_divide_101 : decode cX16_divide 101 = .ok (.lload 11, 2) := dk_22 11 (dk_at dksX16_divide_4 7 rfl rfl)
theorem dX16_divide_103 : decode cX16_divide 103 = .ok (.aload_n 3, 1) := dk_45 (dk_at dksX16_divide_4 9 rfl rfl)
theorem dX16_divide_104 : decode cX16_divide 104 = .ok (.getfield 11, 3) := dk_180 0 11 (dk_at dksX16_divide_4 10 rfl rfl)
theorem dX16_divide_107 : decode cX16_divide 107 = .ok (.iload 13, 2) := dk_21 13 (dk_at dksX16_divide_4 13 rfl rfl)
theorem dX16_divide_109 : decode cX16_divide 109 = .ok (.iaload, 1) := dk_46 (dk_at dksX16_divide_4 15 rfl rfl)
theorem dX16_divide_110 : decode cX16_divide 110 = .ok (.i2l, 1) := dk_133 (dk_at dksX16_divide_4 16 rfl rfl)
theorem dX16_divide_111 : decode cX16_divide 111 = .ok (.lload 9, 2) := dk_22 9 (dk_at dksX16_divide_4 17 rfl rfl)
theorem dX16_divide_113 : decode cX16_divide 113 = .ok (.lmul, 1) := dk_105 (dk_at dksX16_divide_4 19 rfl rfl)
theorem dX16_divide_114 : decode cX16_divide 114 = .ok (.ladd, 1) := dk_97 (dk_at dksX16_divide_4 20 rfl rfl)
theorem dX16_divide_115 : decode cX16_divide 115 = .ok (.lstore 11, 2) := dk_55 11 (dk_at dksX16_divide_4 21 rfl rfl)
theorem dX16_divide_117 : decode cX16_divide 117 = .ok (.aload_n 0, 1) := dk_42 (dk_at dksX16_divide_4 23 rfl rfl)
theorem dX16_divide_118 : decode cX16_divide 118 = .ok (.getfield 43, 3) := dk_180 0 43 (dk_at dksX16_divide_5 0 rfl rfl)
theorem dX16_divide_121 : decode cX16_divide 121 = .ok (.iload 13, 2) := dk_21 13 (dk_at dksX16_divide_5 3 rfl rfl)
theorem dX16_divide_123 : decode cX16_divide 123 = .ok (.lload 11, 2) := dk_22 11 (dk_at dksX16_divide_5 5 rfl rfl)
theorem dX16_divide_125 : decode cX16_divide 125 = .ok (.ldc2_w 30, 3) := dk_20 0 30 (dk_at dksX16_divide_5 7 rfl rfl)
theorem dX16_divide_128 : decode cX16_divide 128 = .ok (.lrem, 1) := dk_113 (dk_at dksX16_divide_5 10 rfl rfl)
theorem dX16_divide_129 : decode cX16_divide 129 = .ok (.l2i, 1) := dk_136 (dk_at dksX16_divide_5 11 rfl rfl)
theorem dX16_divide_130 : decode cX16_divide 130 = .ok (.iastore, 1) := dk_79 (dk_at dksX16_divide_5 12 rfl rfl)
theorem dX16_divide_131 : decode cX16_divide 131 = .ok (.lload 11, 2) := dk_22 11 (dk_at dksX16_divide_5 13 rfl rfl)
theorem dX16_divide_133 : decode cX16_divide 133 = .ok (.ldc2_w 30, 3) := dk_20 0 30 (dk_at dksX16_divide_5 15 rfl rfl)
theorem dX16_divide_136 : decode cX16_divide 136 = .ok (.ldiv, 1) := dk_109 (dk_at dksX16_divide_5 18 rfl rfl)
theorem dX16_divide_137 : decode cX16_divide 137 = .ok (.lstore 11, 2) := dk_55 11 (dk_at dksX16_divide_5 19 rfl rfl)
theorem dX16_divide_139 : decode cX16_divide 139 = .ok (.iinc 13 1, 3) := dk_132 13 1 (dk_at dksX16_divide_5 21 rfl rfl)
theorem dX16_divide_142 : decode cX16_divide 142 = .ok (.goto (-50), 3) := dk_167 255 206 (dk_at dksX16_divide_6 0 rfl rfl)
theorem dX16_divide_145 : decode cX16_divide 145 = .ok (.aload_n 0, 1) := dk_42 (dk_at dksX16_divide_6 3 rfl rfl)
theorem dX16_divide_146 : decode cX16_divide 146 = .ok (.getfield 43, 3) := dk_180 0 43 (dk_at dksX16_divide_6 4 rfl rfl)
theorem dX16_divide_149 : decode cX16_divide 149 = .ok (.aload_n 3, 1) := dk_45 (dk_at dksX16_divide_6 7 rfl rfl)
theorem dX16_divide_150 : decode cX16_divide 150 = .ok (.getfield 7, 3) := dk_180 0 7 (dk_at dksX16_divide_6 8 rfl rfl)
theorem dX16_divide_153 : decode cX16_divide 153 = .ok (.lload 11, 2) := dk_22 11 (dk_at dksX16_divide_6 11 rfl rfl)
theorem dX16_divide_155 : decode cX16_divide 155 = .ok (.l2i, 1) := dk_136 (dk_at dksX16_divide_6 13 rfl rfl)
theorem dX16_divide_156 : decode cX16_divide 156 = .ok (.iastore, 1) := dk_79 (dk_at dksX16_divide_6 14 rfl rfl)
theorem dX16_divide_157 : decode cX16_divide 157 = .ok (.lconst 0, 1) := dk_9 (dk_at dksX16_divide_6 15 rfl rfl)
theorem dX16_divide_158 : decode cX16_divide 158 = .ok (.lstore 11, 2) := dk_55 11 (dk_at dksX16_divide_6 16 rfl rfl)
theorem dX16_divide_160 : decode cX16_divide 160 = .ok (.iconst 0, 1) := dk_3 (dk_at dksX16_divide_6 18 rfl rfl)
theorem dX16_divide_161 : decode cX16_divide 161 = .ok (.istore 13, 2) := dk_54 13 (dk_at dksX16_divide_6 19 rfl rfl)
theorem dX16_divide_163 : decode cX16_divide 163 = .ok (.iload 13, 2) := dk_21 13 (dk_at dksX16_divide_6 21 rfl rfl)
theorem dX16_divide_165 : decode cX16_divide 165 = .ok (.iload 7, 2) := dk_21 7 (dk_at dksX16_divide_7 0 rfl rfl)
theorem dX16_divide_167 : decode cX16_divide 167 = .ok (.if_icmp .ge 48, 3) := dk_162 0 48 (dk_at dksX16_divide_7 2 rfl rfl)
theorem dX16_divide_170 : decode cX16_divide 170 = .ok (.lload 11, 2) := dk_22 11 (dk_at dksX16_divide_7 5 rfl rfl)
theorem dX16_divide_172 : decode cX16_divide 172 = .ok (.aload 4, 2) := dk_25 4 (dk_at dksX16_divide_7 7 rfl rfl)
theorem dX16_divide_174 : decode cX16_divide 174 = .ok (.getfield 11, 3) := dk_180 0 11 (dk_at dksX16_divide_7 9 rfl rfl)
theorem dX16_divide_177 : decode cX16_divide 177 = .ok (.iload 13, 2) := dk_21 13 (dk_at dksX16_divide_7 12 rfl rfl)
theorem dX16_divide_179 : decode cX16_divide 179 = .ok (.iaload, 1) := dk_46 (dk_at dksX16_divide_7 14 rfl rfl)
theorem dX16_divide_180 : decode cX16_divide 180 = .ok (.i2l, 1) := dk_133 (dk_at dksX16_divide_7 15 rfl rfl)
theorem dX16_divide_181 : decode cX16_divide 181 = .ok (.lload 9, 2) := dk_22 9 (dk_at dksX16_divide_7 16 rfl rfl)
theorem dX16_divide_183 : decode cX16_divide 183 = .ok (.lmul, 1) := dk_105 (dk_at dksX16_divide_7 18 rfl rfl)
theorem dX16_divide_184 : decode cX16_divide 184 = .ok (.ladd, 1) := dk_97 (dk_at dksX16_divide_7 19 rfl rfl)
theorem dX16_divide_185 : decode cX16_divide 185 = .ok (.lstore 11, 2) := dk_55 11 (dk_at dksX16_divide_7 20 rfl rfl)
theorem dX16_divide_187 : decode cX16_divide 187 = .ok (.aload_n 0, 1) := dk_42 (dk_at dksX16_divide_7 22 rfl rfl)
theorem dX16_divide_188 : decode cX16_divide 188 = .ok (.getfield 46, 3) := dk_180 0 46 (dk_at dksX16_divide_8 0 rfl rfl)
theorem dX16_divide_191 : decode cX16_divide 191 = .ok (.iload 13, 2) := dk_21 13 (dk_at dksX16_divide_8 3 rfl rfl)
theorem dX16_divide_193 : decode cX16_divide 193 = .ok (.lload 11, 2) := dk_22 11 (dk_at dksX16_divide_8 5 rfl rfl)
theorem dX16_divide_195 : decode cX16_divide 195 = .ok (.ldc2_w 30, 3) := dk_20 0 30 (dk_at dksX16_divide_8 7 rfl rfl)
theorem dX16_divide_198 : decode cX16_divide 198 = .ok (.lrem, 1) := dk_113 (dk_at dksX16_divide_8 10 rfl rfl)
theorem dX16_divide_199 : decode cX16_divide 199 = .ok (.l2i, 1) := dk_136 (dk_at dksX16_divide_8 11 rfl rfl)
theorem dX16_divide_200 : decode cX16_divide 200 = .ok (.iastore, 1) := dk_79 (dk_at dksX16_divide_8 12 rfl rfl)
theorem dX16_divide_201 : decode cX16_divide 201 = .ok (.lload 11, 2) := dk_22 11 (dk_at dksX16_divide_8 13 rfl rfl)
theorem dX16_divide_203 : decode cX16_divide 203 = .ok (.ldc2_w 30, 3) := dk_20 0 30 (dk_at dksX16_divide_8 15 rfl rfl)
theorem dX16_divide_206 : decode cX16_divide 206 = .ok (.ldiv, 1) := dk_109 (dk_at dksX16_divide_8 18 rfl rfl)
theorem dX16_divide_207 : decode cX16_divide 207 = .ok (.lstore 11, 2) := dk_55 11 (dk_at dksX16_divide_8 19 rfl rfl)
theorem dX16_divide_209 : decode cX16_divide 209 = .ok (.iinc 13 1, 3) := dk_132 13 1 (dk_at dksX16_divide_8 21 rfl rfl)
theorem dX16_divide_212 : decode cX16_divide 212 = .ok (.goto (-49), 3) := dk_167 255 207 (dk_at dksX16_divide_9 0 rfl rfl)
theorem dX16_divide_215 : decode cX16_divide 215 = .ok (.iload 8, 2) := dk_21 8 (dk_at dksX16_divide_9 3 rfl rfl)
theorem dX16_divide_217 : decode cX16_divide 217 = .ok (.istore 13, 2) := dk_54 13 (dk_at dksX16_divide_9 5 rfl rfl)
theorem dX16_divide_219 : decode cX16_divide 219 = .ok (.iload 13, 2) := dk_21 13 (dk_at dksX16_divide_9 7 rfl rfl)
theorem dX16_divide_221 : decode cX16_divide 221 = .ok (.ifCond .lt 25, 3) := dk_155 0 25 (dk_at dksX16_divide_9 9 rfl rfl)
theorem dX16_divide_224 : decode cX16_divide 224 = .ok (.aload_n 0, 1) := dk_42 (dk_at dksX16_divide_9 12 rfl rfl)
theorem dX16_divide_225 : decode cX16_divide 225 = .ok (.getfield 49, 3) := dk_180 0 49 (dk_at dksX16_divide_9 13 rfl rfl)
theorem dX16_divide_228 : decode cX16_divide 228 = .ok (.iload 13, 2) := dk_21 13 (dk_at dksX16_divide_9 16 rfl rfl)
theorem dX16_divide_230 : decode cX16_divide 230 = .ok (.aload_n 0, 1) := dk_42 (dk_at dksX16_divide_9 18 rfl rfl)
theorem dX16_divide_231 : decode cX16_divide 231 = .ok (.iload 13, 2) := dk_21 13 (dk_at dksX16_divide_9 19 rfl rfl)
theorem dX16_divide_233 : decode cX16_divide 233 = .ok (.iload 7, 2) := dk_21 7 (dk_at dksX16_divide_9 21 rfl rfl)
theorem dX16_divide_235 : decode cX16_divide 235 = .ok (.invokevirtual 52, 3) := dk_182 0 52 (dk_at dksX16_divide_10 0 rfl rfl)
theorem dX16_divide_238 : decode cX16_divide 238 = .ok (.l2i, 1) := dk_136 (dk_at dksX16_divide_10 3 rfl rfl)
theorem dX16_divide_239 : decode cX16_divide 239 = .ok (.iastore, 1) := dk_79 (dk_at dksX16_divide_10 4 rfl rfl)
theorem dX16_divide_240 : decode cX16_divide 240 = .ok (.iinc 13 (-1), 3) := dk_132 13 255 (dk_at dksX16_divide_10 5 rfl rfl)
theorem dX16_divide_243 : decode cX16_divide 243 = .ok (.goto (-24), 3) := dk_167 255 232 (dk_at dksX16_divide_10 8 rfl rfl)
theorem dX16_divide_246 : decode cX16_divide 246 = .ok (.aload_n 1, 1) := dk_43 (dk_at dksX16_divide_10 11 rfl rfl)
theorem dX16_divide_247 : decode cX16_divide 247 = .ok (.ifnull 61, 3) := dk_198 0 61 (dk_at dksX16_divide_10 12 rfl rfl)
theorem dX16_divide_250 : decode cX16_divide 250 = .ok (.iconst 0, 1) := dk_3 (dk_at dksX16_divide_10 15 rfl rfl)
theorem dX16_divide_251 : decode cX16_divide 251 = .ok (.istore 13, 2) := dk_54 13 (dk_at dksX16_divide_10 16 rfl rfl)
theorem dX16_divide_253 : decode cX16_divide 253 = .ok (.iload 13, 2) := dk_21 13 (dk_at dksX16_divide_10 18 rfl rfl)
theorem dX16_divide_255 : decode cX16_divide 255 = .ok (.iload 8, 2) := dk_21 8 (dk_at dksX16_divide_10 20 rfl rfl)
theorem dX16_divide_257 : decode cX16_divide 257 = .ok (.if_icmp .gt 23, 3) := dk_163 0 23 (dk_at dksX16_divide_11 0 rfl rfl)
theorem dX16_divide_260 : decode cX16_divide 260 = .ok (.aload_n 1, 1) := dk_43 (dk_at dksX16_divide_11 3 rfl rfl)
theorem dX16_divide_261 : decode cX16_divide 261 = .ok (.getfield 11, 3) := dk_180 0 11 (dk_at dksX16_divide_11 4 rfl rfl)
theorem dX16_divide_264 : decode cX16_divide 264 = .ok (.iload 13, 2) := dk_21 13 (dk_at dksX16_divide_11 7 rfl rfl)
theorem dX16_divide_266 : decode cX16_divide 266 = .ok (.aload_n 0, 1) := dk_42 (dk_at dksX16_divide_11 9 rfl rfl)
theorem dX16_divide_267 : decode cX16_divide 267 = .ok (.getfield 49, 3) := dk_180 0 49 (dk_at dksX16_divide_11 10 rfl rfl)
theorem dX16_divide_270 : decode cX16_divide 270 = .ok (.iload 13, 2) := dk_21 13 (dk_at dksX16_divide_11 13 rfl rfl)
theorem dX16_divide_272 : decode cX16_divide 272 = .ok (.iaload, 1) := dk_46 (dk_at dksX16_divide_11 15 rfl rfl)
theorem dX16_divide_273 : decode cX16_divide 273 = .ok (.iastore, 1) := dk_79 (dk_at dksX16_divide_11 16 rfl rfl)
theorem dX16_divide_274 : decode cX16_divide 274 = .ok (.iinc 13 1, 3) := dk_132 13 1 (dk_at dksX16_divide_11 17 rfl rfl)
theorem dX16_divide_277 : decode cX16_divide 277 = .ok (.goto (-24), 3) := dk_167 255 232 (dk_at dksX16_divide_11 20 rfl rfl)
theorem dX16_divide_280 : decode cX16_divide 280 = .ok (.aload_n 1, 1) := dk_43 (dk_at dksX16_divide_11 23 rfl rfl)
theorem dX16_divide_281 : decode cX16_divide 281 = .ok (.iload 8, 2) := dk_21 8 (dk_at dksX16_divide_12 0 rfl rfl)
theorem dX16_divide_283 : decode cX16_divide 283 = .ok (.iconst 1, 1) := dk_4 (dk_at dksX16_divide_12 2 rfl rfl)
theorem dX16_divide_284 : decode cX16_divide 284 = .ok (.iadd, 1) := dk_96 (dk_at dksX16_divide_12 3 rfl rfl)
theorem dX16_divide_285 : decode cX16_divide 285 = .ok (.invokestatic 36, 3) := dk_184 0 36 (dk_at dksX16_divide_12 4 rfl rfl)
theorem dX16_divide_288 : decode cX16_divide 288 = .ok (.aload_n 1, 1) := dk_43 (dk_at dksX16_divide_12 7 rfl rfl)
theorem dX16_divide_289 : decode cX16_divide 289 = .ok (.aload_n 1, 1) := dk_43 (dk_at dksX16_divide_12 8 rfl rfl)
theorem dX16_divide_290 : decode cX16_divide 290 = .ok (.getfield 7, 3) := dk_180 0 7 (dk_at dksX16_divide_12 9 rfl rfl)
theorem dX16_divide_293 : decode cX16_divide 293 = .ok (.ifCond .ne 7, 3) := dk_154 0 7 (dk_at dksX16_divide_12 12 rfl rfl)
theorem dX16_divide_296 : decode cX16_divide 296 = .ok (.iconst 0, 1) := dk_3 (dk_at dksX16_divide_12 15 rfl rfl)
theorem dX16_divide_297 : decode cX16_divide 297 = .ok (.goto 8, 3) := dk_167 0 8 (dk_at dksX16_divide_12 16 rfl rfl)
theorem dX16_divide_300 : decode cX16_divide 300 = .ok (.iload 5, 2) := dk_21 5 (dk_at dksX16_divide_12 19 rfl rfl)
theorem dX16_divide_302 : decode cX16_divide 302 = .ok (.iload 6, 2) := dk_21 6 (dk_at dksX16_divide_12 21 rfl rfl)
theorem dX16_divide_304 : decode cX16_divide 304 = .ok (.imul, 1) := dk_104 (dk_at dksX16_divide_12 23 rfl rfl)
theorem dX16_divide_305 : decode cX16_divide 305 = .ok (.putfield 15, 3) := dk_181 0 15 (dk_at dksX16_divide_13 0 rfl rfl)
theorem dX16_divide_308 : decode cX16_divide 308 = .ok (.aload_n 2, 1) := dk_44 (dk_at dksX16_divide_13 3 rfl rfl)
theorem dX16_divide_309 : decode cX16_divide 309 = .ok (.ifnull 83, 3) := dk_198 0 83 (dk_at dksX16_divide_13 4 rfl rfl)
theorem dX16_divide_312 : decode cX16_divide 312 = .ok (.lconst 0, 1) := dk_9 (dk_at dksX16_divide_13 7 rfl rfl)
theorem dX16_divide_313 : decode cX16_divide 313 = .ok (.lstore 13, 2) := dk_55 13 (dk_at dksX16_divide_13 8 rfl rfl)
theorem dX16_divide_315 : decode cX16_divide 315 = .ok (.iload 7, 2) := dk_21 7 (dk_at dksX16_divide_13 10 rfl rfl)
theorem dX16_divide_317 : decode cX16_divide 317 = .ok (.iconst 1, 1) := dk_4 (dk_at dksX16_divide_13 12 rfl rfl)
theorem dX16_divide_318 : decode cX16_divide 318 = .ok (.isub, 1) := dk_100 (dk_at dksX16_divide_13 13 rfl rfl)
theorem dX16_divide_319 : decode cX16_divide 319 = .ok (.istore 15, 2) := dk_54 15 (dk_at dksX16_divide_13 14 rfl rfl)
theorem dX16_divide_321 : decode cX16_divide 321 = .ok (.iload 15, 2) := dk_21 15 (dk_at dksX16_divide_13 16 rfl rfl)
theorem dX16_divide_323 : decode cX16_divide 323 = .ok (.ifCond .lt 46, 3) := dk_155 0 46 (dk_at dksX16_divide_13 18 rfl rfl)
theorem dX16_divide_326 : decode cX16_divide 326 = .ok (.lload 13, 2) := dk_22 13 (dk_at dksX16_divide_13 21 rfl rfl)
theorem dX16_divide_328 : decode cX16_divide 328 = .ok (.ldc2_w 30, 3) := dk_20 0 30 (dk_at dksX16_divide_14 0 rfl rfl)
theorem dX16_divide_331 : decode cX16_divide 331 = .ok (.lmul, 1) := dk_105 (dk_at dksX16_divide_14 3 rfl rfl)
theorem dX16_divide_332 : decode cX16_divide 332 = .ok (.aload_n 0, 1) := dk_42 (dk_at dksX16_divide_14 4 rfl rfl)
theorem dX16_divide_333 : decode cX16_divide 333 = .ok (.getfield 43, 3) := dk_180 0 43 (dk_at dksX16_divide_14 5 rfl rfl)
theorem dX16_divide_336 : decode cX16_divide 336 = .ok (.iload 15, 2) := dk_21 15 (dk_at dksX16_divide_14 8 rfl rfl)
theorem dX16_divide_338 : decode cX16_divide 338 = .ok (.iaload, 1) := dk_46 (dk_at dksX16_divide_14 10 rfl rfl)
theorem dX16_divide_339 : decode cX16_divide 339 = .ok (.i2l, 1) := dk_133 (dk_at dksX16_divide_14 11 rfl rfl)
theorem dX16_divide_340 : decode cX16_divide 340 = .ok (.ladd, 1) := dk_97 (dk_at dksX16_divide_14 12 rfl rfl)
theorem dX16_divide_341 : decode cX16_divide 341 = .ok (.lstore 13, 2) := dk_55 13 (dk_at dksX16_divide_14 13 rfl rfl)
theorem dX16_divide_343 : decode cX16_divide 343 = .ok (.aload_n 2, 1) := dk_44 (dk_at dksX16_divide_14 15 rfl rfl)
theorem dX16_divide_344 : decode cX16_divide 344 = .ok (.getfield 11, 3) := dk_180 0 11 (dk_at dksX16_divide_14 16 rfl rfl)
theorem dX16_divide_347 : decode cX16_divide 347 = .ok (.iload 15, 2) := dk_21 15 (dk_at dksX16_divide_14 19 rfl rfl)
theorem dX16_divide_349 : decode cX16_divide 349 = .ok (.lload 13, 2) := dk_22 13 (dk_at dksX16_divide_14 21 rfl rfl)
theorem dX16_divide_351 : decode cX16_divide 351 = .ok (.lload 9, 2) := dk_22 9 (dk_at dksX16_divide_15 0 rfl rfl)
theorem dX16_divide_353 : decode cX16_divide 353 = .ok (.ldiv, 1) := dk_109 (dk_at dksX16_divide_15 2 rfl rfl)
theorem dX16_divide_354 : decode cX16_divide 354 = .ok (.l2i, 1) := dk_136 (dk_at dksX16_divide_15 3 rfl rfl)
theorem dX16_divide_355 : decode cX16_divide 355 = .ok (.iastore, 1) := dk_79 (dk_at dksX16_divide_15 4 rfl rfl)
theorem dX16_divide_356 : decode cX16_divide 356 = .ok (.lload 13, 2) := dk_22 13 (dk_at dksX16_divide_15 5 rfl rfl)
theorem dX16_divide_358 : decode cX16_divide 358 = .ok (.lload 9, 2) := dk_22 9 (dk_at dksX16_divide_15 7 rfl rfl)
theorem dX16_divide_360 : decode cX16_divide 360 = .ok (.lrem, 1) := dk_113 (dk_at dksX16_divide_15 9 rfl rfl)
theorem dX16_divide_361 : decode cX16_divide 361 = .ok (.lstore 13, 2) := dk_55 13 (dk_at dksX16_divide_15 10 rfl rfl)
theorem dX16_divide_363 : decode cX16_divide 363 = .ok (.iinc 15 (-1), 3) := dk_132 15 255 (dk_at dksX16_divide_15 12 rfl rfl)
theorem dX16_divide_366 : decode cX16_divide 366 = .ok (.goto (-45), 3) := dk_167 255 211 (dk_at dksX16_divide_15 15 rfl rfl)
theorem dX16_divide_369 : decode cX16_divide 369 = .ok (.aload_n 2, 1) := dk_44 (dk_at dksX16_divide_15 18 rfl rfl)
theorem dX16_divide_370 : decode cX16_divide 370 = .ok (.iload 7, 2) := dk_21 7 (dk_at dksX16_divide_15 19 rfl rfl)
theorem dX16_divide_372 : decode cX16_divide 372 = .ok (.invokestatic 36, 3) := dk_184 0 36 (dk_at dksX16_divide_15 21 rfl rfl)
theorem dX16_divide_375 : decode cX16_divide 375 = .ok (.aload_n 2, 1) := dk_44 (dk_at dksX16_divide_16 0 rfl rfl)
theorem dX16_divide_376 : decode cX16_divide 376 = .ok (.aload_n 2, 1) := dk_44 (dk_at dksX16_divide_16 1 rfl rfl)
theorem dX16_divide_377 : decode cX16_divide 377 = .ok (.getfield 7, 3) := dk_180 0 7 (dk_at dksX16_divide_16 2 rfl rfl)
theorem dX16_divide_380 : decode cX16_divide 380 = .ok (.ifCond .ne 7, 3) := dk_154 0 7 (dk_at dksX16_divide_16 5 rfl rfl)
theorem dX16_divide_383 : decode cX16_divide 383 = .ok (.iconst 0, 1) := dk_3 (dk_at dksX16_divide_16 8 rfl rfl)
theorem dX16_divide_384 : decode cX16_divide 384 = .ok (.goto 5, 3) := dk_167 0 5 (dk_at dksX16_divide_16 9 rfl rfl)
theorem dX16_divide_387 : decode cX16_divide 387 = .ok (.iload 5, 2) := dk_21 5 (dk_at dksX16_divide_16 12 rfl rfl)
theorem dX16_divide_389 : decode cX16_divide 389 = .ok (.putfield 15, 3) := dk_181 0 15 (dk_at dksX16_divide_16 14 rfl rfl)
theorem dX16_divide_392 : decode cX16_divide 392 = .ok (.return_, 1) := dk_177 (dk_at dksX16_divide_16 17 rfl rfl)
abbrev cX16_step : ByteArray := prog_21_method_7_code
def yX16_step : MethodName := ⟨RX16, "step", "(II)J"⟩
def dkwX16_step_10 : List UInt8 := [173]
abbrev dktX16_step_10 : List UInt8 := dkwX16_step_10 ++ []
def dkwX16_step_9 : List UInt8 := [20, 0, 30, 109, 55, 9, 132, 11, 1, 167, 255, 199, 22, 7, 22, 9, 97, 55, 7, 167, 255, 170, 22, 5]
abbrev dktX16_step_9 : List UInt8 := dkwX16_step_9 ++ dktX16_step_10
def dkwX16_step_8 : List UInt8 := [46, 133, 97, 97, 55, 9, 42, 180, 0, 43, 27, 21, 11, 96, 22, 9, 20, 0, 30, 113, 136, 79, 22, 9]
abbrev dktX16_step_8 : List UInt8 := dkwX16_step_8 ++ dktX16_step_9
def dkwX16_step_7 : List UInt8 := [21, 11, 28, 162, 0, 57, 22, 9, 42, 180, 0, 43, 27, 21, 11, 96, 46, 133, 42, 180, 0, 46, 21, 11]
abbrev dktX16_step_7 : List UInt8 := dkwX16_step_7 ++ dktX16_step_8
def dkwX16_step_6 : List UInt8 := [27, 28, 96, 3, 79, 22, 7, 9, 148, 156, 0, 85, 22, 5, 10, 101, 55, 5, 9, 55, 9, 3, 54, 11]
abbrev dktX16_step_6 : List UInt8 := dkwX16_step_6 ++ dktX16_step_7
def dkwX16_step_5 : List UInt8 := [132, 9, 1, 167, 255, 187, 22, 7, 42, 180, 0, 43, 27, 28, 96, 46, 133, 97, 55, 7, 42, 180, 0, 43]
abbrev dktX16_step_5 : List UInt8 := dkwX16_step_5 ++ dktX16_step_6
def dkwX16_step_4 : List UInt8 := [180, 0, 43, 27, 21, 9, 96, 22, 10, 136, 79, 22, 7, 22, 10, 101, 20, 0, 30, 109, 55, 7]
abbrev dktX16_step_4 : List UInt8 := dkwX16_step_4 ++ dktX16_step_5
def dkwX16_step_3 : List UInt8 := [180, 0, 46, 21, 9, 46, 133, 105, 101, 97, 55, 7, 22, 7, 20, 0, 30, 184, 0, 62, 55, 10, 42]
abbrev dktX16_step_3 : List UInt8 := dkwX16_step_3 ++ dktX16_step_4
def dkwX16_step_2 : List UInt8 := [3, 54, 9, 21, 9, 28, 162, 0, 69, 22, 7, 42, 180, 0, 43, 27, 21, 9, 96, 46, 133, 22, 5, 42]
abbrev dktX16_step_2 : List UInt8 := dkwX16_step_2 ++ dktX16_step_3
def dkwX16_step_1 : List UInt8 := [97, 66, 33, 42, 180, 0, 46, 28, 4, 100, 46, 133, 109, 20, 0, 56, 184, 0, 58, 55, 5, 9, 55, 7]
abbrev dktX16_step_1 : List UInt8 := dkwX16_step_1 ++ dktX16_step_2
def dkwX16_step_0 : List UInt8 := [42, 180, 0, 43, 27, 28, 96, 46, 133, 20, 0, 30, 105, 42, 180, 0, 43, 27, 28, 96, 4, 100, 46, 133]
abbrev dktX16_step_0 : List UInt8 := dkwX16_step_0 ++ dktX16_step_1
theorem dksX16_step_0 : cX16_step.data.toList.drop 0 = dktX16_step_0 := by decide +kernel
theorem dksX16_step_1 : cX16_step.data.toList.drop 24 = dktX16_step_1 := dk_seg dksX16_step_0 24 rfl rfl
theorem dksX16_step_2 : cX16_step.data.toList.drop 48 = dktX16_step_2 := dk_seg dksX16_step_1 24 rfl rfl
theorem dksX16_step_3 : cX16_step.data.toList.drop 72 = dktX16_step_3 := dk_seg dksX16_step_2 24 rfl rfl
theorem dksX16_step_4 : cX16_step.data.toList.drop 95 = dktX16_step_4 := dk_seg dksX16_step_3 23 rfl rfl
theorem dksX16_step_5 : cX16_step.data.toList.drop 117 = dktX16_step_5 := dk_seg dksX16_step_4 22 rfl rfl
theorem dksX16_step_6 : cX16_step.data.toList.drop 141 = dktX16_step_6 := dk_seg dksX16_step_5 24 rfl rfl
theorem dksX16_step_7 : cX16_step.data.toList.drop 165 = dktX16_step_7 := dk_seg dksX16_step_6 24 rfl rfl
theorem dksX16_step_8 : cX16_step.data.toList.drop 189 = dktX16_step_8 := dk_seg dksX16_step_7 24 rfl rfl
theorem dksX16_step_9 : cX16_step.data.toList.drop 213 = dktX16_step_9 := dk_seg dksX16_step_8 24 rfl rfl
theorem dksX16_step_10 : cX16_step.data.toList.drop 237 = dktX16_step_10 := dk_seg dksX16_step_9 24 rfl rfl
theorem dX16_step_0 : decode cX16_step 0 = .ok (.aload_n 0, 1) := dk_42 (dk_at dksX16_step_0 0 rfl rfl)
theorem dX16_step_1 : decode cX16_step 1 = .ok (.getfield 43, 3) := dk_180 0 43 (dk_at dksX16_step_0 1 rfl rfl)
theorem dX16_step_4 : decode cX16_step 4 = .ok (.iload_n 1, 1) := dk_27 (dk_at dksX16_step_0 4 rfl rfl)
theorem dX16_step_5 : decode cX16_step 5 = .ok (.iload_n 2, 1) := dk_28 (dk_at dksX16_step_0 5 rfl rfl)
theorem dX16_step_6 : decode cX16_step 6 = .ok (.iadd, 1) := dk_96 (dk_at dksX16_step_0 6 rfl rfl)
theorem dX16_step_7 : decode cX16_step 7 = .ok (.iaload, 1) := dk_46 (dk_at dksX16_step_0 7 rfl rfl)
theorem dX16_step_8 : decode cX16_step 8 = .ok (.i2l, 1) := dk_133 (dk_at dksX16_step_0 8 rfl rfl)
theorem dX16_step_9 : decode cX16_step 9 = .ok (.ldc2_w 30, 3) := dk_20 0 30 (dk_at dksX16_step_0 9 rfl rfl)
theorem dX16_step_12 : decode cX16_step 12 = .ok (.lmul, 1) := dk_105 (dk_at dksX16_step_0 12 rfl rfl)
theorem dX16_step_13 : decode cX16_step 13 = .ok (.aload_n 0, 1) := dk_42 (dk_at dksX16_step_0 13 rfl rfl)
theorem dX16_step_14 : decode cX16_step 14 = .ok (.getfield 43, 3) := dk_180 0 43 (dk_at dksX16_step_0 14 rfl rfl)
theorem dX16_step_17 : decode cX16_step 17 = .ok (.iload_n 1, 1) := dk_27 (dk_at dksX16_step_0 17 rfl rfl)
theorem dX16_step_18 : decode cX16_step 18 = .ok (.iload_n 2, 1) := dk_28 (dk_at dksX16_step_0 18 rfl rfl)
theorem dX16_step_19 : decode cX16_step 19 = .ok (.iadd, 1) := dk_96 (dk_at dksX16_step_0 19 rfl rfl)
theorem dX16_step_20 : decode cX16_step 20 = .ok (.iconst 1, 1) := dk_4 (dk_at dksX16_step_0 20 rfl rfl)
theorem dX16_step_21 : decode cX16_step 21 = .ok (.isub, 1) := dk_100 (dk_at dksX16_step_0 21 rfl rfl)
theorem dX16_step_22 : decode cX16_step 22 = .ok (.iaload, 1) := dk_46 (dk_at dksX16_step_0 22 rfl rfl)
theorem dX16_step_23 : decode cX16_step 23 = .ok (.i2l, 1) := dk_133 (dk_at dksX16_step_0 23 rfl rfl)
theorem dX16_step_24 : decode cX16_step 24 = .ok (.ladd, 1) := dk_97 (dk_at dksX16_step_1 0 rfl rfl)
theorem dX16_step_25 : decode cX16_step 25 = .ok (.lstore_n 3, 1) := dk_66 (dk_at dksX16_step_1 1 rfl rfl)
theorem dX16_step_26 : decode cX16_step 26 = .ok (.lload_n 3, 1) := dk_33 (dk_at dksX16_step_1 2 rfl rfl)
theorem dX16_step_27 : decode cX16_step 27 = .ok (.aload_n 0, 1) := dk_42 (dk_at dksX16_step_1 3 rfl rfl)
theorem dX16_step_28 : decode cX16_step 28 = .ok (.getfield 46, 3) := dk_180 0 46 (dk_at dksX16_step_1 4 rfl rfl)
theorem dX16_step_31 : decode cX16_step 31 = .ok (.iload_n 2, 1) := dk_28 (dk_at dksX16_step_1 7 rfl rfl)
theorem dX16_step_32 : decode cX16_step 32 = .ok (.iconst 1, 1) := dk_4 (dk_at dksX16_step_1 8 rfl rfl)
theorem dX16_step_33 : decode cX16_step 33 = .ok (.isub, 1) := dk_100 (dk_at dksX16_step_1 9 rfl rfl)
theorem dX16_step_34 : decode cX16_step 34 = .ok (.iaload, 1) := dk_46 (dk_at dksX16_step_1 10 rfl rfl)
theorem dX16_step_35 : decode cX16_step 35 = .ok (.i2l, 1) := dk_133 (dk_at dksX16_step_1 11 rfl rfl)
theorem dX16_step_36 : decode cX16_step 36 = .ok (.ldiv, 1) := dk_109 (dk_at dksX16_step_1 12 rfl rfl)
theorem dX16_step_37 : decode cX16_step 37 = .ok (.ldc2_w 56, 3) := dk_20 0 56 (dk_at dksX16_step_1 13 rfl rfl)
theorem dX16_step_40 : decode cX16_step 40 = .ok (.invokestatic 58, 3) := dk_184 0 58 (dk_at dksX16_step_1 16 rfl rfl)
theorem dX16_step_43 : decode cX16_step 43 = .ok (.lstore 5, 2) := dk_55 5 (dk_at dksX16_step_1 19 rfl rfl)
theorem dX16_step_45 : decode cX16_step 45 = .ok (.lconst 0, 1) := dk_9 (dk_at dksX16_step_1 21 rfl rfl)
theorem dX16_step_46 : decode cX16_step 46 = .ok (.lstore 7, 2) := dk_55 7 (dk_at dksX16_step_1 22 rfl rfl)
theorem dX16_step_48 : decode cX16_step 48 = .ok (.iconst 0, 1) := dk_3 (dk_at dksX16_step_2 0 rfl rfl)
theorem dX16_step_49 : decode cX16_step 49 = .ok (.istore 9, 2) := dk_54 9 (dk_at dksX16_step_2 1 rfl rfl)
theorem dX16_step_51 : decode cX16_step 51 = .ok (.iload 9, 2) := dk_21 9 (dk_at dksX16_step_2 3 rfl rfl)
theorem dX16_step_53 : decode cX16_step 53 = .ok (.iload_n 2, 1) := dk_28 (dk_at dksX16_step_2 5 rfl rfl)
theorem dX16_step_54 : decode cX16_step 54 = .ok (.if_icmp .ge 69, 3) := dk_162 0 69 (dk_at dksX16_step_2 6 rfl rfl)
theorem dX16_step_57 : decode cX16_step 57 = .ok (.lload 7, 2) := dk_22 7 (dk_at dksX16_step_2 9 rfl rfl)
theorem dX16_step_59 : decode cX16_step 59 = .ok (.aload_n 0, 1) := dk_42 (dk_at dksX16_step_2 11 rfl rfl)
theorem dX16_step_60 : decode cX16_step 60 = .ok (.getfield 43, 3) := dk_180 0 43 (dk_at dksX16_step_2 12 rfl rfl)
theorem dX16_step_63 : decode cX16_step 63 = .ok (.iload_n 1, 1) := dk_27 (dk_at dksX16_step_2 15 rfl rfl)
theorem dX16_step_64 : decode cX16_step 64 = .ok (.iload 9, 2) := dk_21 9 (dk_at dksX16_step_2 16 rfl rfl)
theorem dX16_step_66 : decode cX16_step 66 = .ok (.iadd, 1) := dk_96 (dk_at dksX16_step_2 18 rfl rfl)
theorem dX16_step_67 : decode cX16_step 67 = .ok (.iaload, 1) := dk_46 (dk_at dksX16_step_2 19 rfl rfl)
theorem dX16_step_68 : decode cX16_step 68 = .ok (.i2l, 1) := dk_133 (dk_at dksX16_step_2 20 rfl rfl)
theorem dX16_step_69 : decode cX16_step 69 = .ok (.lload 5, 2) := dk_22 5 (dk_at dksX16_step_2 21 rfl rfl)
theorem dX16_step_71 : decode cX16_step 71 = .ok (.aload_n 0, 1) := dk_42 (dk_at dksX16_step_2 23 rfl rfl)
theorem dX16_step_72 : decode cX16_step 72 = .ok (.getfield 46, 3) := dk_180 0 46 (dk_at dksX16_step_3 0 rfl rfl)
theorem dX16_step_75 : decode cX16_step 75 = .ok (.iload 9, 2) := dk_21 9 (dk_at dksX16_step_3 3 rfl rfl)
theorem dX16_step_77 : decode cX16_step 77 = .ok (.iaload, 1) := dk_46 (dk_at dksX16_step_3 5 rfl rfl)
theorem dX16_step_78 : decode cX16_step 78 = .ok (.i2l, 1) := dk_133 (dk_at dksX16_step_3 6 rfl rfl)
theorem dX16_step_79 : decode cX16_step 79 = .ok (.lmul, 1) := dk_105 (dk_at dksX16_step_3 7 rfl rfl)
theorem dX16_step_80 : decode cX16_step 80 = .ok (.lsub, 1) := dk_101 (dk_at dksX16_step_3 8 rfl rfl)
theorem dX16_step_81 : decode cX16_step 81 = .ok (.ladd, 1) := dk_97 (dk_at dksX16_step_3 9 rfl rfl)
theorem dX16_step_82 : decode cX16_step 82 = .ok (.lstore 7, 2) := dk_55 7 (dk_at dksX16_step_3 10 rfl rfl)
theorem dX16_step_84 : decode cX16_step 84 = .ok (.lload 7, 2) := dk_22 7 (dk_at dksX16_step_3 12 rfl rfl)
theorem dX16_step_86 : decode cX16_step 86 = .ok (.ldc2_w 30, 3) := dk_20 0 30 (dk_at dksX16_step_3 14 rfl rfl)
theorem dX16_step_89 : decode cX16_step 89 = .ok (.invokestatic 62, 3) := dk_184 0 62 (dk_at dksX16_step_3 17 rfl rfl)
theorem dX16_step_92 : decode cX16_step 92 = .ok (.lstore 10, 2) := dk_55 10 (dk_at dksX16_step_3 20 rfl rfl)
theorem dX16_step_94 : decode cX16_step 94 = .ok (.aload_n 0, 1) := dk_42 (dk_at dksX16_step_3 22 rfl rfl)
theorem dX16_step_95 : decode cX16_step 95 = .ok (.getfield 43, 3) := dk_180 0 43 (dk_at dksX16_step_4 0 rfl rfl)
theorem dX16_step_98 : decode cX16_step 98 = .ok (.iload_n 1, 1) := dk_27 (dk_at dksX16_step_4 3 rfl rfl)
theorem dX16_step_99 : decode cX16_step 99 = .ok (.iload 9, 2) := dk_21 9 (dk_at dksX16_step_4 4 rfl rfl)
theorem dX16_step_101 : decode cX16_step 101 = .ok (.iadd, 1) := dk_96 (dk_at dksX16_step_4 6 rfl rfl)
theorem dX16_step_102 : decode cX16_step 102 = .ok (.lload 10, 2) := dk_22 10 (dk_at dksX16_step_4 7 rfl rfl)
theorem dX16_step_104 : decode cX16_step 104 = .ok (.l2i, 1) := dk_136 (dk_at dksX16_step_4 9 rfl rfl)
theorem dX16_step_105 : decode cX16_step 105 = .ok (.iastore, 1) := dk_79 (dk_at dksX16_step_4 10 rfl rfl)
theorem dX16_step_106 : decode cX16_step 106 = .ok (.lload 7, 2) := dk_22 7 (dk_at dksX16_step_4 11 rfl rfl)
theorem dX16_step_108 : decode cX16_step 108 = .ok (.lload 10, 2) := dk_22 10 (dk_at dksX16_step_4 13 rfl rfl)
theorem dX16_step_110 : decode cX16_step 110 = .ok (.lsub, 1) := dk_101 (dk_at dksX16_step_4 15 rfl rfl)
theorem dX16_step_111 : decode cX16_step 111 = .ok (.ldc2_w 30, 3) := dk_20 0 30 (dk_at dksX16_step_4 16 rfl rfl)
theorem dX16_step_114 : decode cX16_step 114 = .ok (.ldiv, 1) := dk_109 (dk_at dksX16_step_4 19 rfl rfl)
theorem dX16_step_115 : decode cX16_step 115 = .ok (.lstore 7, 2) := dk_55 7 (dk_at dksX16_step_4 20 rfl rfl)
theorem dX16_step_117 : decode cX16_step 117 = .ok (.iinc 9 1, 3) := dk_132 9 1 (dk_at dksX16_step_5 0 rfl rfl)
theorem dX16_step_120 : decode cX16_step 120 = .ok (.goto (-69), 3) := dk_167 255 187 (dk_at dksX16_step_5 3 rfl rfl)
theorem dX16_step_123 : decode cX16_step 123 = .ok (.lload 7, 2) := dk_22 7 (dk_at dksX16_step_5 6 rfl rfl)
theorem dX16_step_125 : decode cX16_step 125 = .ok (.aload_n 0, 1) := dk_42 (dk_at dksX16_step_5 8 rfl rfl)
theorem dX16_step_126 : decode cX16_step 126 = .ok (.getfield 43, 3) := dk_180 0 43 (dk_at dksX16_step_5 9 rfl rfl)
theorem dX16_step_129 : decode cX16_step 129 = .ok (.iload_n 1, 1) := dk_27 (dk_at dksX16_step_5 12 rfl rfl)
theorem dX16_step_130 : decode cX16_step 130 = .ok (.iload_n 2, 1) := dk_28 (dk_at dksX16_step_5 13 rfl rfl)
theorem dX16_step_131 : decode cX16_step 131 = .ok (.iadd, 1) := dk_96 (dk_at dksX16_step_5 14 rfl rfl)
theorem dX16_step_132 : decode cX16_step 132 = .ok (.iaload, 1) := dk_46 (dk_at dksX16_step_5 15 rfl rfl)
theorem dX16_step_133 : decode cX16_step 133 = .ok (.i2l, 1) := dk_133 (dk_at dksX16_step_5 16 rfl rfl)
theorem dX16_step_134 : decode cX16_step 134 = .ok (.ladd, 1) := dk_97 (dk_at dksX16_step_5 17 rfl rfl)
theorem dX16_step_135 : decode cX16_step 135 = .ok (.lstore 7, 2) := dk_55 7 (dk_at dksX16_step_5 18 rfl rfl)
theorem dX16_step_137 : decode cX16_step 137 = .ok (.aload_n 0, 1) := dk_42 (dk_at dksX16_step_5 20 rfl rfl)
theorem dX16_step_138 : decode cX16_step 138 = .ok (.getfield 43, 3) := dk_180 0 43 (dk_at dksX16_step_5 21 rfl rfl)
theorem dX16_step_141 : decode cX16_step 141 = .ok (.iload_n 1, 1) := dk_27 (dk_at dksX16_step_6 0 rfl rfl)
theorem dX16_step_142 : decode cX16_step 142 = .ok (.iload_n 2, 1) := dk_28 (dk_at dksX16_step_6 1 rfl rfl)
theorem dX16_step_143 : decode cX16_step 143 = .ok (.iadd, 1) := dk_96 (dk_at dksX16_step_6 2 rfl rfl)
theorem dX16_step_144 : decode cX16_step 144 = .ok (.iconst 0, 1) := dk_3 (dk_at dksX16_step_6 3 rfl rfl)
theorem dX16_step_145 : decode cX16_step 145 = .ok (.iastore, 1) := dk_79 (dk_at dksX16_step_6 4 rfl rfl)
theorem dX16_step_146 : decode cX16_step 146 = .ok (.lload 7, 2) := dk_22 7 (dk_at dksX16_step_6 5 rfl rfl)
theorem dX16_step_148 : decode cX16_step 148 = .ok (.lconst 0, 1) := dk_9 (dk_at dksX16_step_6 7 rfl rfl)
theorem dX16_step_149 : decode cX16_step 149 = .ok (.lcmp, 1) := dk_148 (dk_at dksX16_step_6 8 rfl rfl)
theorem dX16_step_150 : decode cX16_step 150 = .ok (.ifCond .ge 85, 3) := dk_156 0 85 (dk_at dksX16_step_6 9 rfl rfl)
theorem dX16_step_153 : decode cX16_step 153 = .ok (.lload 5, 2) := dk_22 5 (dk_at dksX16_step_6 12 rfl rfl)
theorem dX16_step_155 : decode cX16_step 155 = .ok (.lconst 1, 1) := dk_10 (dk_at dksX16_step_6 14 rfl rfl)
theorem dX16_step_156 : decode cX16_step 156 = .ok (.lsub, 1) := dk_101 (dk_at dksX16_step_6 15 rfl rfl)
theorem dX16_step_157 : decode cX16_step 157 = .ok (.lstore 5, 2) := dk_55 5 (dk_at dksX16_step_6 16 rfl rfl)
theorem dX16_step_159 : decode cX16_step 159 = .ok (.lconst 0, 1) := dk_9 (dk_at dksX16_step_6 18 rfl rfl)
theorem dX16_step_160 : decode cX16_step 160 = .ok (.lstore 9, 2) := dk_55 9 (dk_at dksX16_step_6 19 rfl rfl)
theorem dX16_step_162 : decode cX16_step 162 = .ok (.iconst 0, 1) := dk_3 (dk_at dksX16_step_6 21 rfl rfl)
theorem dX16_step_163 : decode cX16_step 163 = .ok (.istore 11, 2) := dk_54 11 (dk_at dksX16_step_6 22 rfl rfl)
theorem dX16_step_165 : decode cX16_step 165 = .ok (.iload 11, 2) := dk_21 11 (dk_at dksX16_step_7 0 rfl rfl)
theorem dX16_step_167 : decode cX16_step 167 = .ok (.iload_n 2, 1) := dk_28 (dk_at dksX16_step_7 2 rfl rfl)
theorem dX16_step_168 : decode cX16_step 168 = .ok (.if_icmp .ge 57, 3) := dk_162 0 57 (dk_at dksX16_step_7 3 rfl rfl)
theorem dX16_step_171 : decode cX16_step 171 = .ok (.lload 9, 2) := dk_22 9 (dk_at dksX16_step_7 6 rfl rfl)
theorem dX16_step_173 : decode cX16_step 173 = .ok (.aload_n 0, 1) := dk_42 (dk_at dksX16_step_7 8 rfl rfl)
theorem dX16_step_174 : decode cX16_step 174 = .ok (.getfield 43, 3) := dk_180 0 43 (dk_at dksX16_step_7 9 rfl rfl)
theorem dX16_step_177 : decode cX16_step 177 = .ok (.iload_n 1, 1) := dk_27 (dk_at dksX16_step_7 12 rfl rfl)
theorem dX16_step_178 : decode cX16_step 178 = .ok (.iload 11, 2) := dk_21 11 (dk_at dksX16_step_7 13 rfl rfl)
theorem dX16_step_180 : decode cX16_step 180 = .ok (.iadd, 1) := dk_96 (dk_at dksX16_step_7 15 rfl rfl)
theorem dX16_step_181 : decode cX16_step 181 = .ok (.iaload, 1) := dk_46 (dk_at dksX16_step_7 16 rfl rfl)
theorem dX16_step_182 : decode cX16_step 182 = .ok (.i2l, 1) := dk_133 (dk_at dksX16_step_7 17 rfl rfl)
theorem dX16_step_183 : decode cX16_step 183 = .ok (.aload_n 0, 1) := dk_42 (dk_at dksX16_step_7 18 rfl rfl)
theorem dX16_step_184 : decode cX16_step 184 = .ok (.getfield 46, 3) := dk_180 0 46 (dk_at dksX16_step_7 19 rfl rfl)
theorem dX16_step_187 : decode cX16_step 187 = .ok (.iload 11, 2) := dk_21 11 (dk_at dksX16_step_7 22 rfl rfl)
theorem dX16_step_189 : decode cX16_step 189 = .ok (.iaload, 1) := dk_46 (dk_at dksX16_step_8 0 rfl rfl)
theorem dX16_step_190 : decode cX16_step 190 = .ok (.i2l, 1) := dk_133 (dk_at dksX16_step_8 1 rfl rfl)
theorem dX16_step_191 : decode cX16_step 191 = .ok (.ladd, 1) := dk_97 (dk_at dksX16_step_8 2 rfl rfl)
theorem dX16_step_192 : decode cX16_step 192 = .ok (.ladd, 1) := dk_97 (dk_at dksX16_step_8 3 rfl rfl)
theorem dX16_step_193 : decode cX16_step 193 = .ok (.lstore 9, 2) := dk_55 9 (dk_at dksX16_step_8 4 rfl rfl)
theorem dX16_step_195 : decode cX16_step 195 = .ok (.aload_n 0, 1) := dk_42 (dk_at dksX16_step_8 6 rfl rfl)
theorem dX16_step_196 : decode cX16_step 196 = .ok (.getfield 43, 3) := dk_180 0 43 (dk_at dksX16_step_8 7 rfl rfl)
theorem dX16_step_199 : decode cX16_step 199 = .ok (.iload_n 1, 1) := dk_27 (dk_at dksX16_step_8 10 rfl rfl)
theorem dX16_step_200 : decode cX16_step 200 = .ok (.iload 11, 2) := dk_21 11 (dk_at dksX16_step_8 11 rfl rfl)
theorem dX16_step_202 : decode cX16_step 202 = .ok (.iadd, 1) := dk_96 (dk_at dksX16_step_8 13 rfl rfl)
theorem dX16_step_203 : decode cX16_step 203 = .ok (.lload 9, 2) := dk_22 9 (dk_at dksX16_step_8 14 rfl rfl)
theorem dX16_step_205 : decode cX16_step 205 = .ok (.ldc2_w 30, 3) := dk_20 0 30 (dk_at dksX16_step_8 16 rfl rfl)
theorem dX16_step_208 : decode cX16_step 208 = .ok (.lrem, 1) := dk_113 (dk_at dksX16_step_8 19 rfl rfl)
theorem dX16_step_209 : decode cX16_step 209 = .ok (.l2i, 1) := dk_136 (dk_at dksX16_step_8 20 rfl rfl)
theorem dX16_step_210 : decode cX16_step 210 = .ok (.iastore, 1) := dk_79 (dk_at dksX16_step_8 21 rfl rfl)
theorem dX16_step_211 : decode cX16_step 211 = .ok (.lload 9, 2) := dk_22 9 (dk_at dksX16_step_8 22 rfl rfl)
theorem dX16_step_213 : decode cX16_step 213 = .ok (.ldc2_w 30, 3) := dk_20 0 30 (dk_at dksX16_step_9 0 rfl rfl)
theorem dX16_step_216 : decode cX16_step 216 = .ok (.ldiv, 1) := dk_109 (dk_at dksX16_step_9 3 rfl rfl)
theorem dX16_step_217 : decode cX16_step 217 = .ok (.lstore 9, 2) := dk_55 9 (dk_at dksX16_step_9 4 rfl rfl)
theorem dX16_step_219 : decode cX16_step 219 = .ok (.iinc 11 1, 3) := dk_132 11 1 (dk_at dksX16_step_9 6 rfl rfl)
theorem dX16_step_222 : decode cX16_step 222 = .ok (.goto (-57), 3) := dk_167 255 199 (dk_at dksX16_step_9 9 rfl rfl)
theorem dX16_step_225 : decode cX16_step 225 = .ok (.lload 7, 2) := dk_22 7 (dk_at dksX16_step_9 12 rfl rfl)
theorem dX16_step_227 : decode cX16_step 227 = .ok (.lload 9, 2) := dk_22 9 (dk_at dksX16_step_9 14 rfl rfl)
theorem dX16_step_229 : decode cX16_step 229 = .ok (.ladd, 1) := dk_97 (dk_at dksX16_step_9 16 rfl rfl)
theorem dX16_step_230 : decode cX16_step 230 = .ok (.lstore 7, 2) := dk_55 7 (dk_at dksX16_step_9 17 rfl rfl)
theorem dX16_step_232 : decode cX16_step 232 = .ok (.goto (-86), 3) := dk_167 255 170 (dk_at dksX16_step_9 19 rfl rfl)
theorem dX16_step_235 : decode cX16_step 235 = .ok (.lload 5, 2) := dk_22 5 (dk_at dksX16_step_9 22 rfl rfl)
theorem dX16_step_237 : decode cX16_step 237 = .ok (.lreturn, 1) := dk_173 (dk_at dksX16_step_10 0 rfl rfl)
