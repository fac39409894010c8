/-! PlanMemoModel -/
set_option maxRecDepth 100000
def RX24 : String := "PlanMemoModel"
def TX24 : u_T := fun k => match k with
  | 0 => ("PlanMemoModel", "tables", "I", false)
  | 1 => ("PlanMemoModel", "many", "I", false)
  | 2 => ("PlanMemoModel", "groups", "I", false)
  | 3 => ("PlanMemoModel", "fires", "I", false)
  | 4 => ("PlanMemoModel", "allowed", "I", false)
  | 5 => ("PlanMemoModel", "seed", "I", false)
  | 6 => ("PlanMemoModel", "fault", "I", false)
  | 7 => ("PlanMemoModel", "bodies", "I", false)
  | 8 => ("PlanMemoModel", "nodes", "I", false)
  | 9 => ("PlanMemoModel", "refused", "[I", true)
  | 10 => ("PlanMemoModel", "distinct", "[I", true)
  | 11 => ("PlanMemoModel", "rowsOf", "[I", true)
  | 12 => ("PlanMemoModel", "columnsOf", "[I", true)
  | 13 => ("PlanMemoModel", "orderOf", "[I", true)
  | 14 => ("PlanMemoModel", "placeOf", "[I", true)
  | 15 => ("PlanMemoModel", "kind", "[I", true)
  | 16 => ("PlanMemoModel", "par", "[I", true)
  | 17 => ("PlanMemoModel", "ex", "[I", true)
  | 18 => ("PlanMemoModel", "ey", "[I", true)
  | 19 => ("PlanMemoModel", "in", "[I", true)
  | 20 => ("PlanMemoModel", "into", "[I", true)
  | 21 => ("PlanMemoModel", "gone", "[Z", true)
  | 22 => ("PlanMemoModel", "was", "[Z", true)
  | 23 => ("PlanMemoModel", "firedBy", "[I", true)
  | 24 => ("PlanMemoModel", "held", "[I", true)
  | 25 => ("PlanMemoModel", "sort", "[I", true)
  | 26 => ("PlanMemoModel", "size", "[I", true)
  | 27 => ("PlanMemoModel", "shown", "[I", true)
  | 28 => ("PlanMemoModel", "cells", "[J", true)
  | 29 => ("PlanMemoModel", "carried", "[J", true)
  | 30 => ("PlanMemoModel", "rows", "[I", true)
  | 31 => ("PlanMemoModel", "columns", "[I", true)
  | 32 => ("PlanMemoModel", "least", "[I", true)
  | 33 => ("PlanMemoModel", "cost", "[J", true)
  | 34 => ("PlanMemoModel", "prices", "[J", true)
  | 35 => ("PlanMemoModel", "ways", "I", false)
  | 36 => ("PlanMemoModel", "wayKind", "[I", true)
  | 37 => ("PlanMemoModel", "wayBy", "[I", true)
  | 38 => ("PlanMemoModel", "wayOne", "[I", true)
  | 39 => ("PlanMemoModel", "wayTwo", "[I", true)
  | 40 => ("PlanMemoModel", "wayAt", "[I", true)
  | 41 => ("PlanMemoModel", "wayPrice", "[J", true)
  | 42 => ("PlanMemoModel", "nodeKind", "[I", true)
  | 43 => ("PlanMemoModel", "nodePar", "[I", true)
  | 44 => ("PlanMemoModel", "nodeGroup", "[I", true)
  | 45 => ("PlanMemoModel", "nodeOrder", "[I", true)
  | 46 => ("PlanMemoModel", "nodePlace", "[I", true)
  | 47 => ("PlanMemoModel", "nodeAt", "[I", true)
  | 48 => ("PlanMemoModel", "nodeMany", "[I", true)
  | 49 => ("PlanMemoModel", "nodeHalf", "[I", true)
  | 50 => ("PlanMemoModel", "nodeBy", "[I", true)
  | 51 => ("PlanMemoModel", "nodeCost", "[J", true)
  | 52 => ("PlanMemoModel", "made", "I", false)
  | 53 => ("PlanMemoModel", "tKind", "[I", true)
  | 54 => ("PlanMemoModel", "tPar", "[I", true)
  | 55 => ("PlanMemoModel", "tGroup", "[I", true)
  | 56 => ("PlanMemoModel", "tOrder", "[I", true)
  | 57 => ("PlanMemoModel", "tPlace", "[I", true)
  | 58 => ("PlanMemoModel", "tAt", "[I", true)
  | 59 => ("PlanMemoModel", "tMany", "[I", true)
  | 60 => ("PlanMemoModel", "tHalf", "[I", true)
  | 61 => ("PlanMemoModel", "tCost", "[J", true)
  | 62 => ("PlanMemoModel", "trace", "[I", true)
  | 63 => ("PlanMemoModel", "letters", "[I", true)
  | 64 => ("PlanMemoModel", "lettersMany", "I", false)
  | 65 => ("PlanMemoModel", "nextE", "I", false)
  | 66 => ("PlanMemoModel", "nextRule", "I", false)
  | 67 => ("PlanMemoModel", "nextF", "I", false)
  | 68 => ("PlanMemoModel", "text", "[I", false)
  | 69 => ("PlanMemoModel", "textSize", "I", false)
  | 70 => ("PlanMemoModel", "at", "I", false)
  | 71 => ("PlanMemoModel", "isKept", "Z", false)
  | 72 => ("PlanMemoModel", "keptInts", "[I", false)
  | 73 => ("PlanMemoModel", "keptGone", "[Z", false)
  | 74 => ("PlanMemoModel", "keptWas", "[Z", false)
  | 75 => ("PlanMemoModel", "what", "[I", true)
  | 76 => ("PlanMemoModel", "demanded", "[Z", true)
  | 77 => ("PlanMemoModel", "trees", "[J", true)
  | _ => ("PlanMemoModel", "higher", "[J", true)
def tyX24 : Nat → FieldType := fun k => match k with
  | 0 => .int
  | 1 => .int
  | 2 => .int
  | 3 => .int
  | 4 => .int
  | 5 => .int
  | 6 => .int
  | 7 => .int
  | 8 => .int
  | 9 => .array .int
  | 10 => .array .int
  | 11 => .array .int
  | 12 => .array .int
  | 13 => .array .int
  | 14 => .array .int
  | 15 => .array .int
  | 16 => .array .int
  | 17 => .array .int
  | 18 => .array .int
  | 19 => .array .int
  | 20 => .array .int
  | 21 => .array .boolean
  | 22 => .array .boolean
  | 23 => .array .int
  | 24 => .array .int
  | 25 => .array .int
  | 26 => .array .int
  | 27 => .array .int
  | 28 => .array .long
  | 29 => .array .long
  | 30 => .array .int
  | 31 => .array .int
  | 32 => .array .int
  | 33 => .array .long
  | 34 => .array .long
  | 35 => .int
  | 36 => .array .int
  | 37 => .array .int
  | 38 => .array .int
  | 39 => .array .int
  | 40 => .array .int
  | 41 => .array .long
  | 42 => .array .int
  | 43 => .array .int
  | 44 => .array .int
  | 45 => .array .int
  | 46 => .array .int
  | 47 => .array .int
  | 48 => .array .int
  | 49 => .array .int
  | 50 => .array .int
  | 51 => .array .long
  | 52 => .int
  | 53 => .array .int
  | 54 => .array .int
  | 55 => .array .int
  | 56 => .array .int
  | 57 => .array .int
  | 58 => .array .int
  | 59 => .array .int
  | 60 => .array .int
  | 61 => .array .long
  | 62 => .array .int
  | 63 => .array .int
  | 64 => .int
  | 65 => .int
  | 66 => .int
  | 67 => .int
  | 68 => .array .int
  | 69 => .int
  | 70 => .int
  | 71 => .boolean
  | 72 => .array .int
  | 73 => .array .boolean
  | 74 => .array .boolean
  | 75 => .array .int
  | 76 => .array .boolean
  | 77 => .array .long
  | _ => .array .long
abbrev wsX240 : List Cond := u_ws RX24 TX24 79
set_option maxRecDepth 100000 in
theorem nmX24 : ∀ a, a < 79 → ∀ b, b < 79 → a ≠ b → (TX24 a).2.1 ≠ (TX24 b).2.1 := by decide +kernel
set_option maxRecDepth 100000 in
theorem tyX24_ok : ∀ k, k < 79 → parseFieldDescriptor (TX24 k).2.2.1 = some (tyX24 k) := by decide +kernel
abbrev cX24_init : ByteArray := prog_53_method_1_code
def yX24_init : MethodName := ⟨RX24, "<init>", "()V"⟩
def dkwX24_init_22 : List UInt8 := [42, 17, 0, 144, 188, 11, 181, 0, 193, 177]
abbrev dktX24_init_22 : List UInt8 := dkwX24_init_22 ++ []
def dkwX24_init_21 : List UInt8 := [7, 188, 10, 181, 0, 184, 42, 17, 7, 128, 188, 4, 181, 0, 187, 42, 17, 0, 144, 188, 11, 181, 0, 190]
abbrev dktX24_init_21 : List UInt8 := dkwX24_init_21 ++ dktX24_init_22
def dkwX24_init_20 : List UInt8 := [188, 10, 181, 0, 175, 42, 17, 15, 160, 188, 10, 181, 0, 178, 42, 17, 0, 160, 188, 10, 181, 0, 181, 42]
abbrev dktX24_init_20 : List UInt8 := dkwX24_init_20 ++ dktX24_init_21
def dkwX24_init_19 : List UInt8 := [188, 10, 181, 0, 166, 42, 16, 121, 188, 10, 181, 0, 169, 42, 16, 121, 188, 11, 181, 0, 172, 42, 16, 20]
abbrev dktX24_init_19 : List UInt8 := dkwX24_init_19 ++ dktX24_init_20
def dkwX24_init_18 : List UInt8 := [188, 10, 181, 0, 157, 42, 16, 121, 188, 10, 181, 0, 160, 42, 16, 121, 188, 10, 181, 0, 163, 42, 16, 121]
abbrev dktX24_init_18 : List UInt8 := dkwX24_init_18 ++ dktX24_init_19
def dkwX24_init_17 : List UInt8 := [188, 10, 181, 0, 148, 42, 16, 121, 188, 10, 181, 0, 151, 42, 16, 121, 188, 10, 181, 0, 154, 42, 16, 121]
abbrev dktX24_init_17 : List UInt8 := dkwX24_init_17 ++ dktX24_init_18
def dkwX24_init_16 : List UInt8 := [188, 10, 181, 0, 139, 42, 16, 121, 188, 10, 181, 0, 142, 42, 16, 121, 188, 11, 181, 0, 145, 42, 16, 121]
abbrev dktX24_init_16 : List UInt8 := dkwX24_init_16 ++ dktX24_init_17
def dkwX24_init_15 : List UInt8 := [188, 10, 181, 0, 130, 42, 16, 121, 188, 10, 181, 0, 133, 42, 16, 121, 188, 10, 181, 0, 136, 42, 16, 121]
abbrev dktX24_init_15 : List UInt8 := dkwX24_init_15 ++ dktX24_init_16
def dkwX24_init_14 : List UInt8 := [188, 10, 181, 0, 121, 42, 16, 121, 188, 10, 181, 0, 124, 42, 16, 121, 188, 10, 181, 0, 127, 42, 16, 121]
abbrev dktX24_init_14 : List UInt8 := dkwX24_init_14 ++ dktX24_init_15
def dkwX24_init_13 : List UInt8 := [181, 0, 112, 42, 17, 1, 144, 188, 11, 181, 0, 115, 42, 16, 121, 188, 10, 181, 0, 118, 42, 16, 121]
abbrev dktX24_init_13 : List UInt8 := dkwX24_init_13 ++ dktX24_init_14
def dkwX24_init_12 : List UInt8 := [17, 1, 144, 188, 10, 181, 0, 106, 42, 17, 1, 144, 188, 10, 181, 0, 109, 42, 17, 1, 144, 188, 10]
abbrev dktX24_init_12 : List UInt8 := dkwX24_init_12 ++ dktX24_init_13
def dkwX24_init_11 : List UInt8 := [188, 11, 181, 0, 97, 42, 17, 1, 144, 188, 10, 181, 0, 100, 42, 17, 1, 144, 188, 10, 181, 0, 103, 42]
abbrev dktX24_init_11 : List UInt8 := dkwX24_init_11 ++ dktX24_init_12
def dkwX24_init_10 : List UInt8 := [181, 0, 88, 42, 17, 0, 144, 188, 10, 181, 0, 91, 42, 17, 7, 128, 188, 11, 181, 0, 94, 42, 5]
abbrev dktX24_init_10 : List UInt8 := dkwX24_init_10 ++ dktX24_init_11
def dkwX24_init_9 : List UInt8 := [17, 0, 160, 188, 11, 181, 0, 82, 42, 17, 0, 144, 188, 10, 181, 0, 85, 42, 17, 0, 144, 188, 10]
abbrev dktX24_init_9 : List UInt8 := dkwX24_init_9 ++ dktX24_init_10
def dkwX24_init_8 : List UInt8 := [188, 10, 181, 0, 72, 42, 16, 8, 188, 10, 181, 0, 75, 42, 17, 5, 0, 188, 11, 181, 0, 78, 42]
abbrev dktX24_init_8 : List UInt8 := dkwX24_init_8 ++ dktX24_init_9
def dkwX24_init_7 : List UInt8 := [188, 10, 181, 0, 63, 42, 16, 8, 188, 10, 181, 0, 66, 42, 16, 8, 188, 10, 181, 0, 69, 42, 16, 8]
abbrev dktX24_init_7 : List UInt8 := dkwX24_init_7 ++ dktX24_init_8
def dkwX24_init_6 : List UInt8 := [181, 0, 53, 42, 17, 0, 144, 188, 4, 181, 0, 56, 42, 17, 113, 192, 188, 4, 181, 0, 60, 42, 16, 7]
abbrev dktX24_init_6 : List UInt8 := dkwX24_init_6 ++ dktX24_init_7
def dkwX24_init_5 : List UInt8 := [17, 0, 144, 188, 10, 181, 0, 47, 42, 17, 0, 144, 188, 10, 181, 0, 50, 42, 17, 0, 144, 188, 10]
abbrev dktX24_init_5 : List UInt8 := dkwX24_init_5 ++ dktX24_init_6
def dkwX24_init_4 : List UInt8 := [181, 0, 38, 42, 17, 0, 144, 188, 10, 181, 0, 41, 42, 17, 0, 144, 188, 10, 181, 0, 44, 42]
abbrev dktX24_init_4 : List UInt8 := dkwX24_init_4 ++ dktX24_init_5
def dkwX24_init_3 : List UInt8 := [42, 16, 8, 188, 10, 181, 0, 32, 42, 16, 8, 188, 10, 181, 0, 35, 42, 17, 0, 144, 188, 10]
abbrev dktX24_init_3 : List UInt8 := dkwX24_init_3 ++ dktX24_init_4
def dkwX24_init_2 : List UInt8 := [89, 6, 16, 100, 79, 181, 0, 23, 42, 16, 8, 188, 10, 181, 0, 26, 42, 16, 8, 188, 10, 181, 0, 29]
abbrev dktX24_init_2 : List UInt8 := dkwX24_init_2 ++ dktX24_init_3
def dkwX24_init_1 : List UInt8 := [188, 10, 181, 0, 19, 42, 7, 188, 10, 89, 3, 16, 100, 79, 89, 4, 16, 100, 79, 89, 5, 16, 100, 79]
abbrev dktX24_init_1 : List UInt8 := dkwX24_init_1 ++ dktX24_init_2
def dkwX24_init_0 : List UInt8 := [42, 183, 0, 1, 42, 17, 15, 255, 181, 0, 7, 42, 4, 181, 0, 13, 42, 2, 181, 0, 16, 42, 16, 8]
abbrev dktX24_init_0 : List UInt8 := dkwX24_init_0 ++ dktX24_init_1
theorem dksX24_init_0 : cX24_init.data.toList.drop 0 = dktX24_init_0 := by decide +kernel
theorem dksX24_init_1 : cX24_init.data.toList.drop 24 = dktX24_init_1 := dk_seg dksX24_init_0 24 rfl rfl
theorem dksX24_init_2 : cX24_init.data.toList.drop 48 = dktX24_init_2 := dk_seg dksX24_init_1 24 rfl rfl
theorem dksX24_init_3 : cX24_init.data.toList.drop 72 = dktX24_init_3 := dk_seg dksX24_init_2 24 rfl rfl
theorem dksX24_init_4 : cX24_init.data.toList.drop 94 = dktX24_init_4 := dk_seg dksX24_init_3 22 rfl rfl
theorem dksX24_init_5 : cX24_init.data.toList.drop 116 = dktX24_init_5 := dk_seg dksX24_init_4 22 rfl rfl
theorem dksX24_init_6 : cX24_init.data.toList.drop 139 = dktX24_init_6 := dk_seg dksX24_init_5 23 rfl rfl
theorem dksX24_init_7 : cX24_init.data.toList.drop 163 = dktX24_init_7 := dk_seg dksX24_init_6 24 rfl rfl
theorem dksX24_init_8 : cX24_init.data.toList.drop 187 = dktX24_init_8 := dk_seg dksX24_init_7 24 rfl rfl
theorem dksX24_init_9 : cX24_init.data.toList.drop 210 = dktX24_init_9 := dk_seg dksX24_init_8 23 rfl rfl
theorem dksX24_init_10 : cX24_init.data.toList.drop 233 = dktX24_init_10 := dk_seg dksX24_init_9 23 rfl rfl
theorem dksX24_init_11 : cX24_init.data.toList.drop 256 = dktX24_init_11 := dk_seg dksX24_init_10 23 rfl rfl
theorem dksX24_init_12 : cX24_init.data.toList.drop 280 = dktX24_init_12 := dk_seg dksX24_init_11 24 rfl rfl
theorem dksX24_init_13 : cX24_init.data.toList.drop 303 = dktX24_init_13 := dk_seg dksX24_init_12 23 rfl rfl
theorem dksX24_init_14 : cX24_init.data.toList.drop 326 = dktX24_init_14 := dk_seg dksX24_init_13 23 rfl rfl
theorem dksX24_init_15 : cX24_init.data.toList.drop 350 = dktX24_init_15 := dk_seg dksX24_init_14 24 rfl rfl
theorem dksX24_init_16 : cX24_init.data.toList.drop 374 = dktX24_init_16 := dk_seg dksX24_init_15 24 rfl rfl
theorem dksX24_init_17 : cX24_init.data.toList.drop 398 = dktX24_init_17 := dk_seg dksX24_init_16 24 rfl rfl
theorem dksX24_init_18 : cX24_init.data.toList.drop 422 = dktX24_init_18 := dk_seg dksX24_init_17 24 rfl rfl
theorem dksX24_init_19 : cX24_init.data.toList.drop 446 = dktX24_init_19 := dk_seg dksX24_init_18 24 rfl rfl
theorem dksX24_init_20 : cX24_init.data.toList.drop 470 = dktX24_init_20 := dk_seg dksX24_init_19 24 rfl rfl
theorem dksX24_init_21 : cX24_init.data.toList.drop 494 = dktX24_init_21 := dk_seg dksX24_init_20 24 rfl rfl
theorem dksX24_init_22 : cX24_init.data.toList.drop 518 = dktX24_init_22 := dk_seg dksX24_init_21 24 rfl rfl
theorem dX24_init_0 : decode cX24_init 0 = .ok (.aload_n 0, 1) := dk_42 (dk_at dksX24_init_0 0 rfl rfl)
theorem dX24_init_1 : decode cX24_init 1 = .ok (.invokespecial 1, 3) := dk_183 0 1 (dk_at dksX24_init_0 1 rfl rfl)
theorem dX24_init_4 : decode cX24_init 4 = .ok (.aload_n 0, 1) := dk_42 (dk_at dksX24_init_0 4 rfl rfl)
theorem dX24_init_5 : decode cX24_init 5 = .ok (.sipush 4095, 3) := dk_17 15 255 (dk_at dksX24_init_0 5 rfl rfl)
theorem dX24_init_8 : decode cX24_init 8 = .ok (.putfield 7, 3) := dk_181 0 7 (dk_at dksX24_init_0 8 rfl rfl)
theorem dX24_init_11 : decode cX24_init 11 = .ok (.aload_n 0, 1) := dk_42 (dk_at dksX24_init_0 11 rfl rfl)
theorem dX24_init_12 : decode cX24_init 12 = .ok (.iconst 1, 1) := dk_4 (dk_at dksX24_init_0 12 rfl rfl)
theorem dX24_init_13 : decode cX24_init 13 = .ok (.putfield 13, 3) := dk_181 0 13 (dk_at dksX24_init_0 13 rfl rfl)
theorem dX24_init_16 : decode cX24_init 16 = .ok (.aload_n 0, 1) := dk_42 (dk_at dksX24_init_0 16 rfl rfl)
theorem dX24_init_17 : decode cX24_init 17 = .ok (.iconst (-1), 1) := dk_2 (dk_at dksX24_init_0 17 rfl rfl)
theorem dX24_init_18 : decode cX24_init 18 = .ok (.putfield 16, 3) := dk_181 0 16 (dk_at dksX24_init_0 18 rfl rfl)
theorem dX24_init_21 : decode cX24_init 21 = .ok (.aload_n 0, 1) := dk_42 (dk_at dksX24_init_0 21 rfl rfl)
theorem dX24_init_22 : decode cX24_init 22 = .ok (.bipush 8, 2) := dk_16 8 (dk_at dksX24_init_0 22 rfl rfl)
theorem dX24_init_24 : decode cX24_init 24 = .ok (.newarray .int, 2) := dk_188_10 (dk_at dksX24_init_1 0 rfl rfl)
theorem dX24_init_26 : decode cX24_init 26 = .ok (.putfield 19, 3) := dk_181 0 19 (dk_at dksX24_init_1 2 rfl rfl)
theorem dX24_init_29 : decode cX24_init 29 = .ok (.aload_n 0, 1) := dk_42 (dk_at dksX24_init_1 5 rfl rfl)
theorem dX24_init_30 : decode cX24_init 30 = .ok (.iconst 4, 1) := dk_7 (dk_at dksX24_init_1 6 rfl rfl)
theorem dX24_init_31 : decode cX24_init 31 = .ok (.newarray .int, 2) := dk_188_10 (dk_at dksX24_init_1 7 rfl rfl)
theorem dX24_init_33 : decode cX24_init 33 = .ok (.dup, 1) := dk_89 (dk_at dksX24_init_1 9 rfl rfl)
theorem dX24_init_34 : decode cX24_init 34 = .ok (.iconst 0, 1) := dk_3 (dk_at dksX24_init_1 10 rfl rfl)
theorem dX24_init_35 : decode cX24_init 35 = .ok (.bipush 100, 2) := dk_16 100 (dk_at dksX24_init_1 11 rfl rfl)
theorem dX24_init_37 : decode cX24_init 37 = .ok (.iastore, 1) := dk_79 (dk_at dksX24_init_1 13 rfl rfl)
theorem dX24_init_38 : decode cX24_init 38 = .ok (.dup, 1) := dk_89 (dk_at dksX24_init_1 14 rfl rfl)
theorem dX24_init_39 : decode cX24_init 39 = .ok (.iconst 1, 1) := dk_4 (dk_at dksX24_init_1 15 rfl rfl)
theorem dX24_init_40 : decode cX24_init 40 = .ok (.bipush 100, 2) := dk_16 100 (dk_at dksX24_init_1 16 rfl rfl)
theorem dX24_init_42 : decode cX24_init 42 = .ok (.iastore, 1) := dk_79 (dk_at dksX24_init_1 18 rfl rfl)
theorem dX24_init_43 : decode cX24_init 43 = .ok (.dup, 1) := dk_89 (dk_at dksX24_init_1 19 rfl rfl)
theorem dX24_init_44 : decode cX24_init 44 = .ok (.iconst 2, 1) := dk_5 (dk_at dksX24_init_1 20 rfl rfl)
theorem dX24_init_45 : decode cX24_init 45 = .ok (.bipush 100, 2) := dk_16 100 (dk_at dksX24_init_1 21 rfl rfl)
theorem dX24_init_47 : decode cX24_init 47 = .ok (.iastore, 1) := dk_79 (dk_at dksX24_init_1 23 rfl rfl)
theorem dX24_init_48 : decode cX24_init 48 = .ok (.dup, 1) := dk_89 (dk_at dksX24_init_2 0 rfl rfl)
theorem dX24_init_49 : decode cX24_init 49 = .ok (.iconst 3, 1) := dk_6 (dk_at dksX24_init_2 1 rfl rfl)
theorem dX24_init_50 : decode cX24_init 50 = .ok (.bipush 100, 2) := dk_16 100 (dk_at dksX24_init_2 2 rfl rfl)
theorem dX24_init_52 : decode cX24_init 52 = .ok (.iastore, 1) := dk_79 (dk_at dksX24_init_2 4 rfl rfl)
theorem dX24_init_53 : decode cX24_init 53 = .ok (.putfield 23, 3) := dk_181 0 23 (dk_at dksX24_init_2 5 rfl rfl)
theorem dX24_init_56 : decode cX24_init 56 = .ok (.aload_n 0, 1) := dk_42 (dk_at dksX24_init_2 8 rfl rfl)
theorem dX24_init_57 : decode cX24_init 57 = .ok (.bipush 8, 2) := dk_16 8 (dk_at dksX24_init_2 9 rfl rfl)
theorem dX24_init_59 : decode cX24_init 59 = .ok (.newarray .int, 2) := dk_188_10 (dk_at dksX24_init_2 11 rfl rfl)
theorem dX24_init_61 : decode cX24_init 61 = .ok (.putfield 26, 3) := dk_181 0 26 (dk_at dksX24_init_2 13 rfl rfl)
theorem dX24_init_64 : decode cX24_init 64 = .ok (.aload_n 0, 1) := dk_42 (dk_at dksX24_init_2 16 rfl rfl)
theorem dX24_init_65 : decode cX24_init 65 = .ok (.bipush 8, 2) := dk_16 8 (dk_at dksX24_init_2 17 rfl rfl)
theorem dX24_init_67 : decode cX24_init 67 = .ok (.newarray .int, 2) := dk_188_10 (dk_at dksX24_init_2 19 rfl rfl)
theorem dX24_init_69 : decode cX24_init 69 = .ok (.putfield 29, 3) := dk_181 0 29 (dk_at dksX24_init_2 21 rfl rfl)
theorem dX24_init_72 : decode cX24_init 72 = .ok (.aload_n 0, 1) := dk_42 (dk_at dksX24_init_3 0 rfl rfl)
theorem dX24_init_73 : decode cX24_init 73 = .ok (.bipush 8, 2) := dk_16 8 (dk_at dksX24_init_3 1 rfl rfl)
theorem dX24_init_75 : decode cX24_init 75 = .ok (.newarray .int, 2) := dk_188_10 (dk_at dksX24_init_3 3 rfl rfl)
theorem dX24_init_77 : decode cX24_init 77 = .ok (.putfield 32, 3) := dk_181 0 32 (dk_at dksX24_init_3 5 rfl rfl)
theorem dX24_init_80 : decode cX24_init 80 = .ok (.aload_n 0, 1) := dk_42 (dk_at dksX24_init_3 8 rfl rfl)
theorem dX24_init_81 : decode cX24_init 81 = .ok (.bipush 8, 2) := dk_16 8 (dk_at dksX24_init_3 9 rfl rfl)
theorem dX24_init_83 : decode cX24_init 83 = .ok (.newarray .int, 2) := dk_188_10 (dk_at dksX24_init_3 11 rfl rfl)
theorem dX24_init_85 : decode cX24_init 85 = .ok (.putfield 35, 3) := dk_181 0 35 (dk_at dksX24_init_3 13 rfl rfl)
theorem dX24_init_88 : decode cX24_init 88 = .ok (.aload_n 0, 1) := dk_42 (dk_at dksX24_init_3 16 rfl rfl)
theorem dX24_init_89 : decode cX24_init 89 = .ok (.sipush 144, 3) := dk_17 0 144 (dk_at dksX24_init_3 17 rfl rfl)
theorem dX24_init_92 : decode cX24_init 92 = .ok (.newarray .int, 2) := dk_188_10 (dk_at dksX24_init_3 20 rfl rfl)
theorem dX24_init_94 : decode cX24_init 94 = .ok (.putfield 38, 3) := dk_181 0 38 (dk_at dksX24_init_4 0 rfl rfl)
theorem dX24_init_97 : decode cX24_init 97 = .ok (.aload_n 0, 1) := dk_42 (dk_at dksX24_init_4 3 rfl rfl)
theorem dX24_init_98 : decode cX24_init 98 = .ok (.sipush 144, 3) := dk_17 0 144 (dk_at dksX24_init_4 4 rfl rfl)
theorem dX24_init_101 : decode cX24_init 101 = .ok (.newarray .int, 2) := dk_188_10 (dk_at dksX24_init_4 7 rfl rfl)
theorem dX24_init_103 : decode cX24_init 103 = .ok (.putfield 41, 3) := dk_181 0 41 (dk_at dksX24_init_4 9 rfl rfl)
theorem dX24_init_106 : decode cX24_init 106 = .ok (.aload_n 0, 1) := dk_42 (dk_at dksX24_init_4 12 rfl rfl)
theorem dX24_init_107 : decode cX24_init 107 = .ok (.sipush 144, 3) := dk_17 0 144 (dk_at dksX24_init_4 13 rfl rfl)
theorem dX24_init_110 : decode cX24_init 110 = .ok (.newarray .int, 2) := dk_188_10 (dk_at dksX24_init_4 16 rfl rfl)
theorem dX24_init_112 : decode cX24_init 112 = .ok (.putfield 44, 3) := dk_181 0 44 (dk_at dksX24_init_4 18 rfl rfl)
theorem dX24_init_115 : decode cX24_init 115 = .ok (.aload_n 0, 1) := dk_42 (dk_at dksX24_init_4 21 rfl rfl)
theorem dX24_init_116 : decode cX24_init 116 = .ok (.sipush 144, 3) := dk_17 0 144 (dk_at dksX24_init_5 0 rfl rfl)
theorem dX24_init_119 : decode cX24_init 119 = .ok (.newarray .int, 2) := dk_188_10 (dk_at dksX24_init_5 3 rfl rfl)
theorem dX24_init_121 : decode cX24_init 121 = .ok (.putfield 47, 3) := dk_181 0 47 (dk_at dksX24_init_5 5 rfl rfl)
theorem dX24_init_124 : decode cX24_init 124 = .ok (.aload_n 0, 1) := dk_42 (dk_at dksX24_init_5 8 rfl rfl)
theorem dX24_init_125 : decode cX24_init 125 = .ok (.sipush 144, 3) := dk_17 0 144 (dk_at dksX24_init_5 9 rfl rfl)
theorem dX24_init_128 : decode cX24_init 128 = .ok (.newarray .int, 2) := dk_188_10 (dk_at dksX24_init_5 12 rfl rfl)
theorem dX24_init_130 : decode cX24_init 130 = .ok (.putfield 50, 3) := dk_181 0 50 (dk_at dksX24_init_5 14 rfl rfl)
theorem dX24_init_133 : decode cX24_init 133 = .ok (.aload_n 0, 1) := dk_42 (dk_at dksX24_init_5 17 rfl rfl)
theorem dX24_init_134 : decode cX24_init 134 = .ok (.sipush 144, 3) := dk_17 0 144 (dk_at dksX24_init_5 18 rfl rfl)
theorem dX24_init_137 : decode cX24_init 137 = .ok (.newarray .int, 2) := dk_188_10 (dk_at dksX24_init_5 21 rfl rfl)
theorem dX24_init_139 : decode cX24_init 139 = .ok (.putfield 53, 3) := dk_181 0 53 (dk_at dksX24_init_6 0 rfl rfl)
theorem dX24_init_142 : decode cX24_init 142 = .ok (.aload_n 0, 1) := dk_42 (dk_at dksX24_init_6 3 rfl rfl)
theorem dX24_init_143 : decode cX24_init 143 = .ok (.sipush 144, 3) := dk_17 0 144 (dk_at dksX24_init_6 4 rfl rfl)
theorem dX24_init_146 : decode cX24_init 146 = .ok (.newarray .boolean, 2) := dk_188_4 (dk_at dksX24_init_6 7 rfl rfl)
theorem dX24_init_148 : decode cX24_init 148 = .ok (.putfield 56, 3) := dk_181 0 56 (dk_at dksX24_init_6 9 rfl rfl)
theorem dX24_init_151 : decode cX24_init 151 = .ok (.aload_n 0, 1) := dk_42 (dk_at dksX24_init_6 12 rfl rfl)
theorem dX24_init_152 : decode cX24_init 152 = .ok (.sipush 29120, 3) := dk_17 113 192 (dk_at dksX24_init_6 13 rfl rfl)
theorem dX24_init_155 : decode cX24_init 155 = .ok (.newarray .boolean, 2) := dk_188_4 (dk_at dksX24_init_6 16 rfl rfl)
theorem dX24_init_157 : decode cX24_init 157 = .ok (.putfield 60, 3) := dk_181 0 60 (dk_at dksX24_init_6 18 rfl rfl)
theorem dX24_init_160 : decode cX24_init 160 = .ok (.aload_n 0, 1) := dk_42 (dk_at dksX24_init_6 21 rfl rfl)
theorem dX24_init_161 : decode cX24_init 161 = .ok (.bipush 7, 2) := dk_16 7 (dk_at dksX24_init_6 22 rfl rfl)
theorem dX24_init_163 : decode cX24_init 163 = .ok (.newarray .int, 2) := dk_188_10 (dk_at dksX24_init_7 0 rfl rfl)
theorem dX24_init_165 : decode cX24_init 165 = .ok (.putfield 63, 3) := dk_181 0 63 (dk_at dksX24_init_7 2 rfl rfl)
theorem dX24_init_168 : decode cX24_init 168 = .ok (.aload_n 0, 1) := dk_42 (dk_at dksX24_init_7 5 rfl rfl)
theorem dX24_init_169 : decode cX24_init 169 = .ok (.bipush 8, 2) := dk_16 8 (dk_at dksX24_init_7 6 rfl rfl)
theorem dX24_init_171 : decode cX24_init 171 = .ok (.newarray .int, 2) := dk_188_10 (dk_at dksX24_init_7 8 rfl rfl)
theorem dX24_init_173 : decode cX24_init 173 = .ok (.putfield 66, 3) := dk_181 0 66 (dk_at dksX24_init_7 10 rfl rfl)
theorem dX24_init_176 : decode cX24_init 176 = .ok (.aload_n 0, 1) := dk_42 (dk_at dksX24_init_7 13 rfl rfl)
theorem dX24_init_177 : decode cX24_init 177 = .ok (.bipush 8, 2) := dk_16 8 (dk_at dksX24_init_7 14 rfl rfl)
theorem dX24_init_179 : decode cX24_init 179 = .ok (.newarray .int, 2) := dk_188_10 (dk_at dksX24_init_7 16 rfl rfl)
theorem dX24_init_181 : decode cX24_init 181 = .ok (.putfield 69, 3) := dk_181 0 69 (dk_at dksX24_init_7 18 rfl rfl)
theorem dX24_init_184 : decode cX24_init 184 = .ok (.aload_n 0, 1) := dk_42 (dk_at dksX24_init_7 21 rfl rfl)
theorem dX24_init_185 : decode cX24_init 185 = .ok (.bipush 8, 2) := dk_16 8 (dk_at dksX24_init_7 22 rfl rfl)
theorem dX24_init_187 : decode cX24_init 187 = .ok (.newarray .int, 2) := dk_188_10 (dk_at dksX24_init_8 0 rfl rfl)
theorem dX24_init_189 : decode cX24_init 189 = .ok (.putfield 72, 3) := dk_181 0 72 (dk_at dksX24_init_8 2 rfl rfl)
theorem dX24_init_192 : decode cX24_init 192 = .ok (.aload_n 0, 1) := dk_42 (dk_at dksX24_init_8 5 rfl rfl)
theorem dX24_init_193 : decode cX24_init 193 = .ok (.bipush 8, 2) := dk_16 8 (dk_at dksX24_init_8 6 rfl rfl)
theorem dX24_init_195 : decode cX24_init 195 = .ok (.newarray .int, 2) := dk_188_10 (dk_at dksX24_init_8 8 rfl rfl)
theorem dX24_init_197 : decode cX24_init 197 = .ok (.putfield 75, 3) := dk_181 0 75 (dk_at dksX24_init_8 10 rfl rfl)
theorem dX24_init_200 : decode cX24_init 200 = .ok (.aload_n 0, 1) := dk_42 (dk_at dksX24_init_8 13 rfl rfl)
theorem dX24_init_201 : decode cX24_init 201 = .ok (.sipush 1280, 3) := dk_17 5 0 (dk_at dksX24_init_8 14 rfl rfl)
theorem dX24_init_204 : decode cX24_init 204 = .ok (.newarray .long, 2) := dk_188_11 (dk_at dksX24_init_8 17 rfl rfl)
theorem dX24_init_206 : decode cX24_init 206 = .ok (.putfield 78, 3) := dk_181 0 78 (dk_at dksX24_init_8 19 rfl rfl)
theorem dX24_init_209 : decode cX24_init 209 = .ok (.aload_n 0, 1) := dk_42 (dk_at dksX24_init_8 22 rfl rfl)
theorem dX24_init_210 : decode cX24_init 210 = .ok (.sipush 160, 3) := dk_17 0 160 (dk_at dksX24_init_9 0 rfl rfl)
theorem dX24_init_213 : decode cX24_init 213 = .ok (.newarray .long, 2) := dk_188_11 (dk_at dksX24_init_9 3 rfl rfl)
theorem dX24_init_215 : decode cX24_init 215 = .ok (.putfield 82, 3) := dk_181 0 82 (dk_at dksX24_init_9 5 rfl rfl)
theorem dX24_init_218 : decode cX24_init 218 = .ok (.aload_n 0, 1) := dk_42 (dk_at dksX24_init_9 8 rfl rfl)
theorem dX24_init_219 : decode cX24_init 219 = .ok (.sipush 144, 3) := dk_17 0 144 (dk_at dksX24_init_9 9 rfl rfl)
theorem dX24_init_222 : decode cX24_init 222 = .ok (.newarray .int, 2) := dk_188_10 (dk_at dksX24_init_9 12 rfl rfl)
theorem dX24_init_224 : decode cX24_init 224 = .ok (.putfield 85, 3) := dk_181 0 85 (dk_at dksX24_init_9 14 rfl rfl)
theorem dX24_init_227 : decode cX24_init 227 = .ok (.aload_n 0, 1) := dk_42 (dk_at dksX24_init_9 17 rfl rfl)
theorem dX24_init_228 : decode cX24_init 228 = .ok (.sipush 144, 3) := dk_17 0 144 (dk_at dksX24_init_9 18 rfl rfl)
theorem dX24_init_231 : decode cX24_init 231 = .ok (.newarray .int, 2) := dk_188_10 (dk_at dksX24_init_9 21 rfl rfl)
theorem dX24_init_233 : decode cX24_init 233 = .ok (.putfield 88, 3) := dk_181 0 88 (dk_at dksX24_init_10 0 rfl rfl)
theorem dX24_init_236 : decode cX24_init 236 = .ok (.aload_n 0, 1) := dk_42 (dk_at dksX24_init_10 3 rfl rfl)
theorem dX24_init_237 : decode cX24_init 237 = .ok (.sipush 144, 3) := dk_17 0 144 (dk_at dksX24_init_10 4 rfl rfl)
theorem dX24_init_240 : decode cX24_init 240 = .ok (.newarray .int, 2) := dk_188_10 (dk_at dksX24_init_10 7 rfl rfl)
theorem dX24_init_242 : decode cX24_init 242 = .ok (.putfield 91, 3) := dk_181 0 91 (dk_at dksX24_init_10 9 rfl rfl)
theorem dX24_init_245 : decode cX24_init 245 = .ok (.aload_n 0, 1) := dk_42 (dk_at dksX24_init_10 12 rfl rfl)
theorem dX24_init_246 : decode cX24_init 246 = .ok (.sipush 1920, 3) := dk_17 7 128 (dk_at dksX24_init_10 13 rfl rfl)
theorem dX24_init_249 : decode cX24_init 249 = .ok (.newarray .long, 2) := dk_188_11 (dk_at dksX24_init_10 16 rfl rfl)
theorem dX24_init_251 : decode cX24_init 251 = .ok (.putfield 94, 3) := dk_181 0 94 (dk_at dksX24_init_10 18 rfl rfl)
theorem dX24_init_254 : decode cX24_init 254 = .ok (.aload_n 0, 1) := dk_42 (dk_at dksX24_init_10 21 rfl rfl)
theorem dX24_init_255 : decode cX24_init 255 = .ok (.iconst 2, 1) := dk_5 (dk_at dksX24_init_10 22 rfl rfl)
theorem dX24_init_256 : decode cX24_init 256 = .ok (.newarray .long, 2) := dk_188_11 (dk_at dksX24_init_11 0 rfl rfl)
theorem dX24_init_258 : decode cX24_init 258 = .ok (.putfield 97, 3) := dk_181 0 97 (dk_at dksX24_init_11 2 rfl rfl)
theorem dX24_init_261 : decode cX24_init 261 = .ok (.aload_n 0, 1) := dk_42 (dk_at dksX24_init_11 5 rfl rfl)
theorem dX24_init_262 : decode cX24_init 262 = .ok (.sipush 400, 3) := dk_17 1 144 (dk_at dksX24_init_11 6 rfl rfl)
theorem dX24_init_265 : decode cX24_init 265 = .ok (.newarray .int, 2) := dk_188_10 (dk_at dksX24_init_11 9 rfl rfl)
theorem dX24_init_267 : decode cX24_init 267 = .ok (.putfield 100, 3) := dk_181 0 100 (dk_at dksX24_init_11 11 rfl rfl)
theorem dX24_init_270 : decode cX24_init 270 = .ok (.aload_n 0, 1) := dk_42 (dk_at dksX24_init_11 14 rfl rfl)
theorem dX24_init_271 : decode cX24_init 271 = .ok (.sipush 400, 3) := dk_17 1 144 (dk_at dksX24_init_11 15 rfl rfl)
theorem dX24_init_274 : decode cX24_init 274 = .ok (.newarray .int, 2) := dk_188_10 (dk_at dksX24_init_11 18 rfl rfl)
theorem dX24_init_276 : decode cX24_init 276 = .ok (.putfield 103, 3) := dk_181 0 103 (dk_at dksX24_init_11 20 rfl rfl)
theorem dX24_init_279 : decode cX24_init 279 = .ok (.aload_n 0, 1) := dk_42 (dk_at dksX24_init_11 23 rfl rfl)
theorem dX24_init_280 : decode cX24_init 280 = .ok (.sipush 400, 3) := dk_17 1 144 (dk_at dksX24_init_12 0 rfl rfl)
theorem dX24_init_283 : decode cX24_init 283 = .ok (.newarray .int, 2) := dk_188_10 (dk_at dksX24_init_12 3 rfl rfl)
theorem dX24_init_285 : decode cX24_init 285 = .ok (.putfield 106, 3) := dk_181 0 106 (dk_at dksX24_init_12 5 rfl rfl)
theorem dX24_init_288 : decode cX24_init 288 = .ok (.aload_n 0, 1) := dk_42 (dk_at dksX24_init_12 8 rfl rfl)
theorem dX24_init_289 : decode cX24_init 289 = .ok (.sipush 400, 3) := dk_17 1 144 (dk_at dksX24_init_12 9 rfl rfl)
theorem dX24_init_292 : decode cX24_init 292 = .ok (.newarray .int, 2) := dk_188_10 (dk_at dksX24_init_12 12 rfl rfl)
theorem dX24_init_294 : decode cX24_init 294 = .ok (.putfield 109, 3) := dk_181 0 109 (dk_at dksX24_init_12 14 rfl rfl)
theorem dX24_init_297 : decode cX24_init 297 = .ok (.aload_n 0, 1) := dk_42 (dk_at dksX24_init_12 17 rfl rfl)
theorem dX24_init_298 : decode cX24_init 298 = .ok (.sipush 400, 3) := dk_17 1 144 (dk_at dksX24_init_12 18 rfl rfl)
theorem dX24_init_301 : decode cX24_init 301 = .ok (.newarray .int, 2) := dk_188_10 (dk_at dksX24_init_12 21 rfl rfl)
theorem dX24_init_303 : decode cX24_init 303 = .ok (.putfield 112, 3) := dk_181 0 112 (dk_at dksX24_init_13 0 rfl rfl)
theorem dX24_init_306 : decode cX24_init 306 = .ok (.aload_n 0, 1) := dk_42 (dk_at dksX24_init_13 3 rfl rfl)
theorem dX24_init_307 : decode cX24_init 307 = .ok (.sipush 400, 3) := dk_17 1 144 (dk_at dksX24_init_13 4 rfl rfl)
theorem dX24_init_310 : decode cX24_init 310 = .ok (.newarray .long, 2) := dk_188_11 (dk_at dksX24_init_13 7 rfl rfl)
theorem dX24_init_312 : decode cX24_init 312 = .ok (.putfield 115, 3) := dk_181 0 115 (dk_at dksX24_init_13 9 rfl rfl)
theorem dX24_init_315 : decode cX24_init 315 = .ok (.aload_n 0, 1) := dk_42 (dk_at dksX24_init_13 12 rfl rfl)
theorem dX24_init_316 : decode cX24_init 316 = .ok (.bipush 121, 2) := dk_16 121 (dk_at dksX24_init_13 13 rfl rfl)
theorem dX24_init_318 : decode cX24_init 318 = .ok (.newarray .int, 2) := dk_188_10 (dk_at dksX24_init_13 15 rfl rfl)
theorem dX24_init_320 : decode cX24_init 320 = .ok (.putfield 118, 3) := dk_181 0 118 (dk_at dksX24_init_13 17 rfl rfl)
theorem dX24_init_323 : decode cX24_init 323 = .ok (.aload_n 0, 1) := dk_42 (dk_at dksX24_init_13 20 rfl rfl)
theorem dX24_init_324 : decode cX24_init 324 = .ok (.bipush 121, 2) := dk_16 121 (dk_at dksX24_init_13 21 rfl rfl)
theorem dX24_init_326 : decode cX24_init 326 = .ok (.newarray .int, 2) := dk_188_10 (dk_at dksX24_init_14 0 rfl rfl)
theorem dX24_init_328 : decode cX24_init 328 = .ok (.putfield 121, 3) := dk_181 0 121 (dk_at dksX24_init_14 2 rfl rfl)
theorem dX24_init_331 : decode cX24_init 331 = .ok (.aload_n 0, 1) := dk_42 (dk_at dksX24_init_14 5 rfl rfl)
theorem dX24_init_332 : decode cX24_init 332 = .ok (.bipush 121, 2) := dk_16 121 (dk_at dksX24_init_14 6 rfl rfl)
theorem dX24_init_334 : decode cX24_init 334 = .ok (.newarray .int, 2) := dk_188_10 (dk_at dksX24_init_14 8 rfl rfl)
theorem dX24_init_336 : decode cX24_init 336 = .ok (.putfield 124, 3) := dk_181 0 124 (dk_at dksX24_init_14 10 rfl rfl)
theorem dX24_init_339 : decode cX24_init 339 = .ok (.aload_n 0, 1) := dk_42 (dk_at dksX24_init_14 13 rfl rfl)
theorem dX24_init_340 : decode cX24_init 340 = .ok (.bipush 121, 2) := dk_16 121 (dk_at dksX24_init_14 14 rfl rfl)
theorem dX24_init_342 : decode cX24_init 342 = .ok (.newarray .int, 2) := dk_188_10 (dk_at dksX24_init_14 16 rfl rfl)
theorem dX24_init_344 : decode cX24_init 344 = .ok (.putfield 127, 3) := dk_181 0 127 (dk_at dksX24_init_14 18 rfl rfl)
theorem dX24_init_347 : decode cX24_init 347 = .ok (.aload_n 0, 1) := dk_42 (dk_at dksX24_init_14 21 rfl rfl)
theorem dX24_init_348 : decode cX24_init 348 = .ok (.bipush 121, 2) := dk_16 121 (dk_at dksX24_init_14 22 rfl rfl)
theorem dX24_init_350 : decode cX24_init 350 = .ok (.newarray .int, 2) := dk_188_10 (dk_at dksX24_init_15 0 rfl rfl)
theorem dX24_init_352 : decode cX24_init 352 = .ok (.putfield 130, 3) := dk_181 0 130 (dk_at dksX24_init_15 2 rfl rfl)
theorem dX24_init_355 : decode cX24_init 355 = .ok (.aload_n 0, 1) := dk_42 (dk_at dksX24_init_15 5 rfl rfl)
theorem dX24_init_356 : decode cX24_init 356 = .ok (.bipush 121, 2) := dk_16 121 (dk_at dksX24_init_15 6 rfl rfl)
theorem dX24_init_358 : decode cX24_init 358 = .ok (.newarray .int, 2) := dk_188_10 (dk_at dksX24_init_15 8 rfl rfl)
theorem dX24_init_360 : decode cX24_init 360 = .ok (.putfield 133, 3) := dk_181 0 133 (dk_at dksX24_init_15 10 rfl rfl)
theorem dX24_init_363 : decode cX24_init 363 = .ok (.aload_n 0, 1) := dk_42 (dk_at dksX24_init_15 13 rfl rfl)
theorem dX24_init_364 : decode cX24_init 364 = .ok (.bipush 121, 2) := dk_16 121 (dk_at dksX24_init_15 14 rfl rfl)
theorem dX24_init_366 : decode cX24_init 366 = .ok (.newarray .int, 2) := dk_188_10 (dk_at dksX24_init_15 16 rfl rfl)
theorem dX24_init_368 : decode cX24_init 368 = .ok (.putfield 136, 3) := dk_181 0 136 (dk_at dksX24_init_15 18 rfl rfl)
theorem dX24_init_371 : decode cX24_init 371 = .ok (.aload_n 0, 1) := dk_42 (dk_at dksX24_init_15 21 rfl rfl)
theorem dX24_init_372 : decode cX24_init 372 = .ok (.bipush 121, 2) := dk_16 121 (dk_at dksX24_init_15 22 rfl rfl)
theorem dX24_init_374 : decode cX24_init 374 = .ok (.newarray .int, 2) := dk_188_10 (dk_at dksX24_init_16 0 rfl rfl)
theorem dX24_init_376 : decode cX24_init 376 = .ok (.putfield 139, 3) := dk_181 0 139 (dk_at dksX24_init_16 2 rfl rfl)
theorem dX24_init_379 : decode cX24_init 379 = .ok (.aload_n 0, 1) := dk_42 (dk_at dksX24_init_16 5 rfl rfl)
theorem dX24_init_380 : decode cX24_init 380 = .ok (.bipush 121, 2) := dk_16 121 (dk_at dksX24_init_16 6 rfl rfl)
theorem dX24_init_382 : decode cX24_init 382 = .ok (.newarray .int, 2) := dk_188_10 (dk_at dksX24_init_16 8 rfl rfl)
theorem dX24_init_384 : decode cX24_init 384 = .ok (.putfield 142, 3) := dk_181 0 142 (dk_at dksX24_init_16 10 rfl rfl)
theorem dX24_init_387 : decode cX24_init 387 = .ok (.aload_n 0, 1) := dk_42 (dk_at dksX24_init_16 13 rfl rfl)
theorem dX24_init_388 : decode cX24_init 388 = .ok (.bipush 121, 2) := dk_16 121 (dk_at dksX24_init_16 14 rfl rfl)
theorem dX24_init_390 : decode cX24_init 390 = .ok (.newarray .long, 2) := dk_188_11 (dk_at dksX24_init_16 16 rfl rfl)
theorem dX24_init_392 : decode cX24_init 392 = .ok (.putfield 145, 3) := dk_181 0 145 (dk_at dksX24_init_16 18 rfl rfl)
theorem dX24_init_395 : decode cX24_init 395 = .ok (.aload_n 0, 1) := dk_42 (dk_at dksX24_init_16 21 rfl rfl)
theorem dX24_init_396 : decode cX24_init 396 = .ok (.bipush 121, 2) := dk_16 121 (dk_at dksX24_init_16 22 rfl rfl)
theorem dX24_init_398 : decode cX24_init 398 = .ok (.newarray .int, 2) := dk_188_10 (dk_at dksX24_init_17 0 rfl rfl)
theorem dX24_init_400 : decode cX24_init 400 = .ok (.putfield 148, 3) := dk_181 0 148 (dk_at dksX24_init_17 2 rfl rfl)
theorem dX24_init_403 : decode cX24_init 403 = .ok (.aload_n 0, 1) := dk_42 (dk_at dksX24_init_17 5 rfl rfl)
theorem dX24_init_404 : decode cX24_init 404 = .ok (.bipush 121, 2) := dk_16 121 (dk_at dksX24_init_17 6 rfl rfl)
theorem dX24_init_406 : decode cX24_init 406 = .ok (.newarray .int, 2) := dk_188_10 (dk_at dksX24_init_17 8 rfl rfl)
theorem dX24_init_408 : decode cX24_init 408 = .ok (.putfield 151, 3) := dk_181 0 151 (dk_at dksX24_init_17 10 rfl rfl)
theorem dX24_init_411 : decode cX24_init 411 = .ok (.aload_n 0, 1) := dk_42 (dk_at dksX24_init_17 13 rfl rfl)
theorem dX24_init_412 : decode cX24_init 412 = .ok (.bipush 121, 2) := dk_16 121 (dk_at dksX24_init_17 14 rfl rfl)
theorem dX24_init_414 : decode cX24_init 414 = .ok (.newarray .int, 2) := dk_188_10 (dk_at dksX24_init_17 16 rfl rfl)
theorem dX24_init_416 : decode cX24_init 416 = .ok (.putfield 154, 3) := dk_181 0 154 (dk_at dksX24_init_17 18 rfl rfl)
theorem dX24_init_419 : decode cX24_init 419 = .ok (.aload_n 0, 1) := dk_42 (dk_at dksX24_init_17 21 rfl rfl)
theorem dX24_init_420 : decode cX24_init 420 = .ok (.bipush 121, 2) := dk_16 121 (dk_at dksX24_init_17 22 rfl rfl)
theorem dX24_init_422 : decode cX24_init 422 = .ok (.newarray .int, 2) := dk_188_10 (dk_at dksX24_init_18 0 rfl rfl)
theorem dX24_init_424 : decode cX24_init 424 = .ok (.putfield 157, 3) := dk_181 0 157 (dk_at dksX24_init_18 2 rfl rfl)
theorem dX24_init_427 : decode cX24_init 427 = .ok (.aload_n 0, 1) := dk_42 (dk_at dksX24_init_18 5 rfl rfl)
theorem dX24_init_428 : decode cX24_init 428 = .ok (.bipush 121, 2) := dk_16 121 (dk_at dksX24_init_18 6 rfl rfl)
theorem dX24_init_430 : decode cX24_init 430 = .ok (.newarray .int, 2) := dk_188_10 (dk_at dksX24_init_18 8 rfl rfl)
theorem dX24_init_432 : decode cX24_init 432 = .ok (.putfield 160, 3) := dk_181 0 160 (dk_at dksX24_init_18 10 rfl rfl)
theorem dX24_init_435 : decode cX24_init 435 = .ok (.aload_n 0, 1) := dk_42 (dk_at dksX24_init_18 13 rfl rfl)
theorem dX24_init_436 : decode cX24_init 436 = .ok (.bipush 121, 2) := dk_16 121 (dk_at dksX24_init_18 14 rfl rfl)
theorem dX24_init_438 : decode cX24_init 438 = .ok (.newarray .int, 2) := dk_188_10 (dk_at dksX24_init_18 16 rfl rfl)
theorem dX24_init_440 : decode cX24_init 440 = .ok (.putfield 163, 3) := dk_181 0 163 (dk_at dksX24_init_18 18 rfl rfl)
theorem dX24_init_443 : decode cX24_init 443 = .ok (.aload_n 0, 1) := dk_42 (dk_at dksX24_init_18 21 rfl rfl)
theorem dX24_init_444 : decode cX24_init 444 = .ok (.bipush 121, 2) := dk_16 121 (dk_at dksX24_init_18 22 rfl rfl)
theorem dX24_init_446 : decode cX24_init 446 = .ok (.newarray .int, 2) := dk_188_10 (dk_at dksX24_init_19 0 rfl rfl)
theorem dX24_init_448 : decode cX24_init 448 = .ok (.putfield 166, 3) := dk_181 0 166 (dk_at dksX24_init_19 2 rfl rfl)
theorem dX24_init_451 : decode cX24_init 451 = .ok (.aload_n 0, 1) := dk_42 (dk_at dksX24_init_19 5 rfl rfl)
theorem dX24_init_452 : decode cX24_init 452 = .ok (.bipush 121, 2) := dk_16 121 (dk_at dksX24_init_19 6 rfl rfl)
theorem dX24_init_454 : decode cX24_init 454 = .ok (.newarray .int, 2) := dk_188_10 (dk_at dksX24_init_19 8 rfl rfl)
theorem dX24_init_456 : decode cX24_init 456 = .ok (.putfield 169, 3) := dk_181 0 169 (dk_at dksX24_init_19 10 rfl rfl)
theorem dX24_init_459 : decode cX24_init 459 = .ok (.aload_n 0, 1) := dk_42 (dk_at dksX24_init_19 13 rfl rfl)
theorem dX24_init_460 : decode cX24_init 460 = .ok (.bipush 121, 2) := dk_16 121 (dk_at dksX24_init_19 14 rfl rfl)
theorem dX24_init_462 : decode cX24_init 462 = .ok (.newarray .long, 2) := dk_188_11 (dk_at dksX24_init_19 16 rfl rfl)
theorem dX24_init_464 : decode cX24_init 464 = .ok (.putfield 172, 3) := dk_181 0 172 (dk_at dksX24_init_19 18 rfl rfl)
theorem dX24_init_467 : decode cX24_init 467 = .ok (.aload_n 0, 1) := dk_42 (dk_at dksX24_init_19 21 rfl rfl)
theorem dX24_init_468 : decode cX24_init 468 = .ok (.bipush 20, 2) := dk_16 20 (dk_at dksX24_init_19 22 rfl rfl)
theorem dX24_init_470 : decode cX24_init 470 = .ok (.newarray .int, 2) := dk_188_10 (dk_at dksX24_init_20 0 rfl rfl)
theorem dX24_init_472 : decode cX24_init 472 = .ok (.putfield 175, 3) := dk_181 0 175 (dk_at dksX24_init_20 2 rfl rfl)
theorem dX24_init_475 : decode cX24_init 475 = .ok (.aload_n 0, 1) := dk_42 (dk_at dksX24_init_20 5 rfl rfl)
theorem dX24_init_476 : decode cX24_init 476 = .ok (.sipush 4000, 3) := dk_17 15 160 (dk_at dksX24_init_20 6 rfl rfl)
theorem dX24_init_479 : decode cX24_init 479 = .ok (.newarray .int, 2) := dk_188_10 (dk_at dksX24_init_20 9 rfl rfl)
theorem dX24_init_481 : decode cX24_init 481 = .ok (.putfield 178, 3) := dk_181 0 178 (dk_at dksX24_init_20 11 rfl rfl)
theorem dX24_init_484 : decode cX24_init 484 = .ok (.aload_n 0, 1) := dk_42 (dk_at dksX24_init_20 14 rfl rfl)
theorem dX24_init_485 : decode cX24_init 485 = .ok (.sipush 160, 3) := dk_17 0 160 (dk_at dksX24_init_20 15 rfl rfl)
theorem dX24_init_488 : decode cX24_init 488 = .ok (.newarray .int, 2) := dk_188_10 (dk_at dksX24_init_20 18 rfl rfl)
theorem dX24_init_490 : decode cX24_init 490 = .ok (.putfield 181, 3) := dk_181 0 181 (dk_at dksX24_init_20 20 rfl rfl)
theorem dX24_init_493 : decode cX24_init 493 = .ok (.aload_n 0, 1) := dk_42 (dk_at dksX24_init_20 23 rfl rfl)
theorem dX24_init_494 : decode cX24_init 494 = .ok (.iconst 4, 1) := dk_7 (dk_at dksX24_init_21 0 rfl rfl)
theorem dX24_init_495 : decode cX24_init 495 = .ok (.newarray .int, 2) := dk_188_10 (dk_at dksX24_init_21 1 rfl rfl)
theorem dX24_init_497 : decode cX24_init 497 = .ok (.putfield 184, 3) := dk_181 0 184 (dk_at dksX24_init_21 3 rfl rfl)
theorem dX24_init_500 : decode cX24_init 500 = .ok (.aload_n 0, 1) := dk_42 (dk_at dksX24_init_21 6 rfl rfl)
theorem dX24_init_501 : decode cX24_init 501 = .ok (.sipush 1920, 3) := dk_17 7 128 (dk_at dksX24_init_21 7 rfl rfl)
theorem dX24_init_504 : decode cX24_init 504 = .ok (.newarray .boolean, 2) := dk_188_4 (dk_at dksX24_init_21 10 rfl rfl)
theorem dX24_init_506 : decode cX24_init 506 = .ok (.putfield 187, 3) := dk_181 0 187 (dk_at dksX24_init_21 12 rfl rfl)
theorem dX24_init_509 : decode cX24_init 509 = .ok (.aload_n 0, 1) := dk_42 (dk_at dksX24_init_21 15 rfl rfl)
theorem dX24_init_510 : decode cX24_init 510 = .ok (.sipush 144, 3) := dk_17 0 144 (dk_at dksX24_init_21 16 rfl rfl)
theorem dX24_init_513 : decode cX24_init 513 = .ok (.newarray .long, 2) := dk_188_11 (dk_at dksX24_init_21 19 rfl rfl)
theorem dX24_init_515 : decode cX24_init 515 = .ok (.putfield 190, 3) := dk_181 0 190 (dk_at dksX24_init_21 21 rfl rfl)
theorem dX24_init_518 : decode cX24_init 518 = .ok (.aload_n 0, 1) := dk_42 (dk_at dksX24_init_22 0 rfl rfl)
theorem dX24_init_519 : decode cX24_init 519 = .ok (.sipush 144, 3) := dk_17 0 144 (dk_at dksX24_init_22 1 rfl rfl)
theorem dX24_init_522 : decode cX24_init 522 = .ok (.newarray .long, 2) := dk_188_11 (dk_at dksX24_init_22 4 rfl rfl)
theorem dX24_init_524 : decode cX24_init 524 = .ok (.putfield 193, 3) := dk_181 0 193 (dk_at dksX24_init_22 6 rfl rfl)
theorem dX24_init_527 : decode cX24_init 527 = .ok (.return_, 1) := dk_177 (dk_at dksX24_init_22 9 rfl rfl)
abbrev cX24_row : ByteArray := prog_53_method_8_code
def yX24_row : MethodName := ⟨RX24, "row", "(III)I"⟩
def dkwX24_row_4 : List UInt8 := [27, 104, 21, 4, 96, 9, 80, 132, 4, 1, 167, 255, 231, 4, 172]
abbrev dktX24_row_4 : List UInt8 := dkwX24_row_4 ++ []
def dkwX24_row_3 : List UInt8 := [180, 0, 72, 27, 29, 79, 3, 54, 4, 21, 4, 17, 0, 160, 162, 0, 23, 42, 180, 0, 78, 17, 0, 160]
abbrev dktX24_row_3 : List UInt8 := dkwX24_row_3 ++ dktX24_row_4
def dkwX24_row_2 : List UInt8 := [42, 16, 249, 182, 0, 206, 172, 42, 180, 0, 66, 27, 4, 79, 42, 180, 0, 69, 27, 28, 79, 42]
abbrev dktX24_row_2 : List UInt8 := dkwX24_row_2 ++ dktX24_row_3
def dkwX24_row_1 : List UInt8 := [172, 28, 155, 0, 8, 28, 6, 164, 0, 10, 42, 16, 250, 182, 0, 206, 172, 29, 17, 0, 160, 164, 0, 10]
abbrev dktX24_row_1 : List UInt8 := dkwX24_row_1 ++ dktX24_row_2
def dkwX24_row_0 : List UInt8 := [42, 27, 182, 0, 202, 154, 0, 9, 42, 2, 182, 0, 206, 172, 29, 156, 0, 10, 42, 16, 252, 182, 0, 206]
abbrev dktX24_row_0 : List UInt8 := dkwX24_row_0 ++ dktX24_row_1
theorem dksX24_row_0 : cX24_row.data.toList.drop 0 = dktX24_row_0 := by decide +kernel
theorem dksX24_row_1 : cX24_row.data.toList.drop 24 = dktX24_row_1 := dk_seg dksX24_row_0 24 rfl rfl
theorem dksX24_row_2 : cX24_row.data.toList.drop 48 = dktX24_row_2 := dk_seg dksX24_row_1 24 rfl rfl
theorem dksX24_row_3 : cX24_row.data.toList.drop 70 = dktX24_row_3 := dk_seg dksX24_row_2 22 rfl rfl
theorem dksX24_row_4 : cX24_row.data.toList.drop 94 = dktX24_row_4 := dk_seg dksX24_row_3 24 rfl rfl
theorem dX24_row_0 : decode cX24_row 0 = .ok (.aload_n 0, 1) := dk_42 (dk_at dksX24_row_0 0 rfl rfl)
theorem dX24_row_1 : decode cX24_row 1 = .ok (.iload_n 1, 1) := dk_27 (dk_at dksX24_row_0 1 rfl rfl)
theorem dX24_row_2 : decode cX24_row 2 = .ok (.invokevirtual 202, 3) := dk_182 0 202 (dk_at dksX24_row_0 2 rfl rfl)
theorem dX24_row_5 : decode cX24_row 5 = .ok (.ifCond .ne 9, 3) := dk_154 0 9 (dk_at dksX24_row_0 5 rfl rfl)
theorem dX24_row_8 : decode cX24_row 8 = .ok (.aload_n 0, 1) := dk_42 (dk_at dksX24_row_0 8 rfl rfl)
theorem dX24_row_9 : decode cX24_row 9 = .ok (.iconst (-1), 1) := dk_2 (dk_at dksX24_row_0 9 rfl rfl)
theorem dX24_row_10 : decode cX24_row 10 = .ok (.invokevirtual 206, 3) := dk_182 0 206 (dk_at dksX24_row_0 10 rfl rfl)
theorem dX24_row_13 : decode cX24_row 13 = .ok (.ireturn, 1) := dk_172 (dk_at dksX24_row_0 13 rfl rfl)
theorem dX24_row_14 : decode cX24_row 14 = .ok (.iload_n 3, 1) := dk_29 (dk_at dksX24_row_0 14 rfl rfl)
theorem dX24_row_15 : decode cX24_row 15 = .ok (.ifCond .ge 10, 3) := dk_156 0 10 (dk_at dksX24_row_0 15 rfl rfl)
theorem dX24_row_18 : decode cX24_row 18 = .ok (.aload_n 0, 1) := dk_42 (dk_at dksX24_row_0 18 rfl rfl)
theorem dX24_row_19 : decode cX24_row 19 = .ok (.bipush (-4), 2) := dk_16 252 (dk_at dksX24_row_0 19 rfl rfl)
theorem dX24_row_21 : decode cX24_row 21 = .ok (.invokevirtual 206, 3) := dk_182 0 206 (dk_at dksX24_row_0 21 rfl rfl)
theorem dX24_row_24 : decode cX24_row 24 = .ok (.ireturn, 1) := dk_172 (dk_at dksX24_row_1 0 rfl rfl)
theorem dX24_row_25 : decode cX24_row 25 = .ok (.iload_n 2, 1) := dk_28 (dk_at dksX24_row_1 1 rfl rfl)
theorem dX24_row_26 : decode cX24_row 26 = .ok (.ifCond .lt 8, 3) := dk_155 0 8 (dk_at dksX24_row_1 2 rfl rfl)
theorem dX24_row_29 : decode cX24_row 29 = .ok (.iload_n 2, 1) := dk_28 (dk_at dksX24_row_1 5 rfl rfl)
theorem dX24_row_30 : decode cX24_row 30 = .ok (.iconst 3, 1) := dk_6 (dk_at dksX24_row_1 6 rfl rfl)
theorem dX24_row_31 : decode cX24_row 31 = .ok (.if_icmp .le 10, 3) := dk_164 0 10 (dk_at dksX24_row_1 7 rfl rfl)
theorem dX24_row_34 : decode cX24_row 34 = .ok (.aload_n 0, 1) := dk_42 (dk_at dksX24_row_1 10 rfl rfl)
theorem dX24_row_35 : decode cX24_row 35 = .ok (.bipush (-6), 2) := dk_16 250 (dk_at dksX24_row_1 11 rfl rfl)
theorem dX24_row_37 : decode cX24_row 37 = .ok (.invokevirtual 206, 3) := dk_182 0 206 (dk_at dksX24_row_1 13 rfl rfl)
theorem dX24_row_40 : decode cX24_row 40 = .ok (.ireturn, 1) := dk_172 (dk_at dksX24_row_1 16 rfl rfl)
theorem dX24_row_41 : decode cX24_row 41 = .ok (.iload_n 3, 1) := dk_29 (dk_at dksX24_row_1 17 rfl rfl)
theorem dX24_row_42 : decode cX24_row 42 = .ok (.sipush 160, 3) := dk_17 0 160 (dk_at dksX24_row_1 18 rfl rfl)
theorem dX24_row_45 : decode cX24_row 45 = .ok (.if_icmp .le 10, 3) := dk_164 0 10 (dk_at dksX24_row_1 21 rfl rfl)
theorem dX24_row_48 : decode cX24_row 48 = .ok (.aload_n 0, 1) := dk_42 (dk_at dksX24_row_2 0 rfl rfl)
theorem dX24_row_49 : decode cX24_row 49 = .ok (.bipush (-7), 2) := dk_16 249 (dk_at dksX24_row_2 1 rfl rfl)
theorem dX24_row_51 : decode cX24_row 51 = .ok (.invokevirtual 206, 3) := dk_182 0 206 (dk_at dksX24_row_2 3 rfl rfl)
theorem dX24_row_54 : decode cX24_row 54 = .ok (.ireturn, 1) := dk_172 (dk_at dksX24_row_2 6 rfl rfl)
theorem dX24_row_55 : decode cX24_row 55 = .ok (.aload_n 0, 1) := dk_42 (dk_at dksX24_row_2 7 rfl rfl)
theorem dX24_row_56 : decode cX24_row 56 = .ok (.getfield 66, 3) := dk_180 0 66 (dk_at dksX24_row_2 8 rfl rfl)
theorem dX24_row_59 : decode cX24_row 59 = .ok (.iload_n 1, 1) := dk_27 (dk_at dksX24_row_2 11 rfl rfl)
theorem dX24_row_60 : decode cX24_row 60 = .ok (.iconst 1, 1) := dk_4 (dk_at dksX24_row_2 12 rfl rfl)
theorem dX24_row_61 : decode cX24_row 61 = .ok (.iastore, 1) := dk_79 (dk_at dksX24_row_2 13 rfl rfl)
theorem dX24_row_62 : decode cX24_row 62 = .ok (.aload_n 0, 1) := dk_42 (dk_at dksX24_row_2 14 rfl rfl)
theorem dX24_row_63 : decode cX24_row 63 = .ok (.getfield 69, 3) := dk_180 0 69 (dk_at dksX24_row_2 15 rfl rfl)
theorem dX24_row_66 : decode cX24_row 66 = .ok (.iload_n 1, 1) := dk_27 (dk_at dksX24_row_2 18 rfl rfl)
theorem dX24_row_67 : decode cX24_row 67 = .ok (.iload_n 2, 1) := dk_28 (dk_at dksX24_row_2 19 rfl rfl)
theorem dX24_row_68 : decode cX24_row 68 = .ok (.iastore, 1) := dk_79 (dk_at dksX24_row_2 20 rfl rfl)
theorem dX24_row_69 : decode cX24_row 69 = .ok (.aload_n 0, 1) := dk_42 (dk_at dksX24_row_2 21 rfl rfl)
theorem dX24_row_70 : decode cX24_row 70 = .ok (.getfield 72, 3) := dk_180 0 72 (dk_at dksX24_row_3 0 rfl rfl)
theorem dX24_row_73 : decode cX24_row 73 = .ok (.iload_n 1, 1) := dk_27 (dk_at dksX24_row_3 3 rfl rfl)
theorem dX24_row_74 : decode cX24_row 74 = .ok (.iload_n 3, 1) := dk_29 (dk_at dksX24_row_3 4 rfl rfl)
theorem dX24_row_75 : decode cX24_row 75 = .ok (.iastore, 1) := dk_79 (dk_at dksX24_row_3 5 rfl rfl)
theorem dX24_row_76 : decode cX24_row 76 = .ok (.iconst 0, 1) := dk_3 (dk_at dksX24_row_3 6 rfl rfl)
theorem dX24_row_77 : decode cX24_row 77 = .ok (.istore 4, 2) := dk_54 4 (dk_at dksX24_row_3 7 rfl rfl)
theorem dX24_row_79 : decode cX24_row 79 = .ok (.iload 4, 2) := dk_21 4 (dk_at dksX24_row_3 9 rfl rfl)
theorem dX24_row_81 : decode cX24_row 81 = .ok (.sipush 160, 3) := dk_17 0 160 (dk_at dksX24_row_3 11 rfl rfl)
theorem dX24_row_84 : decode cX24_row 84 = .ok (.if_icmp .ge 23, 3) := dk_162 0 23 (dk_at dksX24_row_3 14 rfl rfl)
theorem dX24_row_87 : decode cX24_row 87 = .ok (.aload_n 0, 1) := dk_42 (dk_at dksX24_row_3 17 rfl rfl)
theorem dX24_row_88 : decode cX24_row 88 = .ok (.getfield 78, 3) := dk_180 0 78 (dk_at dksX24_row_3 18 rfl rfl)
theorem dX24_row_91 : decode cX24_row 91 = .ok (.sipush 160, 3) := dk_17 0 160 (dk_at dksX24_row_3 21 rfl rfl)
theorem dX24_row_94 : decode cX24_row 94 = .ok (.iload_n 1, 1) := dk_27 (dk_at dksX24_row_4 0 rfl rfl)
theorem dX24_row_95 : decode cX24_row 95 = .ok (.imul, 1) := dk_104 (dk_at dksX24_row_4 1 rfl rfl)
theorem dX24_row_96 : decode cX24_row 96 = .ok (.iload 4, 2) := dk_21 4 (dk_at dksX24_row_4 2 rfl rfl)
theorem dX24_row_98 : decode cX24_row 98 = .ok (.iadd, 1) := dk_96 (dk_at dksX24_row_4 4 rfl rfl)
theorem dX24_row_99 : decode cX24_row 99 = .ok (.lconst 0, 1) := dk_9 (dk_at dksX24_row_4 5 rfl rfl)
theorem dX24_row_100 : decode cX24_row 100 = .ok (.lastore, 1) := dk_80 (dk_at dksX24_row_4 6 rfl rfl)
theorem dX24_row_101 : decode cX24_row 101 = .ok (.iinc 4 1, 3) := dk_132 4 1 (dk_at dksX24_row_4 7 rfl rfl)
theorem dX24_row_104 : decode cX24_row 104 = .ok (.goto (-25), 3) := dk_167 255 231 (dk_at dksX24_row_4 10 rfl rfl)
theorem dX24_row_107 : decode cX24_row 107 = .ok (.iconst 1, 1) := dk_4 (dk_at dksX24_row_4 13 rfl rfl)
theorem dX24_row_108 : decode cX24_row 108 = .ok (.ireturn, 1) := dk_172 (dk_at dksX24_row_4 14 rfl rfl)
abbrev cX24_isShelf : ByteArray := prog_53_method_4_code
def yX24_isShelf : MethodName := ⟨RX24, "isShelf", "(I)Z"⟩
def dkwX24_isShelf_0 : List UInt8 := [27, 155, 0, 13, 27, 16, 8, 162, 0, 7, 4, 167, 0, 4, 3, 172]
abbrev dktX24_isShelf_0 : List UInt8 := dkwX24_isShelf_0 ++ []
theorem dksX24_isShelf_0 : cX24_isShelf.data.toList.drop 0 = dktX24_isShelf_0 := by decide +kernel
theorem dX24_isShelf_0 : decode cX24_isShelf 0 = .ok (.iload_n 1, 1) := dk_27 (dk_at dksX24_isShelf_0 0 rfl rfl)
theorem dX24_isShelf_1 : decode cX24_isShelf 1 = .ok (.ifCond .lt 13, 3) := dk_155 0 13 (dk_at dksX24_isShelf_0 1 rfl rfl)
theorem dX24_isShelf_4 : decode cX24_isShelf 4 = .ok (.iload_n 1, 1) := dk_27 (dk_at dksX24_isShelf_0 4 rfl rfl)
theorem dX24_isShelf_5 : decode cX24_isShelf 5 = .ok (.bipush 8, 2) := dk_16 8 (dk_at dksX24_isShelf_0 5 rfl rfl)
theorem dX24_isShelf_7 : decode cX24_isShelf 7 = .ok (.if_icmp .ge 7, 3) := dk_162 0 7 (dk_at dksX24_isShelf_0 7 rfl rfl)
theorem dX24_isShelf_10 : decode cX24_isShelf 10 = .ok (.iconst 1, 1) := dk_4 (dk_at dksX24_isShelf_0 10 rfl rfl)
theorem dX24_isShelf_11 : decode cX24_isShelf 11 = .ok (.goto 4, 3) := dk_167 0 4 (dk_at dksX24_isShelf_0 11 rfl rfl)
theorem dX24_isShelf_14 : decode cX24_isShelf 14 = .ok (.iconst 0, 1) := dk_3 (dk_at dksX24_isShelf_0 14 rfl rfl)
theorem dX24_isShelf_15 : decode cX24_isShelf 15 = .ok (.ireturn, 1) := dk_172 (dk_at dksX24_isShelf_0 15 rfl rfl)
abbrev cX24_no : ByteArray := prog_53_method_2_code
def yX24_no : MethodName := ⟨RX24, "no", "(I)I"⟩
def dkwX24_no_0 : List UInt8 := [42, 180, 0, 19, 27, 116, 92, 46, 4, 96, 79, 27, 172]
abbrev dktX24_no_0 : List UInt8 := dkwX24_no_0 ++ []
theorem dksX24_no_0 : cX24_no.data.toList.drop 0 = dktX24_no_0 := by decide +kernel
theorem dX24_no_0 : decode cX24_no 0 = .ok (.aload_n 0, 1) := dk_42 (dk_at dksX24_no_0 0 rfl rfl)
theorem dX24_no_1 : decode cX24_no 1 = .ok (.getfield 19, 3) := dk_180 0 19 (dk_at dksX24_no_0 1 rfl rfl)
theorem dX24_no_4 : decode cX24_no 4 = .ok (.iload_n 1, 1) := dk_27 (dk_at dksX24_no_0 4 rfl rfl)
theorem dX24_no_5 : decode cX24_no 5 = .ok (.ineg, 1) := dk_116 (dk_at dksX24_no_0 5 rfl rfl)
theorem dX24_no_6 : decode cX24_no 6 = .ok (.dup2, 1) := dk_92 (dk_at dksX24_no_0 6 rfl rfl)
theorem dX24_no_7 : decode cX24_no 7 = .ok (.iaload, 1) := dk_46 (dk_at dksX24_no_0 7 rfl rfl)
theorem dX24_no_8 : decode cX24_no 8 = .ok (.iconst 1, 1) := dk_4 (dk_at dksX24_no_0 8 rfl rfl)
theorem dX24_no_9 : decode cX24_no 9 = .ok (.iadd, 1) := dk_96 (dk_at dksX24_no_0 9 rfl rfl)
theorem dX24_no_10 : decode cX24_no 10 = .ok (.iastore, 1) := dk_79 (dk_at dksX24_no_0 10 rfl rfl)
theorem dX24_no_11 : decode cX24_no 11 = .ok (.iload_n 1, 1) := dk_27 (dk_at dksX24_no_0 11 rfl rfl)
theorem dX24_no_12 : decode cX24_no 12 = .ok (.ireturn, 1) := dk_172 (dk_at dksX24_no_0 12 rfl rfl)
abbrev cX24_set : ByteArray := prog_53_method_10_code
def yX24_set : MethodName := ⟨RX24, "set", "(IIJ)I"⟩
def dkwX24_set_3 : List UInt8 := [182, 0, 210, 4, 172]
abbrev dktX24_set_3 : List UInt8 := dkwX24_set_3 ++ []
def dkwX24_set_2 : List UInt8 := [155, 0, 13, 28, 42, 180, 0, 72, 27, 46, 161, 0, 10, 42, 16, 251, 182, 0, 206, 172, 42, 27, 28, 33]
abbrev dktX24_set_2 : List UInt8 := dkwX24_set_2 ++ dktX24_set_3
def dkwX24_set_1 : List UInt8 := [42, 16, 254, 182, 0, 206, 172, 42, 180, 0, 66, 27, 46, 154, 0, 10, 42, 16, 253, 182, 0, 206, 172, 28]
abbrev dktX24_set_1 : List UInt8 := dkwX24_set_1 ++ dktX24_set_2
def dkwX24_set_0 : List UInt8 := [42, 27, 182, 0, 202, 154, 0, 9, 42, 2, 182, 0, 206, 172, 42, 180, 0, 66, 27, 46, 5, 160, 0, 10]
abbrev dktX24_set_0 : List UInt8 := dkwX24_set_0 ++ dktX24_set_1
theorem dksX24_set_0 : cX24_set.data.toList.drop 0 = dktX24_set_0 := by decide +kernel
theorem dksX24_set_1 : cX24_set.data.toList.drop 24 = dktX24_set_1 := dk_seg dksX24_set_0 24 rfl rfl
theorem dksX24_set_2 : cX24_set.data.toList.drop 48 = dktX24_set_2 := dk_seg dksX24_set_1 24 rfl rfl
theorem dksX24_set_3 : cX24_set.data.toList.drop 72 = dktX24_set_3 := dk_seg dksX24_set_2 24 rfl rfl
theorem dX24_set_0 : decode cX24_set 0 = .ok (.aload_n 0, 1) := dk_42 (dk_at dksX24_set_0 0 rfl rfl)
theorem dX24_set_1 : decode cX24_set 1 = .ok (.iload_n 1, 1) := dk_27 (dk_at dksX24_set_0 1 rfl rfl)
theorem dX24_set_2 : decode cX24_set 2 = .ok (.invokevirtual 202, 3) := dk_182 0 202 (dk_at dksX24_set_0 2 rfl rfl)
theorem dX24_set_5 : decode cX24_set 5 = .ok (.ifCond .ne 9, 3) := dk_154 0 9 (dk_at dksX24_set_0 5 rfl rfl)
theorem dX24_set_8 : decode cX24_set 8 = .ok (.aload_n 0, 1) := dk_42 (dk_at dksX24_set_0 8 rfl rfl)
theorem dX24_set_9 : decode cX24_set 9 = .ok (.iconst (-1), 1) := dk_2 (dk_at dksX24_set_0 9 rfl rfl)
theorem dX24_set_10 : decode cX24_set 10 = .ok (.invokevirtual 206, 3) := dk_182 0 206 (dk_at dksX24_set_0 10 rfl rfl)
theorem dX24_set_13 : decode cX24_set 13 = .ok (.ireturn, 1) := dk_172 (dk_at dksX24_set_0 13 rfl rfl)
theorem dX24_set_14 : decode cX24_set 14 = .ok (.aload_n 0, 1) := dk_42 (dk_at dksX24_set_0 14 rfl rfl)
theorem dX24_set_15 : decode cX24_set 15 = .ok (.getfield 66, 3) := dk_180 0 66 (dk_at dksX24_set_0 15 rfl rfl)
theorem dX24_set_18 : decode cX24_set 18 = .ok (.iload_n 1, 1) := dk_27 (dk_at dksX24_set_0 18 rfl rfl)
theorem dX24_set_19 : decode cX24_set 19 = .ok (.iaload, 1) := dk_46 (dk_at dksX24_set_0 19 rfl rfl)
theorem dX24_set_20 : decode cX24_set 20 = .ok (.iconst 2, 1) := dk_5 (dk_at dksX24_set_0 20 rfl rfl)
theorem dX24_set_21 : decode cX24_set 21 = .ok (.if_icmp .ne 10, 3) := dk_160 0 10 (dk_at dksX24_set_0 21 rfl rfl)
theorem dX24_set_24 : decode cX24_set 24 = .ok (.aload_n 0, 1) := dk_42 (dk_at dksX24_set_1 0 rfl rfl)
theorem dX24_set_25 : decode cX24_set 25 = .ok (.bipush (-2), 2) := dk_16 254 (dk_at dksX24_set_1 1 rfl rfl)
theorem dX24_set_27 : decode cX24_set 27 = .ok (.invokevirtual 206, 3) := dk_182 0 206 (dk_at dksX24_set_1 3 rfl rfl)
theorem dX24_set_30 : decode cX24_set 30 = .ok (.ireturn, 1) := dk_172 (dk_at dksX24_set_1 6 rfl rfl)
theorem dX24_set_31 : decode cX24_set 31 = .ok (.aload_n 0, 1) := dk_42 (dk_at dksX24_set_1 7 rfl rfl)
theorem dX24_set_32 : decode cX24_set 32 = .ok (.getfield 66, 3) := dk_180 0 66 (dk_at dksX24_set_1 8 rfl rfl)
theorem dX24_set_35 : decode cX24_set 35 = .ok (.iload_n 1, 1) := dk_27 (dk_at dksX24_set_1 11 rfl rfl)
theorem dX24_set_36 : decode cX24_set 36 = .ok (.iaload, 1) := dk_46 (dk_at dksX24_set_1 12 rfl rfl)
theorem dX24_set_37 : decode cX24_set 37 = .ok (.ifCond .ne 10, 3) := dk_154 0 10 (dk_at dksX24_set_1 13 rfl rfl)
theorem dX24_set_40 : decode cX24_set 40 = .ok (.aload_n 0, 1) := dk_42 (dk_at dksX24_set_1 16 rfl rfl)
theorem dX24_set_41 : decode cX24_set 41 = .ok (.bipush (-3), 2) := dk_16 253 (dk_at dksX24_set_1 17 rfl rfl)
theorem dX24_set_43 : decode cX24_set 43 = .ok (.invokevirtual 206, 3) := dk_182 0 206 (dk_at dksX24_set_1 19 rfl rfl)
theorem dX24_set_46 : decode cX24_set 46 = .ok (.ireturn, 1) := dk_172 (dk_at dksX24_set_1 22 rfl rfl)
theorem dX24_set_47 : decode cX24_set 47 = .ok (.iload_n 2, 1) := dk_28 (dk_at dksX24_set_1 23 rfl rfl)
theorem dX24_set_48 : decode cX24_set 48 = .ok (.ifCond .lt 13, 3) := dk_155 0 13 (dk_at dksX24_set_2 0 rfl rfl)
theorem dX24_set_51 : decode cX24_set 51 = .ok (.iload_n 2, 1) := dk_28 (dk_at dksX24_set_2 3 rfl rfl)
theorem dX24_set_52 : decode cX24_set 52 = .ok (.aload_n 0, 1) := dk_42 (dk_at dksX24_set_2 4 rfl rfl)
theorem dX24_set_53 : decode cX24_set 53 = .ok (.getfield 72, 3) := dk_180 0 72 (dk_at dksX24_set_2 5 rfl rfl)
theorem dX24_set_56 : decode cX24_set 56 = .ok (.iload_n 1, 1) := dk_27 (dk_at dksX24_set_2 8 rfl rfl)
theorem dX24_set_57 : decode cX24_set 57 = .ok (.iaload, 1) := dk_46 (dk_at dksX24_set_2 9 rfl rfl)
theorem dX24_set_58 : decode cX24_set 58 = .ok (.if_icmp .lt 10, 3) := dk_161 0 10 (dk_at dksX24_set_2 10 rfl rfl)
theorem dX24_set_61 : decode cX24_set 61 = .ok (.aload_n 0, 1) := dk_42 (dk_at dksX24_set_2 13 rfl rfl)
theorem dX24_set_62 : decode cX24_set 62 = .ok (.bipush (-5), 2) := dk_16 251 (dk_at dksX24_set_2 14 rfl rfl)
theorem dX24_set_64 : decode cX24_set 64 = .ok (.invokevirtual 206, 3) := dk_182 0 206 (dk_at dksX24_set_2 16 rfl rfl)
theorem dX24_set_67 : decode cX24_set 67 = .ok (.ireturn, 1) := dk_172 (dk_at dksX24_set_2 19 rfl rfl)
theorem dX24_set_68 : decode cX24_set 68 = .ok (.aload_n 0, 1) := dk_42 (dk_at dksX24_set_2 20 rfl rfl)
theorem dX24_set_69 : decode cX24_set 69 = .ok (.iload_n 1, 1) := dk_27 (dk_at dksX24_set_2 21 rfl rfl)
theorem dX24_set_70 : decode cX24_set 70 = .ok (.iload_n 2, 1) := dk_28 (dk_at dksX24_set_2 22 rfl rfl)
theorem dX24_set_71 : decode cX24_set 71 = .ok (.lload_n 3, 1) := dk_33 (dk_at dksX24_set_2 23 rfl rfl)
theorem dX24_set_72 : decode cX24_set 72 = .ok (.invokevirtual 210, 3) := dk_182 0 210 (dk_at dksX24_set_3 0 rfl rfl)
theorem dX24_set_75 : decode cX24_set 75 = .ok (.iconst 1, 1) := dk_4 (dk_at dksX24_set_3 3 rfl rfl)
theorem dX24_set_76 : decode cX24_set 76 = .ok (.ireturn, 1) := dk_172 (dk_at dksX24_set_3 4 rfl rfl)
abbrev cX24_puts : ByteArray := prog_53_method_9_code
def yX24_puts : MethodName := ⟨RX24, "puts", "(IIJ)V"⟩
def dkwX24_puts_2 : List UInt8 := [27, 46, 5, 160, 0, 9, 33, 136, 133, 167, 0, 4, 33, 80, 177]
abbrev dktX24_puts_2 : List UInt8 := dkwX24_puts_2 ++ []
def dkwX24_puts_1 : List UInt8 := [167, 0, 37, 42, 180, 0, 69, 27, 46, 4, 160, 0, 10, 33, 136, 147, 133, 167, 0, 20, 42, 180, 0, 69]
abbrev dktX24_puts_1 : List UInt8 := dkwX24_puts_1 ++ dktX24_puts_2
def dkwX24_puts_0 : List UInt8 := [42, 180, 0, 78, 17, 0, 160, 27, 104, 28, 96, 42, 180, 0, 69, 27, 46, 154, 0, 10, 33, 136, 145, 133]
abbrev dktX24_puts_0 : List UInt8 := dkwX24_puts_0 ++ dktX24_puts_1
theorem dksX24_puts_0 : cX24_puts.data.toList.drop 0 = dktX24_puts_0 := by decide +kernel
theorem dksX24_puts_1 : cX24_puts.data.toList.drop 24 = dktX24_puts_1 := dk_seg dksX24_puts_0 24 rfl rfl
theorem dksX24_puts_2 : cX24_puts.data.toList.drop 48 = dktX24_puts_2 := dk_seg dksX24_puts_1 24 rfl rfl
theorem dX24_puts_0 : decode cX24_puts 0 = .ok (.aload_n 0, 1) := dk_42 (dk_at dksX24_puts_0 0 rfl rfl)
theorem dX24_puts_1 : decode cX24_puts 1 = .ok (.getfield 78, 3) := dk_180 0 78 (dk_at dksX24_puts_0 1 rfl rfl)
theorem dX24_puts_4 : decode cX24_puts 4 = .ok (.sipush 160, 3) := dk_17 0 160 (dk_at dksX24_puts_0 4 rfl rfl)
theorem dX24_puts_7 : decode cX24_puts 7 = .ok (.iload_n 1, 1) := dk_27 (dk_at dksX24_puts_0 7 rfl rfl)
theorem dX24_puts_8 : decode cX24_puts 8 = .ok (.imul, 1) := dk_104 (dk_at dksX24_puts_0 8 rfl rfl)
theorem dX24_puts_9 : decode cX24_puts 9 = .ok (.iload_n 2, 1) := dk_28 (dk_at dksX24_puts_0 9 rfl rfl)
theorem dX24_puts_10 : decode cX24_puts 10 = .ok (.iadd, 1) := dk_96 (dk_at dksX24_puts_0 10 rfl rfl)
theorem dX24_puts_11 : decode cX24_puts 11 = .ok (.aload_n 0, 1) := dk_42 (dk_at dksX24_puts_0 11 rfl rfl)
theorem dX24_puts_12 : decode cX24_puts 12 = .ok (.getfield 69, 3) := dk_180 0 69 (dk_at dksX24_puts_0 12 rfl rfl)
theorem dX24_puts_15 : decode cX24_puts 15 = .ok (.iload_n 1, 1) := dk_27 (dk_at dksX24_puts_0 15 rfl rfl)
theorem dX24_puts_16 : decode cX24_puts 16 = .ok (.iaload, 1) := dk_46 (dk_at dksX24_puts_0 16 rfl rfl)
theorem dX24_puts_17 : decode cX24_puts 17 = .ok (.ifCond .ne 10, 3) := dk_154 0 10 (dk_at dksX24_puts_0 17 rfl rfl)
theorem dX24_puts_20 : decode cX24_puts 20 = .ok (.lload_n 3, 1) := dk_33 (dk_at dksX24_puts_0 20 rfl rfl)
theorem dX24_puts_21 : decode cX24_puts 21 = .ok (.l2i, 1) := dk_136 (dk_at dksX24_puts_0 21 rfl rfl)
theorem dX24_puts_22 : decode cX24_puts 22 = .ok (.i2b, 1) := dk_145 (dk_at dksX24_puts_0 22 rfl rfl)
theorem dX24_puts_23 : decode cX24_puts 23 = .ok (.i2l, 1) := dk_133 (dk_at dksX24_puts_0 23 rfl rfl)
theorem dX24_puts_24 : decode cX24_puts 24 = .ok (.goto 37, 3) := dk_167 0 37 (dk_at dksX24_puts_1 0 rfl rfl)
theorem dX24_puts_27 : decode cX24_puts 27 = .ok (.aload_n 0, 1) := dk_42 (dk_at dksX24_puts_1 3 rfl rfl)
theorem dX24_puts_28 : decode cX24_puts 28 = .ok (.getfield 69, 3) := dk_180 0 69 (dk_at dksX24_puts_1 4 rfl rfl)
theorem dX24_puts_31 : decode cX24_puts 31 = .ok (.iload_n 1, 1) := dk_27 (dk_at dksX24_puts_1 7 rfl rfl)
theorem dX24_puts_32 : decode cX24_puts 32 = .ok (.iaload, 1) := dk_46 (dk_at dksX24_puts_1 8 rfl rfl)
theorem dX24_puts_33 : decode cX24_puts 33 = .ok (.iconst 1, 1) := dk_4 (dk_at dksX24_puts_1 9 rfl rfl)
theorem dX24_puts_34 : decode cX24_puts 34 = .ok (.if_icmp .ne 10, 3) := dk_160 0 10 (dk_at dksX24_puts_1 10 rfl rfl)
theorem dX24_puts_37 : decode cX24_puts 37 = .ok (.lload_n 3, 1) := dk_33 (dk_at dksX24_puts_1 13 rfl rfl)
theorem dX24_puts_38 : decode cX24_puts 38 = .ok (.l2i, 1) := dk_136 (dk_at dksX24_puts_1 14 rfl rfl)
theorem dX24_puts_39 : decode cX24_puts 39 = .ok (.i2s, 1) := dk_147 (dk_at dksX24_puts_1 15 rfl rfl)
theorem dX24_puts_40 : decode cX24_puts 40 = .ok (.i2l, 1) := dk_133 (dk_at dksX24_puts_1 16 rfl rfl)
theorem dX24_puts_41 : decode cX24_puts 41 = .ok (.goto 20, 3) := dk_167 0 20 (dk_at dksX24_puts_1 17 rfl rfl)
theorem dX24_puts_44 : decode cX24_puts 44 = .ok (.aload_n 0, 1) := dk_42 (dk_at dksX24_puts_1 20 rfl rfl)
theorem dX24_puts_45 : decode cX24_puts 45 = .ok (.getfield 69, 3) := dk_180 0 69 (dk_at dksX24_puts_1 21 rfl rfl)
theorem dX24_puts_48 : decode cX24_puts 48 = .ok (.iload_n 1, 1) := dk_27 (dk_at dksX24_puts_2 0 rfl rfl)
theorem dX24_puts_49 : decode cX24_puts 49 = .ok (.iaload, 1) := dk_46 (dk_at dksX24_puts_2 1 rfl rfl)
theorem dX24_puts_50 : decode cX24_puts 50 = .ok (.iconst 2, 1) := dk_5 (dk_at dksX24_puts_2 2 rfl rfl)
theorem dX24_puts_51 : decode cX24_puts 51 = .ok (.if_icmp .ne 9, 3) := dk_160 0 9 (dk_at dksX24_puts_2 3 rfl rfl)
theorem dX24_puts_54 : decode cX24_puts 54 = .ok (.lload_n 3, 1) := dk_33 (dk_at dksX24_puts_2 6 rfl rfl)
theorem dX24_puts_55 : decode cX24_puts 55 = .ok (.l2i, 1) := dk_136 (dk_at dksX24_puts_2 7 rfl rfl)
theorem dX24_puts_56 : decode cX24_puts 56 = .ok (.i2l, 1) := dk_133 (dk_at dksX24_puts_2 8 rfl rfl)
theorem dX24_puts_57 : decode cX24_puts 57 = .ok (.goto 4, 3) := dk_167 0 4 (dk_at dksX24_puts_2 9 rfl rfl)
theorem dX24_puts_60 : decode cX24_puts 60 = .ok (.lload_n 3, 1) := dk_33 (dk_at dksX24_puts_2 12 rfl rfl)
theorem dX24_puts_61 : decode cX24_puts 61 = .ok (.lastore, 1) := dk_80 (dk_at dksX24_puts_2 13 rfl rfl)
theorem dX24_puts_62 : decode cX24_puts 62 = .ok (.return_, 1) := dk_177 (dk_at dksX24_puts_2 14 rfl rfl)
abbrev cX24_copy : ByteArray := prog_53_method_11_code
def yX24_copy : MethodName := ⟨RX24, "copy", "(IIIII)I"⟩
def dkwX24_copy_10 : List UInt8 := [132, 6, 1, 167, 255, 223, 4, 172]
abbrev dktX24_copy_10 : List UInt8 := dkwX24_copy_10 ++ []
def dkwX24_copy_9 : List UInt8 := [42, 180, 0, 78, 17, 0, 160, 28, 104, 21, 4, 96, 21, 6, 96, 42, 180, 0, 82, 21, 6, 47, 80]
abbrev dktX24_copy_9 : List UInt8 := dkwX24_copy_9 ++ dktX24_copy_10
def dkwX24_copy_8 : List UInt8 := [104, 29, 96, 21, 6, 96, 47, 80, 132, 6, 1, 167, 255, 224, 3, 54, 6, 21, 6, 21, 5, 162, 0, 32]
abbrev dktX24_copy_8 : List UInt8 := dkwX24_copy_8 ++ dktX24_copy_9
def dkwX24_copy_7 : List UInt8 := [3, 54, 6, 21, 6, 21, 5, 162, 0, 31, 42, 180, 0, 82, 21, 6, 42, 180, 0, 78, 17, 0, 160, 27]
abbrev dktX24_copy_7 : List UInt8 := dkwX24_copy_7 ++ dktX24_copy_8
def dkwX24_copy_6 : List UInt8 := [163, 0, 17, 21, 4, 42, 180, 0, 72, 28, 46, 21, 5, 100, 164, 0, 10, 42, 16, 251, 182, 0, 206, 172]
abbrev dktX24_copy_6 : List UInt8 := dkwX24_copy_6 ++ dktX24_copy_7
def dkwX24_copy_5 : List UInt8 := [182, 0, 206, 172, 29, 155, 0, 35, 21, 4, 155, 0, 30, 29, 42, 180, 0, 72, 27, 46, 21, 5, 100]
abbrev dktX24_copy_5 : List UInt8 := dkwX24_copy_5 ++ dktX24_copy_6
def dkwX24_copy_4 : List UInt8 := [42, 180, 0, 66, 28, 46, 154, 0, 10, 42, 16, 253, 182, 0, 206, 172, 21, 5, 156, 0, 10, 42, 16, 252]
abbrev dktX24_copy_4 : List UInt8 := dkwX24_copy_4 ++ dktX24_copy_5
def dkwX24_copy_3 : List UInt8 := [180, 0, 69, 28, 46, 159, 0, 10, 42, 16, 254, 182, 0, 206, 172, 42, 180, 0, 66, 27, 46, 153, 0, 12]
abbrev dktX24_copy_3 : List UInt8 := dkwX24_copy_3 ++ dktX24_copy_4
def dkwX24_copy_2 : List UInt8 := [46, 4, 160, 0, 35, 42, 180, 0, 66, 28, 46, 4, 160, 0, 25, 42, 180, 0, 69, 27, 46, 42]
abbrev dktX24_copy_2 : List UInt8 := dkwX24_copy_2 ++ dktX24_copy_3
def dkwX24_copy_1 : List UInt8 := [180, 0, 66, 27, 46, 5, 159, 0, 48, 42, 180, 0, 66, 28, 46, 5, 159, 0, 38, 42, 180, 0, 66, 27]
abbrev dktX24_copy_1 : List UInt8 := dkwX24_copy_1 ++ dktX24_copy_2
def dkwX24_copy_0 : List UInt8 := [42, 27, 182, 0, 202, 153, 0, 11, 42, 28, 182, 0, 202, 154, 0, 9, 42, 2, 182, 0, 206, 172, 42]
abbrev dktX24_copy_0 : List UInt8 := dkwX24_copy_0 ++ dktX24_copy_1
theorem dksX24_copy_0 : cX24_copy.data.toList.drop 0 = dktX24_copy_0 := by decide +kernel
theorem dksX24_copy_1 : cX24_copy.data.toList.drop 23 = dktX24_copy_1 := dk_seg dksX24_copy_0 23 rfl rfl
theorem dksX24_copy_2 : cX24_copy.data.toList.drop 47 = dktX24_copy_2 := dk_seg dksX24_copy_1 24 rfl rfl
theorem dksX24_copy_3 : cX24_copy.data.toList.drop 69 = dktX24_copy_3 := dk_seg dksX24_copy_2 22 rfl rfl
theorem dksX24_copy_4 : cX24_copy.data.toList.drop 93 = dktX24_copy_4 := dk_seg dksX24_copy_3 24 rfl rfl
theorem dksX24_copy_5 : cX24_copy.data.toList.drop 117 = dktX24_copy_5 := dk_seg dksX24_copy_4 24 rfl rfl
theorem dksX24_copy_6 : cX24_copy.data.toList.drop 140 = dktX24_copy_6 := dk_seg dksX24_copy_5 23 rfl rfl
theorem dksX24_copy_7 : cX24_copy.data.toList.drop 164 = dktX24_copy_7 := dk_seg dksX24_copy_6 24 rfl rfl
theorem dksX24_copy_8 : cX24_copy.data.toList.drop 188 = dktX24_copy_8 := dk_seg dksX24_copy_7 24 rfl rfl
theorem dksX24_copy_9 : cX24_copy.data.toList.drop 212 = dktX24_copy_9 := dk_seg dksX24_copy_8 24 rfl rfl
theorem dksX24_copy_10 : cX24_copy.data.toList.drop 235 = dktX24_copy_10 := dk_seg dksX24_copy_9 23 rfl rfl
theorem dX24_copy_0 : decode cX24_copy 0 = .ok (.aload_n 0, 1) := dk_42 (dk_at dksX24_copy_0 0 rfl rfl)
theorem dX24_copy_1 : decode cX24_copy 1 = .ok (.iload_n 1, 1) := dk_27 (dk_at dksX24_copy_0 1 rfl rfl)
theorem dX24_copy_2 : decode cX24_copy 2 = .ok (.invokevirtual 202, 3) := dk_182 0 202 (dk_at dksX24_copy_0 2 rfl rfl)
theorem dX24_copy_5 : decode cX24_copy 5 = .ok (.ifCond .eq 11, 3) := dk_153 0 11 (dk_at dksX24_copy_0 5 rfl rfl)
theorem dX24_copy_8 : decode cX24_copy 8 = .ok (.aload_n 0, 1) := dk_42 (dk_at dksX24_copy_0 8 rfl rfl)
theorem dX24_copy_9 : decode cX24_copy 9 = .ok (.iload_n 2, 1) := dk_28 (dk_at dksX24_copy_0 9 rfl rfl)
theorem dX24_copy_10 : decode cX24_copy 10 = .ok (.invokevirtual 202, 3) := dk_182 0 202 (dk_at dksX24_copy_0 10 rfl rfl)
theorem dX24_copy_13 : decode cX24_copy 13 = .ok (.ifCond .ne 9, 3) := dk_154 0 9 (dk_at dksX24_copy_0 13 rfl rfl)
theorem dX24_copy_16 : decode cX24_copy 16 = .ok (.aload_n 0, 1) := dk_42 (dk_at dksX24_copy_0 16 rfl rfl)
theorem dX24_copy_17 : decode cX24_copy 17 = .ok (.iconst (-1), 1) := dk_2 (dk_at dksX24_copy_0 17 rfl rfl)
theorem dX24_copy_18 : decode cX24_copy 18 = .ok (.invokevirtual 206, 3) := dk_182 0 206 (dk_at dksX24_copy_0 18 rfl rfl)
theorem dX24_copy_21 : decode cX24_copy 21 = .ok (.ireturn, 1) := dk_172 (dk_at dksX24_copy_0 21 rfl rfl)
theorem dX24_copy_22 : decode cX24_copy 22 = .ok (.aload_n 0, 1) := dk_42 (dk_at dksX24_copy_0 22 rfl rfl)
theorem dX24_copy_23 : decode cX24_copy 23 = .ok (.getfield 66, 3) := dk_180 0 66 (dk_at dksX24_copy_1 0 rfl rfl)
theorem dX24_copy_26 : decode cX24_copy 26 = .ok (.iload_n 1, 1) := dk_27 (dk_at dksX24_copy_1 3 rfl rfl)
theorem dX24_copy_27 : decode cX24_copy 27 = .ok (.iaload, 1) := dk_46 (dk_at dksX24_copy_1 4 rfl rfl)
theorem dX24_copy_28 : decode cX24_copy 28 = .ok (.iconst 2, 1) := dk_5 (dk_at dksX24_copy_1 5 rfl rfl)
theorem dX24_copy_29 : decode cX24_copy 29 = .ok (.if_icmp .eq 48, 3) := dk_159 0 48 (dk_at dksX24_copy_1 6 rfl rfl)
theorem dX24_copy_32 : decode cX24_copy 32 = .ok (.aload_n 0, 1) := dk_42 (dk_at dksX24_copy_1 9 rfl rfl)
theorem dX24_copy_33 : decode cX24_copy 33 = .ok (.getfield 66, 3) := dk_180 0 66 (dk_at dksX24_copy_1 10 rfl rfl)
theorem dX24_copy_36 : decode cX24_copy 36 = .ok (.iload_n 2, 1) := dk_28 (dk_at dksX24_copy_1 13 rfl rfl)
theorem dX24_copy_37 : decode cX24_copy 37 = .ok (.iaload, 1) := dk_46 (dk_at dksX24_copy_1 14 rfl rfl)
theorem dX24_copy_38 : decode cX24_copy 38 = .ok (.iconst 2, 1) := dk_5 (dk_at dksX24_copy_1 15 rfl rfl)
theorem dX24_copy_39 : decode cX24_copy 39 = .ok (.if_icmp .eq 38, 3) := dk_159 0 38 (dk_at dksX24_copy_1 16 rfl rfl)
theorem dX24_copy_42 : decode cX24_copy 42 = .ok (.aload_n 0, 1) := dk_42 (dk_at dksX24_copy_1 19 rfl rfl)
theorem dX24_copy_43 : decode cX24_copy 43 = .ok (.getfield 66, 3) := dk_180 0 66 (dk_at dksX24_copy_1 20 rfl rfl)
theorem dX24_copy_46 : decode cX24_copy 46 = .ok (.iload_n 1, 1) := dk_27 (dk_at dksX24_copy_1 23 rfl rfl)
theorem dX24_copy_47 : decode cX24_copy 47 = .ok (.iaload, 1) := dk_46 (dk_at dksX24_copy_2 0 rfl rfl)
theorem dX24_copy_48 : decode cX24_copy 48 = .ok (.iconst 1, 1) := dk_4 (dk_at dksX24_copy_2 1 rfl rfl)
theorem dX24_copy_49 : decode cX24_copy 49 = .ok (.if_icmp .ne 35, 3) := dk_160 0 35 (dk_at dksX24_copy_2 2 rfl rfl)
theorem dX24_copy_52 : decode cX24_copy 52 = .ok (.aload_n 0, 1) := dk_42 (dk_at dksX24_copy_2 5 rfl rfl)
theorem dX24_copy_53 : decode cX24_copy 53 = .ok (.getfield 66, 3) := dk_180 0 66 (dk_at dksX24_copy_2 6 rfl rfl)
theorem dX24_copy_56 : decode cX24_copy 56 = .ok (.iload_n 2, 1) := dk_28 (dk_at dksX24_copy_2 9 rfl rfl)
theorem dX24_copy_57 : decode cX24_copy 57 = .ok (.iaload, 1) := dk_46 (dk_at dksX24_copy_2 10 rfl rfl)
theorem dX24_copy_58 : decode cX24_copy 58 = .ok (.iconst 1, 1) := dk_4 (dk_at dksX24_copy_2 11 rfl rfl)
theorem dX24_copy_59 : decode cX24_copy 59 = .ok (.if_icmp .ne 25, 3) := dk_160 0 25 (dk_at dksX24_copy_2 12 rfl rfl)
theorem dX24_copy_62 : decode cX24_copy 62 = .ok (.aload_n 0, 1) := dk_42 (dk_at dksX24_copy_2 15 rfl rfl)
theorem dX24_copy_63 : decode cX24_copy 63 = .ok (.getfield 69, 3) := dk_180 0 69 (dk_at dksX24_copy_2 16 rfl rfl)
theorem dX24_copy_66 : decode cX24_copy 66 = .ok (.iload_n 1, 1) := dk_27 (dk_at dksX24_copy_2 19 rfl rfl)
theorem dX24_copy_67 : decode cX24_copy 67 = .ok (.iaload, 1) := dk_46 (dk_at dksX24_copy_2 20 rfl rfl)
theorem dX24_copy_68 : decode cX24_copy 68 = .ok (.aload_n 0, 1) := dk_42 (dk_at dksX24_copy_2 21 rfl rfl)
theorem dX24_copy_69 : decode cX24_copy 69 = .ok (.getfield 69, 3) := dk_180 0 69 (dk_at dksX24_copy_3 0 rfl rfl)
theorem dX24_copy_72 : decode cX24_copy 72 = .ok (.iload_n 2, 1) := dk_28 (dk_at dksX24_copy_3 3 rfl rfl)
theorem dX24_copy_73 : decode cX24_copy 73 = .ok (.iaload, 1) := dk_46 (dk_at dksX24_copy_3 4 rfl rfl)
theorem dX24_copy_74 : decode cX24_copy 74 = .ok (.if_icmp .eq 10, 3) := dk_159 0 10 (dk_at dksX24_copy_3 5 rfl rfl)
theorem dX24_copy_77 : decode cX24_copy 77 = .ok (.aload_n 0, 1) := dk_42 (dk_at dksX24_copy_3 8 rfl rfl)
theorem dX24_copy_78 : decode cX24_copy 78 = .ok (.bipush (-2), 2) := dk_16 254 (dk_at dksX24_copy_3 9 rfl rfl)
theorem dX24_copy_80 : decode cX24_copy 80 = .ok (.invokevirtual 206, 3) := dk_182 0 206 (dk_at dksX24_copy_3 11 rfl rfl)
theorem dX24_copy_83 : decode cX24_copy 83 = .ok (.ireturn, 1) := dk_172 (dk_at dksX24_copy_3 14 rfl rfl)
theorem dX24_copy_84 : decode cX24_copy 84 = .ok (.aload_n 0, 1) := dk_42 (dk_at dksX24_copy_3 15 rfl rfl)
theorem dX24_copy_85 : decode cX24_copy 85 = .ok (.getfield 66, 3) := dk_180 0 66 (dk_at dksX24_copy_3 16 rfl rfl)
theorem dX24_copy_88 : decode cX24_copy 88 = .ok (.iload_n 1, 1) := dk_27 (dk_at dksX24_copy_3 19 rfl rfl)
theorem dX24_copy_89 : decode cX24_copy 89 = .ok (.iaload, 1) := dk_46 (dk_at dksX24_copy_3 20 rfl rfl)
theorem dX24_copy_90 : decode cX24_copy 90 = .ok (.ifCond .eq 12, 3) := dk_153 0 12 (dk_at dksX24_copy_3 21 rfl rfl)
theorem dX24_copy_93 : decode cX24_copy 93 = .ok (.aload_n 0, 1) := dk_42 (dk_at dksX24_copy_4 0 rfl rfl)
theorem dX24_copy_94 : decode cX24_copy 94 = .ok (.getfield 66, 3) := dk_180 0 66 (dk_at dksX24_copy_4 1 rfl rfl)
theorem dX24_copy_97 : decode cX24_copy 97 = .ok (.iload_n 2, 1) := dk_28 (dk_at dksX24_copy_4 4 rfl rfl)
theorem dX24_copy_98 : decode cX24_copy 98 = .ok (.iaload, 1) := dk_46 (dk_at dksX24_copy_4 5 rfl rfl)
theorem dX24_copy_99 : decode cX24_copy 99 = .ok (.ifCond .ne 10, 3) := dk_154 0 10 (dk_at dksX24_copy_4 6 rfl rfl)
theorem dX24_copy_102 : decode cX24_copy 102 = .ok (.aload_n 0, 1) := dk_42 (dk_at dksX24_copy_4 9 rfl rfl)
theorem dX24_copy_103 : decode cX24_copy 103 = .ok (.bipush (-3), 2) := dk_16 253 (dk_at dksX24_copy_4 10 rfl rfl)
theorem dX24_copy_105 : decode cX24_copy 105 = .ok (.invokevirtual 206, 3) := dk_182 0 206 (dk_at dksX24_copy_4 12 rfl rfl)
theorem dX24_copy_108 : decode cX24_copy 108 = .ok (.ireturn, 1) := dk_172 (dk_at dksX24_copy_4 15 rfl rfl)
theorem dX24_copy_109 : decode cX24_copy 109 = .ok (.iload 5, 2) := dk_21 5 (dk_at dksX24_copy_4 16 rfl rfl)
theorem dX24_copy_111 : decode cX24_copy 111 = .ok (.ifCond .ge 10, 3) := dk_156 0 10 (dk_at dksX24_copy_4 18 rfl rfl)
theorem dX24_copy_114 : decode cX24_copy 114 = .ok (.aload_n 0, 1) := dk_42 (dk_at dksX24_copy_4 21 rfl rfl)
theorem dX24_copy_115 : decode cX24_copy 115 = .ok (.bipush (-4), 2) := dk_16 252 (dk_at dksX24_copy_4 22 rfl rfl)
theorem dX24_copy_117 : decode cX24_copy 117 = .ok (.invokevirtual 206, 3) := dk_182 0 206 (dk_at dksX24_copy_5 0 rfl rfl)
theorem dX24_copy_120 : decode cX24_copy 120 = .ok (.ireturn, 1) := dk_172 (dk_at dksX24_copy_5 3 rfl rfl)
theorem dX24_copy_121 : decode cX24_copy 121 = .ok (.iload_n 3, 1) := dk_29 (dk_at dksX24_copy_5 4 rfl rfl)
theorem dX24_copy_122 : decode cX24_copy 122 = .ok (.ifCond .lt 35, 3) := dk_155 0 35 (dk_at dksX24_copy_5 5 rfl rfl)
theorem dX24_copy_125 : decode cX24_copy 125 = .ok (.iload 4, 2) := dk_21 4 (dk_at dksX24_copy_5 8 rfl rfl)
theorem dX24_copy_127 : decode cX24_copy 127 = .ok (.ifCond .lt 30, 3) := dk_155 0 30 (dk_at dksX24_copy_5 10 rfl rfl)
theorem dX24_copy_130 : decode cX24_copy 130 = .ok (.iload_n 3, 1) := dk_29 (dk_at dksX24_copy_5 13 rfl rfl)
theorem dX24_copy_131 : decode cX24_copy 131 = .ok (.aload_n 0, 1) := dk_42 (dk_at dksX24_copy_5 14 rfl rfl)
theorem dX24_copy_132 : decode cX24_copy 132 = .ok (.getfield 72, 3) := dk_180 0 72 (dk_at dksX24_copy_5 15 rfl rfl)
theorem dX24_copy_135 : decode cX24_copy 135 = .ok (.iload_n 1, 1) := dk_27 (dk_at dksX24_copy_5 18 rfl rfl)
theorem dX24_copy_136 : decode cX24_copy 136 = .ok (.iaload, 1) := dk_46 (dk_at dksX24_copy_5 19 rfl rfl)
theorem dX24_copy_137 : decode cX24_copy 137 = .ok (.iload 5, 2) := dk_21 5 (dk_at dksX24_copy_5 20 rfl rfl)
theorem dX24_copy_139 : decode cX24_copy 139 = .ok (.isub, 1) := dk_100 (dk_at dksX24_copy_5 22 rfl rfl)
theorem dX24_copy_140 : decode cX24_copy 140 = .ok (.if_icmp .gt 17, 3) := dk_163 0 17 (dk_at dksX24_copy_6 0 rfl rfl)
theorem dX24_copy_143 : decode cX24_copy 143 = .ok (.iload 4, 2) := dk_21 4 (dk_at dksX24_copy_6 3 rfl rfl)
theorem dX24_copy_145 : decode cX24_copy 145 = .ok (.aload_n 0, 1) := dk_42 (dk_at dksX24_copy_6 5 rfl rfl)
theorem dX24_copy_146 : decode cX24_copy 146 = .ok (.getfield 72, 3) := dk_180 0 72 (dk_at dksX24_copy_6 6 rfl rfl)
theorem dX24_copy_149 : decode cX24_copy 149 = .ok (.iload_n 2, 1) := dk_28 (dk_at dksX24_copy_6 9 rfl rfl)
theorem dX24_copy_150 : decode cX24_copy 150 = .ok (.iaload, 1) := dk_46 (dk_at dksX24_copy_6 10 rfl rfl)
theorem dX24_copy_151 : decode cX24_copy 151 = .ok (.iload 5, 2) := dk_21 5 (dk_at dksX24_copy_6 11 rfl rfl)
theorem dX24_copy_153 : decode cX24_copy 153 = .ok (.isub, 1) := dk_100 (dk_at dksX24_copy_6 13 rfl rfl)
theorem dX24_copy_154 : decode cX24_copy 154 = .ok (.if_icmp .le 10, 3) := dk_164 0 10 (dk_at dksX24_copy_6 14 rfl rfl)
theorem dX24_copy_157 : decode cX24_copy 157 = .ok (.aload_n 0, 1) := dk_42 (dk_at dksX24_copy_6 17 rfl rfl)
theorem dX24_copy_158 : decode cX24_copy 158 = .ok (.bipush (-5), 2) := dk_16 251 (dk_at dksX24_copy_6 18 rfl rfl)
theorem dX24_copy_160 : decode cX24_copy 160 = .ok (.invokevirtual 206, 3) := dk_182 0 206 (dk_at dksX24_copy_6 20 rfl rfl)
theorem dX24_copy_163 : decode cX24_copy 163 = .ok (.ireturn, 1) := dk_172 (dk_at dksX24_copy_6 23 rfl rfl)
theorem dX24_copy_164 : decode cX24_copy 164 = .ok (.iconst 0, 1) := dk_3 (dk_at dksX24_copy_7 0 rfl rfl)
theorem dX24_copy_165 : decode cX24_copy 165 = .ok (.istore 6, 2) := dk_54 6 (dk_at dksX24_copy_7 1 rfl rfl)
theorem dX24_copy_167 : decode cX24_copy 167 = .ok (.iload 6, 2) := dk_21 6 (dk_at dksX24_copy_7 3 rfl rfl)
theorem dX24_copy_169 : decode cX24_copy 169 = .ok (.iload 5, 2) := dk_21 5 (dk_at dksX24_copy_7 5 rfl rfl)
theorem dX24_copy_171 : decode cX24_copy 171 = .ok (.if_icmp .ge 31, 3) := dk_162 0 31 (dk_at dksX24_copy_7 7 rfl rfl)
theorem dX24_copy_174 : decode cX24_copy 174 = .ok (.aload_n 0, 1) := dk_42 (dk_at dksX24_copy_7 10 rfl rfl)
theorem dX24_copy_175 : decode cX24_copy 175 = .ok (.getfield 82, 3) := dk_180 0 82 (dk_at dksX24_copy_7 11 rfl rfl)
theorem dX24_copy_178 : decode cX24_copy 178 = .ok (.iload 6, 2) := dk_21 6 (dk_at dksX24_copy_7 14 rfl rfl)
theorem dX24_copy_180 : decode cX24_copy 180 = .ok (.aload_n 0, 1) := dk_42 (dk_at dksX24_copy_7 16 rfl rfl)
theorem dX24_copy_181 : decode cX24_copy 181 = .ok (.getfield 78, 3) := dk_180 0 78 (dk_at dksX24_copy_7 17 rfl rfl)
theorem dX24_copy_184 : decode cX24_copy 184 = .ok (.sipush 160, 3) := dk_17 0 160 (dk_at dksX24_copy_7 20 rfl rfl)
theorem dX24_copy_187 : decode cX24_copy 187 = .ok (.iload_n 1, 1) := dk_27 (dk_at dksX24_copy_7 23 rfl rfl)
theorem dX24_copy_188 : decode cX24_copy 188 = .ok (.imul, 1) := dk_104 (dk_at dksX24_copy_8 0 rfl rfl)
theorem dX24_copy_189 : decode cX24_copy 189 = .ok (.iload_n 3, 1) := dk_29 (dk_at dksX24_copy_8 1 rfl rfl)
theorem dX24_copy_190 : decode cX24_copy 190 = .ok (.iadd, 1) := dk_96 (dk_at dksX24_copy_8 2 rfl rfl)
theorem dX24_copy_191 : decode cX24_copy 191 = .ok (.iload 6, 2) := dk_21 6 (dk_at dksX24_copy_8 3 rfl rfl)
theorem dX24_copy_193 : decode cX24_copy 193 = .ok (.iadd, 1) := dk_96 (dk_at dksX24_copy_8 5 rfl rfl)
theorem dX24_copy_194 : decode cX24_copy 194 = .ok (.laload, 1) := dk_47 (dk_at dksX24_copy_8 6 rfl rfl)
theorem dX24_copy_195 : decode cX24_copy 195 = .ok (.lastore, 1) := dk_80 (dk_at dksX24_copy_8 7 rfl rfl)
theorem dX24_copy_196 : decode cX24_copy 196 = .ok (.iinc 6 1, 3) := dk_132 6 1 (dk_at dksX24_copy_8 8 rfl rfl)
theorem dX24_copy_199 : decode cX24_copy 199 = .ok (.goto (-32), 3) := dk_167 255 224 (dk_at dksX24_copy_8 11 rfl rfl)
theorem dX24_copy_202 : decode cX24_copy 202 = .ok (.iconst 0, 1) := dk_3 (dk_at dksX24_copy_8 14 rfl rfl)
theorem dX24_copy_203 : decode cX24_copy 203 = .ok (.istore 6, 2) := dk_54 6 (dk_at dksX24_copy_8 15 rfl rfl)
theorem dX24_copy_205 : decode cX24_copy 205 = .ok (.iload 6, 2) := dk_21 6 (dk_at dksX24_copy_8 17 rfl rfl)
theorem dX24_copy_207 : decode cX24_copy 207 = .ok (.iload 5, 2) := dk_21 5 (dk_at dksX24_copy_8 19 rfl rfl)
theorem dX24_copy_209 : decode cX24_copy 209 = .ok (.if_icmp .ge 32, 3) := dk_162 0 32 (dk_at dksX24_copy_8 21 rfl rfl)
theorem dX24_copy_212 : decode cX24_copy 212 = .ok (.aload_n 0, 1) := dk_42 (dk_at dksX24_copy_9 0 rfl rfl)
theorem dX24_copy_213 : decode cX24_copy 213 = .ok (.getfield 78, 3) := dk_180 0 78 (dk_at dksX24_copy_9 1 rfl rfl)
theorem dX24_copy_216 : decode cX24_copy 216 = .ok (.sipush 160, 3) := dk_17 0 160 (dk_at dksX24_copy_9 4 rfl rfl)
theorem dX24_copy_219 : decode cX24_copy 219 = .ok (.iload_n 2, 1) := dk_28 (dk_at dksX24_copy_9 7 rfl rfl)
theorem dX24_copy_220 : decode cX24_copy 220 = .ok (.imul, 1) := dk_104 (dk_at dksX24_copy_9 8 rfl rfl)
theorem dX24_copy_221 : decode cX24_copy 221 = .ok (.iload 4, 2) := dk_21 4 (dk_at dksX24_copy_9 9 rfl rfl)
theorem dX24_copy_223 : decode cX24_copy 223 = .ok (.iadd, 1) := dk_96 (dk_at dksX24_copy_9 11 rfl rfl)
theorem dX24_copy_224 : decode cX24_copy 224 = .ok (.iload 6, 2) := dk_21 6 (dk_at dksX24_copy_9 12 rfl rfl)
theorem dX24_copy_226 : decode cX24_copy 226 = .ok (.iadd, 1) := dk_96 (dk_at dksX24_copy_9 14 rfl rfl)
theorem dX24_copy_227 : decode cX24_copy 227 = .ok (.aload_n 0, 1) := dk_42 (dk_at dksX24_copy_9 15 rfl rfl)
theorem dX24_copy_228 : decode cX24_copy 228 = .ok (.getfield 82, 3) := dk_180 0 82 (dk_at dksX24_copy_9 16 rfl rfl)
theorem dX24_copy_231 : decode cX24_copy 231 = .ok (.iload 6, 2) := dk_21 6 (dk_at dksX24_copy_9 19 rfl rfl)
theorem dX24_copy_233 : decode cX24_copy 233 = .ok (.laload, 1) := dk_47 (dk_at dksX24_copy_9 21 rfl rfl)
theorem dX24_copy_234 : decode cX24_copy 234 = .ok (.lastore, 1) := dk_80 (dk_at dksX24_copy_9 22 rfl rfl)
theorem dX24_copy_235 : decode cX24_copy 235 = .ok (.iinc 6 1, 3) := dk_132 6 1 (dk_at dksX24_copy_10 0 rfl rfl)
theorem dX24_copy_238 : decode cX24_copy 238 = .ok (.goto (-33), 3) := dk_167 255 223 (dk_at dksX24_copy_10 3 rfl rfl)
theorem dX24_copy_241 : decode cX24_copy 241 = .ok (.iconst 1, 1) := dk_4 (dk_at dksX24_copy_10 6 rfl rfl)
theorem dX24_copy_242 : decode cX24_copy 242 = .ok (.ireturn, 1) := dk_172 (dk_at dksX24_copy_10 7 rfl rfl)
abbrev cX24_element : ByteArray := prog_53_method_12_code
def yX24_element : MethodName := ⟨RX24, "element", "(II)J"⟩
def dkwX24_element_2 : List UInt8 := [173]
abbrev dktX24_element_2 : List UInt8 := dkwX24_element_2 ++ []
def dkwX24_element_1 : List UInt8 := [180, 0, 72, 27, 46, 162, 0, 18, 42, 180, 0, 78, 17, 0, 160, 27, 104, 28, 96, 47, 167, 0, 4, 9]
abbrev dktX24_element_1 : List UInt8 := dkwX24_element_1 ++ dktX24_element_2
def dkwX24_element_0 : List UInt8 := [42, 27, 182, 0, 202, 153, 0, 42, 42, 180, 0, 66, 27, 46, 4, 160, 0, 32, 28, 155, 0, 28, 28, 42]
abbrev dktX24_element_0 : List UInt8 := dkwX24_element_0 ++ dktX24_element_1
theorem dksX24_element_0 : cX24_element.data.toList.drop 0 = dktX24_element_0 := by decide +kernel
theorem dksX24_element_1 : cX24_element.data.toList.drop 24 = dktX24_element_1 := dk_seg dksX24_element_0 24 rfl rfl
theorem dksX24_element_2 : cX24_element.data.toList.drop 48 = dktX24_element_2 := dk_seg dksX24_element_1 24 rfl rfl
theorem dX24_element_0 : decode cX24_element 0 = .ok (.aload_n 0, 1) := dk_42 (dk_at dksX24_element_0 0 rfl rfl)
theorem dX24_element_1 : decode cX24_element 1 = .ok (.iload_n 1, 1) := dk_27 (dk_at dksX24_element_0 1 rfl rfl)
theorem dX24_element_2 : decode cX24_element 2 = .ok (.invokevirtual 202, 3) := dk_182 0 202 (dk_at dksX24_element_0 2 rfl rfl)
theorem dX24_element_5 : decode cX24_element 5 = .ok (.ifCond .eq 42, 3) := dk_153 0 42 (dk_at dksX24_element_0 5 rfl rfl)
theorem dX24_element_8 : decode cX24_element 8 = .ok (.aload_n 0, 1) := dk_42 (dk_at dksX24_element_0 8 rfl rfl)
theorem dX24_element_9 : decode cX24_element 9 = .ok (.getfield 66, 3) := dk_180 0 66 (dk_at dksX24_element_0 9 rfl rfl)
theorem dX24_element_12 : decode cX24_element 12 = .ok (.iload_n 1, 1) := dk_27 (dk_at dksX24_element_0 12 rfl rfl)
theorem dX24_element_13 : decode cX24_element 13 = .ok (.iaload, 1) := dk_46 (dk_at dksX24_element_0 13 rfl rfl)
theorem dX24_element_14 : decode cX24_element 14 = .ok (.iconst 1, 1) := dk_4 (dk_at dksX24_element_0 14 rfl rfl)
theorem dX24_element_15 : decode cX24_element 15 = .ok (.if_icmp .ne 32, 3) := dk_160 0 32 (dk_at dksX24_element_0 15 rfl rfl)
theorem dX24_element_18 : decode cX24_element 18 = .ok (.iload_n 2, 1) := dk_28 (dk_at dksX24_element_0 18 rfl rfl)
theorem dX24_element_19 : decode cX24_element 19 = .ok (.ifCond .lt 28, 3) := dk_155 0 28 (dk_at dksX24_element_0 19 rfl rfl)
theorem dX24_element_22 : decode cX24_element 22 = .ok (.iload_n 2, 1) := dk_28 (dk_at dksX24_element_0 22 rfl rfl)
theorem dX24_element_23 : decode cX24_element 23 = .ok (.aload_n 0, 1) := dk_42 (dk_at dksX24_element_0 23 rfl rfl)
theorem dX24_element_24 : decode cX24_element 24 = .ok (.getfield 72, 3) := dk_180 0 72 (dk_at dksX24_element_1 0 rfl rfl)
theorem dX24_element_27 : decode cX24_element 27 = .ok (.iload_n 1, 1) := dk_27 (dk_at dksX24_element_1 3 rfl rfl)
theorem dX24_element_28 : decode cX24_element 28 = .ok (.iaload, 1) := dk_46 (dk_at dksX24_element_1 4 rfl rfl)
theorem dX24_element_29 : decode cX24_element 29 = .ok (.if_icmp .ge 18, 3) := dk_162 0 18 (dk_at dksX24_element_1 5 rfl rfl)
theorem dX24_element_32 : decode cX24_element 32 = .ok (.aload_n 0, 1) := dk_42 (dk_at dksX24_element_1 8 rfl rfl)
theorem dX24_element_33 : decode cX24_element 33 = .ok (.getfield 78, 3) := dk_180 0 78 (dk_at dksX24_element_1 9 rfl rfl)
theorem dX24_element_36 : decode cX24_element 36 = .ok (.sipush 160, 3) := dk_17 0 160 (dk_at dksX24_element_1 12 rfl rfl)
theorem dX24_element_39 : decode cX24_element 39 = .ok (.iload_n 1, 1) := dk_27 (dk_at dksX24_element_1 15 rfl rfl)
theorem dX24_element_40 : decode cX24_element 40 = .ok (.imul, 1) := dk_104 (dk_at dksX24_element_1 16 rfl rfl)
theorem dX24_element_41 : decode cX24_element 41 = .ok (.iload_n 2, 1) := dk_28 (dk_at dksX24_element_1 17 rfl rfl)
theorem dX24_element_42 : decode cX24_element 42 = .ok (.iadd, 1) := dk_96 (dk_at dksX24_element_1 18 rfl rfl)
theorem dX24_element_43 : decode cX24_element 43 = .ok (.laload, 1) := dk_47 (dk_at dksX24_element_1 19 rfl rfl)
theorem dX24_element_44 : decode cX24_element 44 = .ok (.goto 4, 3) := dk_167 0 4 (dk_at dksX24_element_1 20 rfl rfl)
theorem dX24_element_47 : decode cX24_element 47 = .ok (.lconst 0, 1) := dk_9 (dk_at dksX24_element_1 23 rfl rfl)
theorem dX24_element_48 : decode cX24_element 48 = .ok (.lreturn, 1) := dk_173 (dk_at dksX24_element_2 0 rfl rfl)
abbrev cX24_show : ByteArray := prog_53_method_13_code
def yX24_show : MethodName := ⟨RX24, "show", "(II)I"⟩
def dkwX24_show_2 : List UInt8 := [27, 28, 79, 28, 2, 160, 0, 7, 3, 167, 0, 4, 4, 172]
abbrev dktX24_show_2 : List UInt8 := dkwX24_show_2 ++ []
def dkwX24_show_1 : List UInt8 := [182, 0, 206, 172, 42, 180, 0, 66, 27, 28, 2, 160, 0, 7, 3, 167, 0, 4, 5, 79, 42, 180, 0, 75]
abbrev dktX24_show_1 : List UInt8 := dkwX24_show_1 ++ dktX24_show_2
def dkwX24_show_0 : List UInt8 := [42, 27, 182, 0, 202, 153, 0, 16, 28, 2, 159, 0, 17, 42, 28, 182, 0, 214, 154, 0, 9, 42, 2]
abbrev dktX24_show_0 : List UInt8 := dkwX24_show_0 ++ dktX24_show_1
theorem dksX24_show_0 : cX24_show.data.toList.drop 0 = dktX24_show_0 := by decide +kernel
theorem dksX24_show_1 : cX24_show.data.toList.drop 23 = dktX24_show_1 := dk_seg dksX24_show_0 23 rfl rfl
theorem dksX24_show_2 : cX24_show.data.toList.drop 47 = dktX24_show_2 := dk_seg dksX24_show_1 24 rfl rfl
theorem dX24_show_0 : decode cX24_show 0 = .ok (.aload_n 0, 1) := dk_42 (dk_at dksX24_show_0 0 rfl rfl)
theorem dX24_show_1 : decode cX24_show 1 = .ok (.iload_n 1, 1) := dk_27 (dk_at dksX24_show_0 1 rfl rfl)
theorem dX24_show_2 : decode cX24_show 2 = .ok (.invokevirtual 202, 3) := dk_182 0 202 (dk_at dksX24_show_0 2 rfl rfl)
theorem dX24_show_5 : decode cX24_show 5 = .ok (.ifCond .eq 16, 3) := dk_153 0 16 (dk_at dksX24_show_0 5 rfl rfl)
theorem dX24_show_8 : decode cX24_show 8 = .ok (.iload_n 2, 1) := dk_28 (dk_at dksX24_show_0 8 rfl rfl)
theorem dX24_show_9 : decode cX24_show 9 = .ok (.iconst (-1), 1) := dk_2 (dk_at dksX24_show_0 9 rfl rfl)
theorem dX24_show_10 : decode cX24_show 10 = .ok (.if_icmp .eq 17, 3) := dk_159 0 17 (dk_at dksX24_show_0 10 rfl rfl)
theorem dX24_show_13 : decode cX24_show 13 = .ok (.aload_n 0, 1) := dk_42 (dk_at dksX24_show_0 13 rfl rfl)
theorem dX24_show_14 : decode cX24_show 14 = .ok (.iload_n 2, 1) := dk_28 (dk_at dksX24_show_0 14 rfl rfl)
theorem dX24_show_15 : decode cX24_show 15 = .ok (.invokevirtual 214, 3) := dk_182 0 214 (dk_at dksX24_show_0 15 rfl rfl)
theorem dX24_show_18 : decode cX24_show 18 = .ok (.ifCond .ne 9, 3) := dk_154 0 9 (dk_at dksX24_show_0 18 rfl rfl)
theorem dX24_show_21 : decode cX24_show 21 = .ok (.aload_n 0, 1) := dk_42 (dk_at dksX24_show_0 21 rfl rfl)
theorem dX24_show_22 : decode cX24_show 22 = .ok (.iconst (-1), 1) := dk_2 (dk_at dksX24_show_0 22 rfl rfl)
theorem dX24_show_23 : decode cX24_show 23 = .ok (.invokevirtual 206, 3) := dk_182 0 206 (dk_at dksX24_show_1 0 rfl rfl)
theorem dX24_show_26 : decode cX24_show 26 = .ok (.ireturn, 1) := dk_172 (dk_at dksX24_show_1 3 rfl rfl)
theorem dX24_show_27 : decode cX24_show 27 = .ok (.aload_n 0, 1) := dk_42 (dk_at dksX24_show_1 4 rfl rfl)
theorem dX24_show_28 : decode cX24_show 28 = .ok (.getfield 66, 3) := dk_180 0 66 (dk_at dksX24_show_1 5 rfl rfl)
theorem dX24_show_31 : decode cX24_show 31 = .ok (.iload_n 1, 1) := dk_27 (dk_at dksX24_show_1 8 rfl rfl)
theorem dX24_show_32 : decode cX24_show 32 = .ok (.iload_n 2, 1) := dk_28 (dk_at dksX24_show_1 9 rfl rfl)
theorem dX24_show_33 : decode cX24_show 33 = .ok (.iconst (-1), 1) := dk_2 (dk_at dksX24_show_1 10 rfl rfl)
theorem dX24_show_34 : decode cX24_show 34 = .ok (.if_icmp .ne 7, 3) := dk_160 0 7 (dk_at dksX24_show_1 11 rfl rfl)
theorem dX24_show_37 : decode cX24_show 37 = .ok (.iconst 0, 1) := dk_3 (dk_at dksX24_show_1 14 rfl rfl)
theorem dX24_show_38 : decode cX24_show 38 = .ok (.goto 4, 3) := dk_167 0 4 (dk_at dksX24_show_1 15 rfl rfl)
theorem dX24_show_41 : decode cX24_show 41 = .ok (.iconst 2, 1) := dk_5 (dk_at dksX24_show_1 18 rfl rfl)
theorem dX24_show_42 : decode cX24_show 42 = .ok (.iastore, 1) := dk_79 (dk_at dksX24_show_1 19 rfl rfl)
theorem dX24_show_43 : decode cX24_show 43 = .ok (.aload_n 0, 1) := dk_42 (dk_at dksX24_show_1 20 rfl rfl)
theorem dX24_show_44 : decode cX24_show 44 = .ok (.getfield 75, 3) := dk_180 0 75 (dk_at dksX24_show_1 21 rfl rfl)
theorem dX24_show_47 : decode cX24_show 47 = .ok (.iload_n 1, 1) := dk_27 (dk_at dksX24_show_2 0 rfl rfl)
theorem dX24_show_48 : decode cX24_show 48 = .ok (.iload_n 2, 1) := dk_28 (dk_at dksX24_show_2 1 rfl rfl)
theorem dX24_show_49 : decode cX24_show 49 = .ok (.iastore, 1) := dk_79 (dk_at dksX24_show_2 2 rfl rfl)
theorem dX24_show_50 : decode cX24_show 50 = .ok (.iload_n 2, 1) := dk_28 (dk_at dksX24_show_2 3 rfl rfl)
theorem dX24_show_51 : decode cX24_show 51 = .ok (.iconst (-1), 1) := dk_2 (dk_at dksX24_show_2 4 rfl rfl)
theorem dX24_show_52 : decode cX24_show 52 = .ok (.if_icmp .ne 7, 3) := dk_160 0 7 (dk_at dksX24_show_2 5 rfl rfl)
theorem dX24_show_55 : decode cX24_show 55 = .ok (.iconst 0, 1) := dk_3 (dk_at dksX24_show_2 8 rfl rfl)
theorem dX24_show_56 : decode cX24_show 56 = .ok (.goto 4, 3) := dk_167 0 4 (dk_at dksX24_show_2 9 rfl rfl)
theorem dX24_show_59 : decode cX24_show 59 = .ok (.iconst 1, 1) := dk_4 (dk_at dksX24_show_2 12 rfl rfl)
theorem dX24_show_60 : decode cX24_show 60 = .ok (.ireturn, 1) := dk_172 (dk_at dksX24_show_2 13 rfl rfl)
abbrev cX24_isExpression : ByteArray := prog_53_method_6_code
def yX24_isExpression : MethodName := ⟨RX24, "isExpression", "(I)Z"⟩
def dkwX24_isExpression_0 : List UInt8 := [27, 155, 0, 15, 27, 42, 180, 0, 199, 162, 0, 7, 4, 167, 0, 4, 3, 172]
abbrev dktX24_isExpression_0 : List UInt8 := dkwX24_isExpression_0 ++ []
theorem dksX24_isExpression_0 : cX24_isExpression.data.toList.drop 0 = dktX24_isExpression_0 := by decide +kernel
theorem dX24_isExpression_0 : decode cX24_isExpression 0 = .ok (.iload_n 1, 1) := dk_27 (dk_at dksX24_isExpression_0 0 rfl rfl)
theorem dX24_isExpression_1 : decode cX24_isExpression 1 = .ok (.ifCond .lt 15, 3) := dk_155 0 15 (dk_at dksX24_isExpression_0 1 rfl rfl)
theorem dX24_isExpression_4 : decode cX24_isExpression 4 = .ok (.iload_n 1, 1) := dk_27 (dk_at dksX24_isExpression_0 4 rfl rfl)
theorem dX24_isExpression_5 : decode cX24_isExpression 5 = .ok (.aload_n 0, 1) := dk_42 (dk_at dksX24_isExpression_0 5 rfl rfl)
theorem dX24_isExpression_6 : decode cX24_isExpression 6 = .ok (.getfield 199, 3) := dk_180 0 199 (dk_at dksX24_isExpression_0 6 rfl rfl)
theorem dX24_isExpression_9 : decode cX24_isExpression 9 = .ok (.if_icmp .ge 7, 3) := dk_162 0 7 (dk_at dksX24_isExpression_0 9 rfl rfl)
theorem dX24_isExpression_12 : decode cX24_isExpression 12 = .ok (.iconst 1, 1) := dk_4 (dk_at dksX24_isExpression_0 12 rfl rfl)
theorem dX24_isExpression_13 : decode cX24_isExpression 13 = .ok (.goto 4, 3) := dk_167 0 4 (dk_at dksX24_isExpression_0 13 rfl rfl)
theorem dX24_isExpression_16 : decode cX24_isExpression 16 = .ok (.iconst 0, 1) := dk_3 (dk_at dksX24_isExpression_0 16 rfl rfl)
theorem dX24_isExpression_17 : decode cX24_isExpression 17 = .ok (.ireturn, 1) := dk_172 (dk_at dksX24_isExpression_0 17 rfl rfl)
abbrev cX24_holds : ByteArray := prog_53_method_14_code
def yX24_holds : MethodName := ⟨RX24, "holds", "(I)I"⟩
def dkwX24_holds_2 : List UInt8 := [180, 0, 75, 27, 46, 172]
abbrev dktX24_holds_2 : List UInt8 := dkwX24_holds_2 ++ []
def dkwX24_holds_1 : List UInt8 := [180, 0, 66, 27, 46, 4, 160, 0, 15, 16, 100, 42, 180, 0, 69, 27, 46, 96, 167, 0, 9, 42]
abbrev dktX24_holds_1 : List UInt8 := dkwX24_holds_1 ++ dktX24_holds_2
def dkwX24_holds_0 : List UInt8 := [42, 27, 182, 0, 202, 153, 0, 12, 42, 180, 0, 66, 27, 46, 154, 0, 7, 2, 167, 0, 31, 42]
abbrev dktX24_holds_0 : List UInt8 := dkwX24_holds_0 ++ dktX24_holds_1
theorem dksX24_holds_0 : cX24_holds.data.toList.drop 0 = dktX24_holds_0 := by decide +kernel
theorem dksX24_holds_1 : cX24_holds.data.toList.drop 22 = dktX24_holds_1 := dk_seg dksX24_holds_0 22 rfl rfl
theorem dksX24_holds_2 : cX24_holds.data.toList.drop 44 = dktX24_holds_2 := dk_seg dksX24_holds_1 22 rfl rfl
theorem dX24_holds_0 : decode cX24_holds 0 = .ok (.aload_n 0, 1) := dk_42 (dk_at dksX24_holds_0 0 rfl rfl)
theorem dX24_holds_1 : decode cX24_holds 1 = .ok (.iload_n 1, 1) := dk_27 (dk_at dksX24_holds_0 1 rfl rfl)
theorem dX24_holds_2 : decode cX24_holds 2 = .ok (.invokevirtual 202, 3) := dk_182 0 202 (dk_at dksX24_holds_0 2 rfl rfl)
theorem dX24_holds_5 : decode cX24_holds 5 = .ok (.ifCond .eq 12, 3) := dk_153 0 12 (dk_at dksX24_holds_0 5 rfl rfl)
theorem dX24_holds_8 : decode cX24_holds 8 = .ok (.aload_n 0, 1) := dk_42 (dk_at dksX24_holds_0 8 rfl rfl)
theorem dX24_holds_9 : decode cX24_holds 9 = .ok (.getfield 66, 3) := dk_180 0 66 (dk_at dksX24_holds_0 9 rfl rfl)
theorem dX24_holds_12 : decode cX24_holds 12 = .ok (.iload_n 1, 1) := dk_27 (dk_at dksX24_holds_0 12 rfl rfl)
theorem dX24_holds_13 : decode cX24_holds 13 = .ok (.iaload, 1) := dk_46 (dk_at dksX24_holds_0 13 rfl rfl)
theorem dX24_holds_14 : decode cX24_holds 14 = .ok (.ifCond .ne 7, 3) := dk_154 0 7 (dk_at dksX24_holds_0 14 rfl rfl)
theorem dX24_holds_17 : decode cX24_holds 17 = .ok (.iconst (-1), 1) := dk_2 (dk_at dksX24_holds_0 17 rfl rfl)
theorem dX24_holds_18 : decode cX24_holds 18 = .ok (.goto 31, 3) := dk_167 0 31 (dk_at dksX24_holds_0 18 rfl rfl)
theorem dX24_holds_21 : decode cX24_holds 21 = .ok (.aload_n 0, 1) := dk_42 (dk_at dksX24_holds_0 21 rfl rfl)
theorem dX24_holds_22 : decode cX24_holds 22 = .ok (.getfield 66, 3) := dk_180 0 66 (dk_at dksX24_holds_1 0 rfl rfl)
theorem dX24_holds_25 : decode cX24_holds 25 = .ok (.iload_n 1, 1) := dk_27 (dk_at dksX24_holds_1 3 rfl rfl)
theorem dX24_holds_26 : decode cX24_holds 26 = .ok (.iaload, 1) := dk_46 (dk_at dksX24_holds_1 4 rfl rfl)
theorem dX24_holds_27 : decode cX24_holds 27 = .ok (.iconst 1, 1) := dk_4 (dk_at dksX24_holds_1 5 rfl rfl)
theorem dX24_holds_28 : decode cX24_holds 28 = .ok (.if_icmp .ne 15, 3) := dk_160 0 15 (dk_at dksX24_holds_1 6 rfl rfl)
theorem dX24_holds_31 : decode cX24_holds 31 = .ok (.bipush 100, 2) := dk_16 100 (dk_at dksX24_holds_1 9 rfl rfl)
theorem dX24_holds_33 : decode cX24_holds 33 = .ok (.aload_n 0, 1) := dk_42 (dk_at dksX24_holds_1 11 rfl rfl)
theorem dX24_holds_34 : decode cX24_holds 34 = .ok (.getfield 69, 3) := dk_180 0 69 (dk_at dksX24_holds_1 12 rfl rfl)
theorem dX24_holds_37 : decode cX24_holds 37 = .ok (.iload_n 1, 1) := dk_27 (dk_at dksX24_holds_1 15 rfl rfl)
theorem dX24_holds_38 : decode cX24_holds 38 = .ok (.iaload, 1) := dk_46 (dk_at dksX24_holds_1 16 rfl rfl)
theorem dX24_holds_39 : decode cX24_holds 39 = .ok (.iadd, 1) := dk_96 (dk_at dksX24_holds_1 17 rfl rfl)
theorem dX24_holds_40 : decode cX24_holds 40 = .ok (.goto 9, 3) := dk_167 0 9 (dk_at dksX24_holds_1 18 rfl rfl)
theorem dX24_holds_43 : decode cX24_holds 43 = .ok (.aload_n 0, 1) := dk_42 (dk_at dksX24_holds_1 21 rfl rfl)
theorem dX24_holds_44 : decode cX24_holds 44 = .ok (.getfield 75, 3) := dk_180 0 75 (dk_at dksX24_holds_2 0 rfl rfl)
theorem dX24_holds_47 : decode cX24_holds 47 = .ok (.iload_n 1, 1) := dk_27 (dk_at dksX24_holds_2 3 rfl rfl)
theorem dX24_holds_48 : decode cX24_holds 48 = .ok (.iaload, 1) := dk_46 (dk_at dksX24_holds_2 4 rfl rfl)
theorem dX24_holds_49 : decode cX24_holds 49 = .ok (.ireturn, 1) := dk_172 (dk_at dksX24_holds_2 5 rfl rfl)
abbrev cX24_says : ByteArray := prog_53_method_16_code
def yX24_says : MethodName := ⟨RX24, "says", "(II)I"⟩
def dkwX24_says_7 : List UInt8 := [96, 167, 0, 9, 42, 180, 0, 41, 29, 46, 172]
abbrev dktX24_says_7 : List UInt8 := dkwX24_says_7 ++ []
def dkwX24_says_6 : List UInt8 := [42, 180, 0, 44, 29, 46, 182, 0, 225, 172, 28, 16, 6, 160, 0, 15, 16, 10, 42, 180, 0, 41, 29, 46]
abbrev dktX24_says_6 : List UInt8 := dkwX24_says_6 ++ dktX24_says_7
def dkwX24_says_5 : List UInt8 := [182, 0, 225, 172, 28, 5, 160, 0, 28, 42, 180, 0, 56, 29, 51, 153, 0, 8, 16, 99, 167, 0, 13, 42]
abbrev dktX24_says_5 : List UInt8 := dkwX24_says_5 ++ dktX24_says_6
def dkwX24_says_4 : List UInt8 := [154, 0, 28, 42, 180, 0, 56, 29, 51, 153, 0, 8, 16, 99, 167, 0, 13, 42, 42, 180, 0, 50, 29, 46]
abbrev dktX24_says_4 : List UInt8 := dkwX24_says_4 ++ dktX24_says_5
def dkwX24_says_3 : List UInt8 := [42, 180, 0, 66, 27, 46, 154, 0, 10, 42, 16, 253, 182, 0, 206, 172, 42, 180, 0, 75, 27, 46, 62, 28]
abbrev dktX24_says_3 : List UInt8 := dkwX24_says_3 ++ dktX24_says_4
def dkwX24_says_2 : List UInt8 := [180, 0, 38, 42, 180, 0, 75, 27, 46, 46, 28, 182, 0, 221, 154, 0, 10, 42, 16, 254, 182, 0, 206, 172]
abbrev dktX24_says_2 : List UInt8 := dkwX24_says_2 ++ dktX24_says_3
def dkwX24_says_1 : List UInt8 := [172, 42, 180, 0, 66, 27, 46, 4, 159, 0, 32, 42, 180, 0, 66, 27, 46, 5, 160, 0, 29, 42, 42]
abbrev dktX24_says_1 : List UInt8 := dkwX24_says_1 ++ dktX24_says_2
def dkwX24_says_0 : List UInt8 := [42, 27, 182, 0, 202, 153, 0, 14, 42, 28, 3, 16, 6, 182, 0, 217, 154, 0, 9, 42, 2, 182, 0, 206]
abbrev dktX24_says_0 : List UInt8 := dkwX24_says_0 ++ dktX24_says_1
theorem dksX24_says_0 : cX24_says.data.toList.drop 0 = dktX24_says_0 := by decide +kernel
theorem dksX24_says_1 : cX24_says.data.toList.drop 24 = dktX24_says_1 := dk_seg dksX24_says_0 24 rfl rfl
theorem dksX24_says_2 : cX24_says.data.toList.drop 47 = dktX24_says_2 := dk_seg dksX24_says_1 23 rfl rfl
theorem dksX24_says_3 : cX24_says.data.toList.drop 71 = dktX24_says_3 := dk_seg dksX24_says_2 24 rfl rfl
theorem dksX24_says_4 : cX24_says.data.toList.drop 95 = dktX24_says_4 := dk_seg dksX24_says_3 24 rfl rfl
theorem dksX24_says_5 : cX24_says.data.toList.drop 119 = dktX24_says_5 := dk_seg dksX24_says_4 24 rfl rfl
theorem dksX24_says_6 : cX24_says.data.toList.drop 143 = dktX24_says_6 := dk_seg dksX24_says_5 24 rfl rfl
theorem dksX24_says_7 : cX24_says.data.toList.drop 167 = dktX24_says_7 := dk_seg dksX24_says_6 24 rfl rfl
theorem dX24_says_0 : decode cX24_says 0 = .ok (.aload_n 0, 1) := dk_42 (dk_at dksX24_says_0 0 rfl rfl)
theorem dX24_says_1 : decode cX24_says 1 = .ok (.iload_n 1, 1) := dk_27 (dk_at dksX24_says_0 1 rfl rfl)
theorem dX24_says_2 : decode cX24_says 2 = .ok (.invokevirtual 202, 3) := dk_182 0 202 (dk_at dksX24_says_0 2 rfl rfl)
theorem dX24_says_5 : decode cX24_says 5 = .ok (.ifCond .eq 14, 3) := dk_153 0 14 (dk_at dksX24_says_0 5 rfl rfl)
theorem dX24_says_8 : decode cX24_says 8 = .ok (.aload_n 0, 1) := dk_42 (dk_at dksX24_says_0 8 rfl rfl)
theorem dX24_says_9 : decode cX24_says 9 = .ok (.iload_n 2, 1) := dk_28 (dk_at dksX24_says_0 9 rfl rfl)
theorem dX24_says_10 : decode cX24_says 10 = .ok (.iconst 0, 1) := dk_3 (dk_at dksX24_says_0 10 rfl rfl)
theorem dX24_says_11 : decode cX24_says 11 = .ok (.bipush 6, 2) := dk_16 6 (dk_at dksX24_says_0 11 rfl rfl)
theorem dX24_says_13 : decode cX24_says 13 = .ok (.invokevirtual 217, 3) := dk_182 0 217 (dk_at dksX24_says_0 13 rfl rfl)
theorem dX24_says_16 : decode cX24_says 16 = .ok (.ifCond .ne 9, 3) := dk_154 0 9 (dk_at dksX24_says_0 16 rfl rfl)
theorem dX24_says_19 : decode cX24_says 19 = .ok (.aload_n 0, 1) := dk_42 (dk_at dksX24_says_0 19 rfl rfl)
theorem dX24_says_20 : decode cX24_says 20 = .ok (.iconst (-1), 1) := dk_2 (dk_at dksX24_says_0 20 rfl rfl)
theorem dX24_says_21 : decode cX24_says 21 = .ok (.invokevirtual 206, 3) := dk_182 0 206 (dk_at dksX24_says_0 21 rfl rfl)
theorem dX24_says_24 : decode cX24_says 24 = .ok (.ireturn, 1) := dk_172 (dk_at dksX24_says_1 0 rfl rfl)
theorem dX24_says_25 : decode cX24_says 25 = .ok (.aload_n 0, 1) := dk_42 (dk_at dksX24_says_1 1 rfl rfl)
theorem dX24_says_26 : decode cX24_says 26 = .ok (.getfield 66, 3) := dk_180 0 66 (dk_at dksX24_says_1 2 rfl rfl)
theorem dX24_says_29 : decode cX24_says 29 = .ok (.iload_n 1, 1) := dk_27 (dk_at dksX24_says_1 5 rfl rfl)
theorem dX24_says_30 : decode cX24_says 30 = .ok (.iaload, 1) := dk_46 (dk_at dksX24_says_1 6 rfl rfl)
theorem dX24_says_31 : decode cX24_says 31 = .ok (.iconst 1, 1) := dk_4 (dk_at dksX24_says_1 7 rfl rfl)
theorem dX24_says_32 : decode cX24_says 32 = .ok (.if_icmp .eq 32, 3) := dk_159 0 32 (dk_at dksX24_says_1 8 rfl rfl)
theorem dX24_says_35 : decode cX24_says 35 = .ok (.aload_n 0, 1) := dk_42 (dk_at dksX24_says_1 11 rfl rfl)
theorem dX24_says_36 : decode cX24_says 36 = .ok (.getfield 66, 3) := dk_180 0 66 (dk_at dksX24_says_1 12 rfl rfl)
theorem dX24_says_39 : decode cX24_says 39 = .ok (.iload_n 1, 1) := dk_27 (dk_at dksX24_says_1 15 rfl rfl)
theorem dX24_says_40 : decode cX24_says 40 = .ok (.iaload, 1) := dk_46 (dk_at dksX24_says_1 16 rfl rfl)
theorem dX24_says_41 : decode cX24_says 41 = .ok (.iconst 2, 1) := dk_5 (dk_at dksX24_says_1 17 rfl rfl)
theorem dX24_says_42 : decode cX24_says 42 = .ok (.if_icmp .ne 29, 3) := dk_160 0 29 (dk_at dksX24_says_1 18 rfl rfl)
theorem dX24_says_45 : decode cX24_says 45 = .ok (.aload_n 0, 1) := dk_42 (dk_at dksX24_says_1 21 rfl rfl)
theorem dX24_says_46 : decode cX24_says 46 = .ok (.aload_n 0, 1) := dk_42 (dk_at dksX24_says_1 22 rfl rfl)
theorem dX24_says_47 : decode cX24_says 47 = .ok (.getfield 38, 3) := dk_180 0 38 (dk_at dksX24_says_2 0 rfl rfl)
theorem dX24_says_50 : decode cX24_says 50 = .ok (.aload_n 0, 1) := dk_42 (dk_at dksX24_says_2 3 rfl rfl)
theorem dX24_says_51 : decode cX24_says 51 = .ok (.getfield 75, 3) := dk_180 0 75 (dk_at dksX24_says_2 4 rfl rfl)
theorem dX24_says_54 : decode cX24_says 54 = .ok (.iload_n 1, 1) := dk_27 (dk_at dksX24_says_2 7 rfl rfl)
theorem dX24_says_55 : decode cX24_says 55 = .ok (.iaload, 1) := dk_46 (dk_at dksX24_says_2 8 rfl rfl)
theorem dX24_says_56 : decode cX24_says 56 = .ok (.iaload, 1) := dk_46 (dk_at dksX24_says_2 9 rfl rfl)
theorem dX24_says_57 : decode cX24_says 57 = .ok (.iload_n 2, 1) := dk_28 (dk_at dksX24_says_2 10 rfl rfl)
theorem dX24_says_58 : decode cX24_says 58 = .ok (.invokevirtual 221, 3) := dk_182 0 221 (dk_at dksX24_says_2 11 rfl rfl)
theorem dX24_says_61 : decode cX24_says 61 = .ok (.ifCond .ne 10, 3) := dk_154 0 10 (dk_at dksX24_says_2 14 rfl rfl)
theorem dX24_says_64 : decode cX24_says 64 = .ok (.aload_n 0, 1) := dk_42 (dk_at dksX24_says_2 17 rfl rfl)
theorem dX24_says_65 : decode cX24_says 65 = .ok (.bipush (-2), 2) := dk_16 254 (dk_at dksX24_says_2 18 rfl rfl)
theorem dX24_says_67 : decode cX24_says 67 = .ok (.invokevirtual 206, 3) := dk_182 0 206 (dk_at dksX24_says_2 20 rfl rfl)
theorem dX24_says_70 : decode cX24_says 70 = .ok (.ireturn, 1) := dk_172 (dk_at dksX24_says_2 23 rfl rfl)
theorem dX24_says_71 : decode cX24_says 71 = .ok (.aload_n 0, 1) := dk_42 (dk_at dksX24_says_3 0 rfl rfl)
theorem dX24_says_72 : decode cX24_says 72 = .ok (.getfield 66, 3) := dk_180 0 66 (dk_at dksX24_says_3 1 rfl rfl)
theorem dX24_says_75 : decode cX24_says 75 = .ok (.iload_n 1, 1) := dk_27 (dk_at dksX24_says_3 4 rfl rfl)
theorem dX24_says_76 : decode cX24_says 76 = .ok (.iaload, 1) := dk_46 (dk_at dksX24_says_3 5 rfl rfl)
theorem dX24_says_77 : decode cX24_says 77 = .ok (.ifCond .ne 10, 3) := dk_154 0 10 (dk_at dksX24_says_3 6 rfl rfl)
theorem dX24_says_80 : decode cX24_says 80 = .ok (.aload_n 0, 1) := dk_42 (dk_at dksX24_says_3 9 rfl rfl)
theorem dX24_says_81 : decode cX24_says 81 = .ok (.bipush (-3), 2) := dk_16 253 (dk_at dksX24_says_3 10 rfl rfl)
theorem dX24_says_83 : decode cX24_says 83 = .ok (.invokevirtual 206, 3) := dk_182 0 206 (dk_at dksX24_says_3 12 rfl rfl)
theorem dX24_says_86 : decode cX24_says 86 = .ok (.ireturn, 1) := dk_172 (dk_at dksX24_says_3 15 rfl rfl)
theorem dX24_says_87 : decode cX24_says 87 = .ok (.aload_n 0, 1) := dk_42 (dk_at dksX24_says_3 16 rfl rfl)
theorem dX24_says_88 : decode cX24_says 88 = .ok (.getfield 75, 3) := dk_180 0 75 (dk_at dksX24_says_3 17 rfl rfl)
theorem dX24_says_91 : decode cX24_says 91 = .ok (.iload_n 1, 1) := dk_27 (dk_at dksX24_says_3 20 rfl rfl)
theorem dX24_says_92 : decode cX24_says 92 = .ok (.iaload, 1) := dk_46 (dk_at dksX24_says_3 21 rfl rfl)
theorem dX24_says_93 : decode cX24_says 93 = .ok (.istore_n 3, 1) := dk_62 (dk_at dksX24_says_3 22 rfl rfl)
theorem dX24_says_94 : decode cX24_says 94 = .ok (.iload_n 2, 1) := dk_28 (dk_at dksX24_says_3 23 rfl rfl)
theorem dX24_says_95 : decode cX24_says 95 = .ok (.ifCond .ne 28, 3) := dk_154 0 28 (dk_at dksX24_says_4 0 rfl rfl)
theorem dX24_says_98 : decode cX24_says 98 = .ok (.aload_n 0, 1) := dk_42 (dk_at dksX24_says_4 3 rfl rfl)
theorem dX24_says_99 : decode cX24_says 99 = .ok (.getfield 56, 3) := dk_180 0 56 (dk_at dksX24_says_4 4 rfl rfl)
theorem dX24_says_102 : decode cX24_says 102 = .ok (.iload_n 3, 1) := dk_29 (dk_at dksX24_says_4 7 rfl rfl)
theorem dX24_says_103 : decode cX24_says 103 = .ok (.baload, 1) := dk_51 (dk_at dksX24_says_4 8 rfl rfl)
theorem dX24_says_104 : decode cX24_says 104 = .ok (.ifCond .eq 8, 3) := dk_153 0 8 (dk_at dksX24_says_4 9 rfl rfl)
theorem dX24_says_107 : decode cX24_says 107 = .ok (.bipush 99, 2) := dk_16 99 (dk_at dksX24_says_4 12 rfl rfl)
theorem dX24_says_109 : decode cX24_says 109 = .ok (.goto 13, 3) := dk_167 0 13 (dk_at dksX24_says_4 14 rfl rfl)
theorem dX24_says_112 : decode cX24_says 112 = .ok (.aload_n 0, 1) := dk_42 (dk_at dksX24_says_4 17 rfl rfl)
theorem dX24_says_113 : decode cX24_says 113 = .ok (.aload_n 0, 1) := dk_42 (dk_at dksX24_says_4 18 rfl rfl)
theorem dX24_says_114 : decode cX24_says 114 = .ok (.getfield 50, 3) := dk_180 0 50 (dk_at dksX24_says_4 19 rfl rfl)
theorem dX24_says_117 : decode cX24_says 117 = .ok (.iload_n 3, 1) := dk_29 (dk_at dksX24_says_4 22 rfl rfl)
theorem dX24_says_118 : decode cX24_says 118 = .ok (.iaload, 1) := dk_46 (dk_at dksX24_says_4 23 rfl rfl)
theorem dX24_says_119 : decode cX24_says 119 = .ok (.invokevirtual 225, 3) := dk_182 0 225 (dk_at dksX24_says_5 0 rfl rfl)
theorem dX24_says_122 : decode cX24_says 122 = .ok (.ireturn, 1) := dk_172 (dk_at dksX24_says_5 3 rfl rfl)
theorem dX24_says_123 : decode cX24_says 123 = .ok (.iload_n 2, 1) := dk_28 (dk_at dksX24_says_5 4 rfl rfl)
theorem dX24_says_124 : decode cX24_says 124 = .ok (.iconst 2, 1) := dk_5 (dk_at dksX24_says_5 5 rfl rfl)
theorem dX24_says_125 : decode cX24_says 125 = .ok (.if_icmp .ne 28, 3) := dk_160 0 28 (dk_at dksX24_says_5 6 rfl rfl)
theorem dX24_says_128 : decode cX24_says 128 = .ok (.aload_n 0, 1) := dk_42 (dk_at dksX24_says_5 9 rfl rfl)
theorem dX24_says_129 : decode cX24_says 129 = .ok (.getfield 56, 3) := dk_180 0 56 (dk_at dksX24_says_5 10 rfl rfl)
theorem dX24_says_132 : decode cX24_says 132 = .ok (.iload_n 3, 1) := dk_29 (dk_at dksX24_says_5 13 rfl rfl)
theorem dX24_says_133 : decode cX24_says 133 = .ok (.baload, 1) := dk_51 (dk_at dksX24_says_5 14 rfl rfl)
theorem dX24_says_134 : decode cX24_says 134 = .ok (.ifCond .eq 8, 3) := dk_153 0 8 (dk_at dksX24_says_5 15 rfl rfl)
theorem dX24_says_137 : decode cX24_says 137 = .ok (.bipush 99, 2) := dk_16 99 (dk_at dksX24_says_5 18 rfl rfl)
theorem dX24_says_139 : decode cX24_says 139 = .ok (.goto 13, 3) := dk_167 0 13 (dk_at dksX24_says_5 20 rfl rfl)
theorem dX24_says_142 : decode cX24_says 142 = .ok (.aload_n 0, 1) := dk_42 (dk_at dksX24_says_5 23 rfl rfl)
theorem dX24_says_143 : decode cX24_says 143 = .ok (.aload_n 0, 1) := dk_42 (dk_at dksX24_says_6 0 rfl rfl)
theorem dX24_says_144 : decode cX24_says 144 = .ok (.getfield 44, 3) := dk_180 0 44 (dk_at dksX24_says_6 1 rfl rfl)
theorem dX24_says_147 : decode cX24_says 147 = .ok (.iload_n 3, 1) := dk_29 (dk_at dksX24_says_6 4 rfl rfl)
theorem dX24_says_148 : decode cX24_says 148 = .ok (.iaload, 1) := dk_46 (dk_at dksX24_says_6 5 rfl rfl)
theorem dX24_says_149 : decode cX24_says 149 = .ok (.invokevirtual 225, 3) := dk_182 0 225 (dk_at dksX24_says_6 6 rfl rfl)
theorem dX24_says_152 : decode cX24_says 152 = .ok (.ireturn, 1) := dk_172 (dk_at dksX24_says_6 9 rfl rfl)
theorem dX24_says_153 : decode cX24_says 153 = .ok (.iload_n 2, 1) := dk_28 (dk_at dksX24_says_6 10 rfl rfl)
theorem dX24_says_154 : decode cX24_says 154 = .ok (.bipush 6, 2) := dk_16 6 (dk_at dksX24_says_6 11 rfl rfl)
theorem dX24_says_156 : decode cX24_says 156 = .ok (.if_icmp .ne 15, 3) := dk_160 0 15 (dk_at dksX24_says_6 13 rfl rfl)
theorem dX24_says_159 : decode cX24_says 159 = .ok (.bipush 10, 2) := dk_16 10 (dk_at dksX24_says_6 16 rfl rfl)
theorem dX24_says_161 : decode cX24_says 161 = .ok (.aload_n 0, 1) := dk_42 (dk_at dksX24_says_6 18 rfl rfl)
theorem dX24_says_162 : decode cX24_says 162 = .ok (.getfield 41, 3) := dk_180 0 41 (dk_at dksX24_says_6 19 rfl rfl)
theorem dX24_says_165 : decode cX24_says 165 = .ok (.iload_n 3, 1) := dk_29 (dk_at dksX24_says_6 22 rfl rfl)
theorem dX24_says_166 : decode cX24_says 166 = .ok (.iaload, 1) := dk_46 (dk_at dksX24_says_6 23 rfl rfl)
theorem dX24_says_167 : decode cX24_says 167 = .ok (.iadd, 1) := dk_96 (dk_at dksX24_says_7 0 rfl rfl)
theorem dX24_says_168 : decode cX24_says 168 = .ok (.goto 9, 3) := dk_167 0 9 (dk_at dksX24_says_7 1 rfl rfl)
theorem dX24_says_171 : decode cX24_says 171 = .ok (.aload_n 0, 1) := dk_42 (dk_at dksX24_says_7 4 rfl rfl)
theorem dX24_says_172 : decode cX24_says 172 = .ok (.getfield 41, 3) := dk_180 0 41 (dk_at dksX24_says_7 5 rfl rfl)
theorem dX24_says_175 : decode cX24_says 175 = .ok (.iload_n 3, 1) := dk_29 (dk_at dksX24_says_7 8 rfl rfl)
theorem dX24_says_176 : decode cX24_says 176 = .ok (.iaload, 1) := dk_46 (dk_at dksX24_says_7 9 rfl rfl)
theorem dX24_says_177 : decode cX24_says 177 = .ok (.ireturn, 1) := dk_172 (dk_at dksX24_says_7 10 rfl rfl)
abbrev cX24_isFrom : ByteArray := prog_53_method_7_code
def yX24_isFrom : MethodName := ⟨RX24, "isFrom", "(III)Z"⟩
def dkwX24_isFrom_0 : List UInt8 := [27, 28, 161, 0, 12, 27, 29, 163, 0, 7, 4, 167, 0, 4, 3, 172]
abbrev dktX24_isFrom_0 : List UInt8 := dkwX24_isFrom_0 ++ []
theorem dksX24_isFrom_0 : cX24_isFrom.data.toList.drop 0 = dktX24_isFrom_0 := by decide +kernel
theorem dX24_isFrom_0 : decode cX24_isFrom 0 = .ok (.iload_n 1, 1) := dk_27 (dk_at dksX24_isFrom_0 0 rfl rfl)
theorem dX24_isFrom_1 : decode cX24_isFrom 1 = .ok (.iload_n 2, 1) := dk_28 (dk_at dksX24_isFrom_0 1 rfl rfl)
theorem dX24_isFrom_2 : decode cX24_isFrom 2 = .ok (.if_icmp .lt 12, 3) := dk_161 0 12 (dk_at dksX24_isFrom_0 2 rfl rfl)
theorem dX24_isFrom_5 : decode cX24_isFrom 5 = .ok (.iload_n 1, 1) := dk_27 (dk_at dksX24_isFrom_0 5 rfl rfl)
theorem dX24_isFrom_6 : decode cX24_isFrom 6 = .ok (.iload_n 3, 1) := dk_29 (dk_at dksX24_isFrom_0 6 rfl rfl)
theorem dX24_isFrom_7 : decode cX24_isFrom 7 = .ok (.if_icmp .gt 7, 3) := dk_163 0 7 (dk_at dksX24_isFrom_0 7 rfl rfl)
theorem dX24_isFrom_10 : decode cX24_isFrom 10 = .ok (.iconst 1, 1) := dk_4 (dk_at dksX24_isFrom_0 10 rfl rfl)
theorem dX24_isFrom_11 : decode cX24_isFrom 11 = .ok (.goto 4, 3) := dk_167 0 4 (dk_at dksX24_isFrom_0 11 rfl rfl)
theorem dX24_isFrom_14 : decode cX24_isFrom 14 = .ok (.iconst 0, 1) := dk_3 (dk_at dksX24_isFrom_0 14 rfl rfl)
theorem dX24_isFrom_15 : decode cX24_isFrom 15 = .ok (.ireturn, 1) := dk_172 (dk_at dksX24_isFrom_0 15 rfl rfl)
abbrev cX24_isOf : ByteArray := prog_53_method_15_code
def yX24_isOf : MethodName := ⟨RX24, "isOf", "(II)Z"⟩
def dkwX24_isOf_1 : List UInt8 := [28, 8, 160, 0, 13, 27, 16, 6, 160, 0, 7, 4, 167, 0, 4, 3, 172]
abbrev dktX24_isOf_1 : List UInt8 := dkwX24_isOf_1 ++ []
def dkwX24_isOf_0 : List UInt8 := [28, 153, 0, 34, 27, 28, 159, 0, 29, 28, 5, 160, 0, 13, 27, 6, 159, 0, 19, 27, 7, 159, 0, 14]
abbrev dktX24_isOf_0 : List UInt8 := dkwX24_isOf_0 ++ dktX24_isOf_1
theorem dksX24_isOf_0 : cX24_isOf.data.toList.drop 0 = dktX24_isOf_0 := by decide +kernel
theorem dksX24_isOf_1 : cX24_isOf.data.toList.drop 24 = dktX24_isOf_1 := dk_seg dksX24_isOf_0 24 rfl rfl
theorem dX24_isOf_0 : decode cX24_isOf 0 = .ok (.iload_n 2, 1) := dk_28 (dk_at dksX24_isOf_0 0 rfl rfl)
theorem dX24_isOf_1 : decode cX24_isOf 1 = .ok (.ifCond .eq 34, 3) := dk_153 0 34 (dk_at dksX24_isOf_0 1 rfl rfl)
theorem dX24_isOf_4 : decode cX24_isOf 4 = .ok (.iload_n 1, 1) := dk_27 (dk_at dksX24_isOf_0 4 rfl rfl)
theorem dX24_isOf_5 : decode cX24_isOf 5 = .ok (.iload_n 2, 1) := dk_28 (dk_at dksX24_isOf_0 5 rfl rfl)
theorem dX24_isOf_6 : decode cX24_isOf 6 = .ok (.if_icmp .eq 29, 3) := dk_159 0 29 (dk_at dksX24_isOf_0 6 rfl rfl)
theorem dX24_isOf_9 : decode cX24_isOf 9 = .ok (.iload_n 2, 1) := dk_28 (dk_at dksX24_isOf_0 9 rfl rfl)
theorem dX24_isOf_10 : decode cX24_isOf 10 = .ok (.iconst 2, 1) := dk_5 (dk_at dksX24_isOf_0 10 rfl rfl)
theorem dX24_isOf_11 : decode cX24_isOf 11 = .ok (.if_icmp .ne 13, 3) := dk_160 0 13 (dk_at dksX24_isOf_0 11 rfl rfl)
theorem dX24_isOf_14 : decode cX24_isOf 14 = .ok (.iload_n 1, 1) := dk_27 (dk_at dksX24_isOf_0 14 rfl rfl)
theorem dX24_isOf_15 : decode cX24_isOf 15 = .ok (.iconst 3, 1) := dk_6 (dk_at dksX24_isOf_0 15 rfl rfl)
theorem dX24_isOf_16 : decode cX24_isOf 16 = .ok (.if_icmp .eq 19, 3) := dk_159 0 19 (dk_at dksX24_isOf_0 16 rfl rfl)
theorem dX24_isOf_19 : decode cX24_isOf 19 = .ok (.iload_n 1, 1) := dk_27 (dk_at dksX24_isOf_0 19 rfl rfl)
theorem dX24_isOf_20 : decode cX24_isOf 20 = .ok (.iconst 4, 1) := dk_7 (dk_at dksX24_isOf_0 20 rfl rfl)
theorem dX24_isOf_21 : decode cX24_isOf 21 = .ok (.if_icmp .eq 14, 3) := dk_159 0 14 (dk_at dksX24_isOf_0 21 rfl rfl)
theorem dX24_isOf_24 : decode cX24_isOf 24 = .ok (.iload_n 2, 1) := dk_28 (dk_at dksX24_isOf_1 0 rfl rfl)
theorem dX24_isOf_25 : decode cX24_isOf 25 = .ok (.iconst 5, 1) := dk_8 (dk_at dksX24_isOf_1 1 rfl rfl)
theorem dX24_isOf_26 : decode cX24_isOf 26 = .ok (.if_icmp .ne 13, 3) := dk_160 0 13 (dk_at dksX24_isOf_1 2 rfl rfl)
theorem dX24_isOf_29 : decode cX24_isOf 29 = .ok (.iload_n 1, 1) := dk_27 (dk_at dksX24_isOf_1 5 rfl rfl)
theorem dX24_isOf_30 : decode cX24_isOf 30 = .ok (.bipush 6, 2) := dk_16 6 (dk_at dksX24_isOf_1 6 rfl rfl)
theorem dX24_isOf_32 : decode cX24_isOf 32 = .ok (.if_icmp .ne 7, 3) := dk_160 0 7 (dk_at dksX24_isOf_1 8 rfl rfl)
theorem dX24_isOf_35 : decode cX24_isOf 35 = .ok (.iconst 1, 1) := dk_4 (dk_at dksX24_isOf_1 11 rfl rfl)
theorem dX24_isOf_36 : decode cX24_isOf 36 = .ok (.goto 4, 3) := dk_167 0 4 (dk_at dksX24_isOf_1 12 rfl rfl)
theorem dX24_isOf_39 : decode cX24_isOf 39 = .ok (.iconst 0, 1) := dk_3 (dk_at dksX24_isOf_1 15 rfl rfl)
theorem dX24_isOf_40 : decode cX24_isOf 40 = .ok (.ireturn, 1) := dk_172 (dk_at dksX24_isOf_1 16 rfl rfl)
abbrev cX24_root : ByteArray := prog_53_method_21_code
def yX24_root : MethodName := ⟨RX24, "root", "(I)I"⟩
def dkwX24_root_0 : List UInt8 := [27, 61, 42, 180, 0, 53, 28, 46, 28, 159, 0, 13, 42, 180, 0, 53, 28, 46, 61, 167, 255, 239, 28, 172]
abbrev dktX24_root_0 : List UInt8 := dkwX24_root_0 ++ []
theorem dksX24_root_0 : cX24_root.data.toList.drop 0 = dktX24_root_0 := by decide +kernel
theorem dX24_root_0 : decode cX24_root 0 = .ok (.iload_n 1, 1) := dk_27 (dk_at dksX24_root_0 0 rfl rfl)
theorem dX24_root_1 : decode cX24_root 1 = .ok (.istore_n 2, 1) := dk_61 (dk_at dksX24_root_0 1 rfl rfl)
theorem dX24_root_2 : decode cX24_root 2 = .ok (.aload_n 0, 1) := dk_42 (dk_at dksX24_root_0 2 rfl rfl)
theorem dX24_root_3 : decode cX24_root 3 = .ok (.getfield 53, 3) := dk_180 0 53 (dk_at dksX24_root_0 3 rfl rfl)
theorem dX24_root_6 : decode cX24_root 6 = .ok (.iload_n 2, 1) := dk_28 (dk_at dksX24_root_0 6 rfl rfl)
theorem dX24_root_7 : decode cX24_root 7 = .ok (.iaload, 1) := dk_46 (dk_at dksX24_root_0 7 rfl rfl)
theorem dX24_root_8 : decode cX24_root 8 = .ok (.iload_n 2, 1) := dk_28 (dk_at dksX24_root_0 8 rfl rfl)
theorem dX24_root_9 : decode cX24_root 9 = .ok (.if_icmp .eq 13, 3) := dk_159 0 13 (dk_at dksX24_root_0 9 rfl rfl)
theorem dX24_root_12 : decode cX24_root 12 = .ok (.aload_n 0, 1) := dk_42 (dk_at dksX24_root_0 12 rfl rfl)
theorem dX24_root_13 : decode cX24_root 13 = .ok (.getfield 53, 3) := dk_180 0 53 (dk_at dksX24_root_0 13 rfl rfl)
theorem dX24_root_16 : decode cX24_root 16 = .ok (.iload_n 2, 1) := dk_28 (dk_at dksX24_root_0 16 rfl rfl)
theorem dX24_root_17 : decode cX24_root 17 = .ok (.iaload, 1) := dk_46 (dk_at dksX24_root_0 17 rfl rfl)
theorem dX24_root_18 : decode cX24_root 18 = .ok (.istore_n 2, 1) := dk_61 (dk_at dksX24_root_0 18 rfl rfl)
theorem dX24_root_19 : decode cX24_root 19 = .ok (.goto (-17), 3) := dk_167 255 239 (dk_at dksX24_root_0 19 rfl rfl)
theorem dX24_root_22 : decode cX24_root 22 = .ok (.iload_n 2, 1) := dk_28 (dk_at dksX24_root_0 22 rfl rfl)
theorem dX24_root_23 : decode cX24_root 23 = .ok (.ireturn, 1) := dk_172 (dk_at dksX24_root_0 23 rfl rfl)
abbrev cX24_table : ByteArray := prog_53_method_17_code
def yX24_table : MethodName := ⟨RX24, "table", "(IIII)I"⟩
def dkwX24_table_5 : List UInt8 := [89, 180, 0, 232, 4, 96, 181, 0, 232, 42, 180, 0, 232, 4, 100, 172]
abbrev dktX24_table_5 : List UInt8 := dkwX24_table_5 ++ []
def dkwX24_table_4 : List UInt8 := [28, 79, 42, 180, 0, 32, 42, 180, 0, 232, 29, 79, 42, 180, 0, 35, 42, 180, 0, 232, 21, 4, 79, 42]
abbrev dktX24_table_4 : List UInt8 := dkwX24_table_4 ++ dktX24_table_5
def dkwX24_table_3 : List UInt8 := [16, 249, 182, 0, 206, 172, 42, 180, 0, 26, 42, 180, 0, 232, 27, 79, 42, 180, 0, 29, 42, 180, 0, 232]
abbrev dktX24_table_3 : List UInt8 := dkwX24_table_3 ++ dktX24_table_4
def dkwX24_table_2 : List UInt8 := [182, 0, 229, 154, 0, 10, 42, 16, 250, 182, 0, 206, 172, 42, 180, 0, 232, 16, 8, 160, 0, 10, 42]
abbrev dktX24_table_2 : List UInt8 := dkwX24_table_2 ++ dktX24_table_3
def dkwX24_table_1 : List UInt8 := [159, 0, 12, 42, 28, 29, 182, 0, 229, 153, 0, 19, 21, 4, 7, 159, 0, 20, 42, 28, 21, 4]
abbrev dktX24_table_1 : List UInt8 := dkwX24_table_1 ++ dktX24_table_2
def dkwX24_table_0 : List UInt8 := [27, 4, 161, 0, 50, 27, 18, 228, 163, 0, 44, 28, 4, 161, 0, 39, 28, 16, 15, 163, 0, 33, 29, 2]
abbrev dktX24_table_0 : List UInt8 := dkwX24_table_0 ++ dktX24_table_1
theorem dksX24_table_0 : cX24_table.data.toList.drop 0 = dktX24_table_0 := by decide +kernel
theorem dksX24_table_1 : cX24_table.data.toList.drop 24 = dktX24_table_1 := dk_seg dksX24_table_0 24 rfl rfl
theorem dksX24_table_2 : cX24_table.data.toList.drop 46 = dktX24_table_2 := dk_seg dksX24_table_1 22 rfl rfl
theorem dksX24_table_3 : cX24_table.data.toList.drop 69 = dktX24_table_3 := dk_seg dksX24_table_2 23 rfl rfl
theorem dksX24_table_4 : cX24_table.data.toList.drop 93 = dktX24_table_4 := dk_seg dksX24_table_3 24 rfl rfl
theorem dksX24_table_5 : cX24_table.data.toList.drop 117 = dktX24_table_5 := dk_seg dksX24_table_4 24 rfl rfl
theorem dX24_table_0 : decode cX24_table 0 = .ok (.iload_n 1, 1) := dk_27 (dk_at dksX24_table_0 0 rfl rfl)
theorem dX24_table_1 : decode cX24_table 1 = .ok (.iconst 1, 1) := dk_4 (dk_at dksX24_table_0 1 rfl rfl)
theorem dX24_table_2 : decode cX24_table 2 = .ok (.if_icmp .lt 50, 3) := dk_161 0 50 (dk_at dksX24_table_0 2 rfl rfl)
theorem dX24_table_5 : decode cX24_table 5 = .ok (.iload_n 1, 1) := dk_27 (dk_at dksX24_table_0 5 rfl rfl)
theorem dX24_table_6 : decode cX24_table 6 = .ok (.ldc 228, 2) := dk_18 228 (dk_at dksX24_table_0 6 rfl rfl)
theorem dX24_table_8 : decode cX24_table 8 = .ok (.if_icmp .gt 44, 3) := dk_163 0 44 (dk_at dksX24_table_0 8 rfl rfl)
theorem dX24_table_11 : decode cX24_table 11 = .ok (.iload_n 2, 1) := dk_28 (dk_at dksX24_table_0 11 rfl rfl)
theorem dX24_table_12 : decode cX24_table 12 = .ok (.iconst 1, 1) := dk_4 (dk_at dksX24_table_0 12 rfl rfl)
theorem dX24_table_13 : decode cX24_table 13 = .ok (.if_icmp .lt 39, 3) := dk_161 0 39 (dk_at dksX24_table_0 13 rfl rfl)
theorem dX24_table_16 : decode cX24_table 16 = .ok (.iload_n 2, 1) := dk_28 (dk_at dksX24_table_0 16 rfl rfl)
theorem dX24_table_17 : decode cX24_table 17 = .ok (.bipush 15, 2) := dk_16 15 (dk_at dksX24_table_0 17 rfl rfl)
theorem dX24_table_19 : decode cX24_table 19 = .ok (.if_icmp .gt 33, 3) := dk_163 0 33 (dk_at dksX24_table_0 19 rfl rfl)
theorem dX24_table_22 : decode cX24_table 22 = .ok (.iload_n 3, 1) := dk_29 (dk_at dksX24_table_0 22 rfl rfl)
theorem dX24_table_23 : decode cX24_table 23 = .ok (.iconst (-1), 1) := dk_2 (dk_at dksX24_table_0 23 rfl rfl)
theorem dX24_table_24 : decode cX24_table 24 = .ok (.if_icmp .eq 12, 3) := dk_159 0 12 (dk_at dksX24_table_1 0 rfl rfl)
theorem dX24_table_27 : decode cX24_table 27 = .ok (.aload_n 0, 1) := dk_42 (dk_at dksX24_table_1 3 rfl rfl)
theorem dX24_table_28 : decode cX24_table 28 = .ok (.iload_n 2, 1) := dk_28 (dk_at dksX24_table_1 4 rfl rfl)
theorem dX24_table_29 : decode cX24_table 29 = .ok (.iload_n 3, 1) := dk_29 (dk_at dksX24_table_1 5 rfl rfl)
theorem dX24_table_30 : decode cX24_table 30 = .ok (.invokevirtual 229, 3) := dk_182 0 229 (dk_at dksX24_table_1 6 rfl rfl)
theorem dX24_table_33 : decode cX24_table 33 = .ok (.ifCond .eq 19, 3) := dk_153 0 19 (dk_at dksX24_table_1 9 rfl rfl)
theorem dX24_table_36 : decode cX24_table 36 = .ok (.iload 4, 2) := dk_21 4 (dk_at dksX24_table_1 12 rfl rfl)
theorem dX24_table_38 : decode cX24_table 38 = .ok (.iconst 4, 1) := dk_7 (dk_at dksX24_table_1 14 rfl rfl)
theorem dX24_table_39 : decode cX24_table 39 = .ok (.if_icmp .eq 20, 3) := dk_159 0 20 (dk_at dksX24_table_1 15 rfl rfl)
theorem dX24_table_42 : decode cX24_table 42 = .ok (.aload_n 0, 1) := dk_42 (dk_at dksX24_table_1 18 rfl rfl)
theorem dX24_table_43 : decode cX24_table 43 = .ok (.iload_n 2, 1) := dk_28 (dk_at dksX24_table_1 19 rfl rfl)
theorem dX24_table_44 : decode cX24_table 44 = .ok (.iload 4, 2) := dk_21 4 (dk_at dksX24_table_1 20 rfl rfl)
theorem dX24_table_46 : decode cX24_table 46 = .ok (.invokevirtual 229, 3) := dk_182 0 229 (dk_at dksX24_table_2 0 rfl rfl)
theorem dX24_table_49 : decode cX24_table 49 = .ok (.ifCond .ne 10, 3) := dk_154 0 10 (dk_at dksX24_table_2 3 rfl rfl)
theorem dX24_table_52 : decode cX24_table 52 = .ok (.aload_n 0, 1) := dk_42 (dk_at dksX24_table_2 6 rfl rfl)
theorem dX24_table_53 : decode cX24_table 53 = .ok (.bipush (-6), 2) := dk_16 250 (dk_at dksX24_table_2 7 rfl rfl)
theorem dX24_table_55 : decode cX24_table 55 = .ok (.invokevirtual 206, 3) := dk_182 0 206 (dk_at dksX24_table_2 9 rfl rfl)
theorem dX24_table_58 : decode cX24_table 58 = .ok (.ireturn, 1) := dk_172 (dk_at dksX24_table_2 12 rfl rfl)
theorem dX24_table_59 : decode cX24_table 59 = .ok (.aload_n 0, 1) := dk_42 (dk_at dksX24_table_2 13 rfl rfl)
theorem dX24_table_60 : decode cX24_table 60 = .ok (.getfield 232, 3) := dk_180 0 232 (dk_at dksX24_table_2 14 rfl rfl)
theorem dX24_table_63 : decode cX24_table 63 = .ok (.bipush 8, 2) := dk_16 8 (dk_at dksX24_table_2 17 rfl rfl)
theorem dX24_table_65 : decode cX24_table 65 = .ok (.if_icmp .ne 10, 3) := dk_160 0 10 (dk_at dksX24_table_2 19 rfl rfl)
theorem dX24_table_68 : decode cX24_table 68 = .ok (.aload_n 0, 1) := dk_42 (dk_at dksX24_table_2 22 rfl rfl)
theorem dX24_table_69 : decode cX24_table 69 = .ok (.bipush (-7), 2) := dk_16 249 (dk_at dksX24_table_3 0 rfl rfl)
theorem dX24_table_71 : decode cX24_table 71 = .ok (.invokevirtual 206, 3) := dk_182 0 206 (dk_at dksX24_table_3 2 rfl rfl)
theorem dX24_table_74 : decode cX24_table 74 = .ok (.ireturn, 1) := dk_172 (dk_at dksX24_table_3 5 rfl rfl)
theorem dX24_table_75 : decode cX24_table 75 = .ok (.aload_n 0, 1) := dk_42 (dk_at dksX24_table_3 6 rfl rfl)
theorem dX24_table_76 : decode cX24_table 76 = .ok (.getfield 26, 3) := dk_180 0 26 (dk_at dksX24_table_3 7 rfl rfl)
theorem dX24_table_79 : decode cX24_table 79 = .ok (.aload_n 0, 1) := dk_42 (dk_at dksX24_table_3 10 rfl rfl)
theorem dX24_table_80 : decode cX24_table 80 = .ok (.getfield 232, 3) := dk_180 0 232 (dk_at dksX24_table_3 11 rfl rfl)
theorem dX24_table_83 : decode cX24_table 83 = .ok (.iload_n 1, 1) := dk_27 (dk_at dksX24_table_3 14 rfl rfl)
theorem dX24_table_84 : decode cX24_table 84 = .ok (.iastore, 1) := dk_79 (dk_at dksX24_table_3 15 rfl rfl)
theorem dX24_table_85 : decode cX24_table 85 = .ok (.aload_n 0, 1) := dk_42 (dk_at dksX24_table_3 16 rfl rfl)
theorem dX24_table_86 : decode cX24_table 86 = .ok (.getfield 29, 3) := dk_180 0 29 (dk_at dksX24_table_3 17 rfl rfl)
theorem dX24_table_89 : decode cX24_table 89 = .ok (.aload_n 0, 1) := dk_42 (dk_at dksX24_table_3 20 rfl rfl)
theorem dX24_table_90 : decode cX24_table 90 = .ok (.getfield 232, 3) := dk_180 0 232 (dk_at dksX24_table_3 21 rfl rfl)
theorem dX24_table_93 : decode cX24_table 93 = .ok (.iload_n 2, 1) := dk_28 (dk_at dksX24_table_4 0 rfl rfl)
theorem dX24_table_94 : decode cX24_table 94 = .ok (.iastore, 1) := dk_79 (dk_at dksX24_table_4 1 rfl rfl)
theorem dX24_table_95 : decode cX24_table 95 = .ok (.aload_n 0, 1) := dk_42 (dk_at dksX24_table_4 2 rfl rfl)
theorem dX24_table_96 : decode cX24_table 96 = .ok (.getfield 32, 3) := dk_180 0 32 (dk_at dksX24_table_4 3 rfl rfl)
theorem dX24_table_99 : decode cX24_table 99 = .ok (.aload_n 0, 1) := dk_42 (dk_at dksX24_table_4 6 rfl rfl)
theorem dX24_table_100 : decode cX24_table 100 = .ok (.getfield 232, 3) := dk_180 0 232 (dk_at dksX24_table_4 7 rfl rfl)
theorem dX24_table_103 : decode cX24_table 103 = .ok (.iload_n 3, 1) := dk_29 (dk_at dksX24_table_4 10 rfl rfl)
theorem dX24_table_104 : decode cX24_table 104 = .ok (.iastore, 1) := dk_79 (dk_at dksX24_table_4 11 rfl rfl)
theorem dX24_table_105 : decode cX24_table 105 = .ok (.aload_n 0, 1) := dk_42 (dk_at dksX24_table_4 12 rfl rfl)
theorem dX24_table_106 : decode cX24_table 106 = .ok (.getfield 35, 3) := dk_180 0 35 (dk_at dksX24_table_4 13 rfl rfl)
theorem dX24_table_109 : decode cX24_table 109 = .ok (.aload_n 0, 1) := dk_42 (dk_at dksX24_table_4 16 rfl rfl)
theorem dX24_table_110 : decode cX24_table 110 = .ok (.getfield 232, 3) := dk_180 0 232 (dk_at dksX24_table_4 17 rfl rfl)
theorem dX24_table_113 : decode cX24_table 113 = .ok (.iload 4, 2) := dk_21 4 (dk_at dksX24_table_4 20 rfl rfl)
theorem dX24_table_115 : decode cX24_table 115 = .ok (.iastore, 1) := dk_79 (dk_at dksX24_table_4 22 rfl rfl)
theorem dX24_table_116 : decode cX24_table 116 = .ok (.aload_n 0, 1) := dk_42 (dk_at dksX24_table_4 23 rfl rfl)
theorem dX24_table_117 : decode cX24_table 117 = .ok (.dup, 1) := dk_89 (dk_at dksX24_table_5 0 rfl rfl)
theorem dX24_table_118 : decode cX24_table 118 = .ok (.getfield 232, 3) := dk_180 0 232 (dk_at dksX24_table_5 1 rfl rfl)
theorem dX24_table_121 : decode cX24_table 121 = .ok (.iconst 1, 1) := dk_4 (dk_at dksX24_table_5 4 rfl rfl)
theorem dX24_table_122 : decode cX24_table 122 = .ok (.iadd, 1) := dk_96 (dk_at dksX24_table_5 5 rfl rfl)
theorem dX24_table_123 : decode cX24_table 123 = .ok (.putfield 232, 3) := dk_181 0 232 (dk_at dksX24_table_5 6 rfl rfl)
theorem dX24_table_126 : decode cX24_table 126 = .ok (.aload_n 0, 1) := dk_42 (dk_at dksX24_table_5 9 rfl rfl)
theorem dX24_table_127 : decode cX24_table 127 = .ok (.getfield 232, 3) := dk_180 0 232 (dk_at dksX24_table_5 10 rfl rfl)
theorem dX24_table_130 : decode cX24_table 130 = .ok (.iconst 1, 1) := dk_4 (dk_at dksX24_table_5 13 rfl rfl)
theorem dX24_table_131 : decode cX24_table 131 = .ok (.isub, 1) := dk_100 (dk_at dksX24_table_5 14 rfl rfl)
theorem dX24_table_132 : decode cX24_table 132 = .ok (.ireturn, 1) := dk_172 (dk_at dksX24_table_5 15 rfl rfl)
abbrev cX24_isColumn : ByteArray := prog_53_method_18_code
def yX24_isColumn : MethodName := ⟨RX24, "isColumn", "(II)Z"⟩
def dkwX24_isColumn_0 : List UInt8 := [28, 155, 0, 21, 28, 7, 162, 0, 16, 27, 28, 122, 4, 126, 4, 160, 0, 7, 4, 167, 0, 4, 3, 172]
abbrev dktX24_isColumn_0 : List UInt8 := dkwX24_isColumn_0 ++ []
theorem dksX24_isColumn_0 : cX24_isColumn.data.toList.drop 0 = dktX24_isColumn_0 := by decide +kernel
theorem dX24_isColumn_0 : decode cX24_isColumn 0 = .ok (.iload_n 2, 1) := dk_28 (dk_at dksX24_isColumn_0 0 rfl rfl)
theorem dX24_isColumn_1 : decode cX24_isColumn 1 = .ok (.ifCond .lt 21, 3) := dk_155 0 21 (dk_at dksX24_isColumn_0 1 rfl rfl)
theorem dX24_isColumn_4 : decode cX24_isColumn 4 = .ok (.iload_n 2, 1) := dk_28 (dk_at dksX24_isColumn_0 4 rfl rfl)
theorem dX24_isColumn_5 : decode cX24_isColumn 5 = .ok (.iconst 4, 1) := dk_7 (dk_at dksX24_isColumn_0 5 rfl rfl)
theorem dX24_isColumn_6 : decode cX24_isColumn 6 = .ok (.if_icmp .ge 16, 3) := dk_162 0 16 (dk_at dksX24_isColumn_0 6 rfl rfl)
theorem dX24_isColumn_9 : decode cX24_isColumn 9 = .ok (.iload_n 1, 1) := dk_27 (dk_at dksX24_isColumn_0 9 rfl rfl)
theorem dX24_isColumn_10 : decode cX24_isColumn 10 = .ok (.iload_n 2, 1) := dk_28 (dk_at dksX24_isColumn_0 10 rfl rfl)
theorem dX24_isColumn_11 : decode cX24_isColumn 11 = .ok (.ishr, 1) := dk_122 (dk_at dksX24_isColumn_0 11 rfl rfl)
theorem dX24_isColumn_12 : decode cX24_isColumn 12 = .ok (.iconst 1, 1) := dk_4 (dk_at dksX24_isColumn_0 12 rfl rfl)
theorem dX24_isColumn_13 : decode cX24_isColumn 13 = .ok (.iand, 1) := dk_126 (dk_at dksX24_isColumn_0 13 rfl rfl)
theorem dX24_isColumn_14 : decode cX24_isColumn 14 = .ok (.iconst 1, 1) := dk_4 (dk_at dksX24_isColumn_0 14 rfl rfl)
theorem dX24_isColumn_15 : decode cX24_isColumn 15 = .ok (.if_icmp .ne 7, 3) := dk_160 0 7 (dk_at dksX24_isColumn_0 15 rfl rfl)
theorem dX24_isColumn_18 : decode cX24_isColumn 18 = .ok (.iconst 1, 1) := dk_4 (dk_at dksX24_isColumn_0 18 rfl rfl)
theorem dX24_isColumn_19 : decode cX24_isColumn 19 = .ok (.goto 4, 3) := dk_167 0 4 (dk_at dksX24_isColumn_0 19 rfl rfl)
theorem dX24_isColumn_22 : decode cX24_isColumn 22 = .ok (.iconst 0, 1) := dk_3 (dk_at dksX24_isColumn_0 22 rfl rfl)
theorem dX24_isColumn_23 : decode cX24_isColumn 23 = .ok (.ireturn, 1) := dk_172 (dk_at dksX24_isColumn_0 23 rfl rfl)
abbrev cX24_tableOf : ByteArray := prog_53_method_19_code
def yX24_tableOf : MethodName := ⟨RX24, "tableOf", "(II)I"⟩
def dkwX24_tableOf_3 : List UInt8 := [180, 0, 35, 27, 46, 172]
abbrev dktX24_tableOf_3 : List UInt8 := dkwX24_tableOf_3 ++ []
def dkwX24_tableOf_2 : List UInt8 := [42, 180, 0, 29, 27, 46, 167, 0, 23, 28, 5, 160, 0, 12, 42, 180, 0, 32, 27, 46, 167, 0, 9, 42]
abbrev dktX24_tableOf_2 : List UInt8 := dkwX24_tableOf_2 ++ dktX24_tableOf_3
def dkwX24_tableOf_1 : List UInt8 := [16, 251, 182, 0, 206, 172, 28, 154, 0, 12, 42, 180, 0, 26, 27, 46, 167, 0, 37, 28, 4, 160, 0, 12]
abbrev dktX24_tableOf_1 : List UInt8 := dkwX24_tableOf_1 ++ dktX24_tableOf_2
def dkwX24_tableOf_0 : List UInt8 := [27, 155, 0, 21, 27, 42, 180, 0, 232, 162, 0, 13, 42, 28, 3, 6, 182, 0, 217, 154, 0, 10, 42]
abbrev dktX24_tableOf_0 : List UInt8 := dkwX24_tableOf_0 ++ dktX24_tableOf_1
theorem dksX24_tableOf_0 : cX24_tableOf.data.toList.drop 0 = dktX24_tableOf_0 := by decide +kernel
theorem dksX24_tableOf_1 : cX24_tableOf.data.toList.drop 23 = dktX24_tableOf_1 := dk_seg dksX24_tableOf_0 23 rfl rfl
theorem dksX24_tableOf_2 : cX24_tableOf.data.toList.drop 47 = dktX24_tableOf_2 := dk_seg dksX24_tableOf_1 24 rfl rfl
theorem dksX24_tableOf_3 : cX24_tableOf.data.toList.drop 71 = dktX24_tableOf_3 := dk_seg dksX24_tableOf_2 24 rfl rfl
theorem dX24_tableOf_0 : decode cX24_tableOf 0 = .ok (.iload_n 1, 1) := dk_27 (dk_at dksX24_tableOf_0 0 rfl rfl)
theorem dX24_tableOf_1 : decode cX24_tableOf 1 = .ok (.ifCond .lt 21, 3) := dk_155 0 21 (dk_at dksX24_tableOf_0 1 rfl rfl)
theorem dX24_tableOf_4 : decode cX24_tableOf 4 = .ok (.iload_n 1, 1) := dk_27 (dk_at dksX24_tableOf_0 4 rfl rfl)
theorem dX24_tableOf_5 : decode cX24_tableOf 5 = .ok (.aload_n 0, 1) := dk_42 (dk_at dksX24_tableOf_0 5 rfl rfl)
theorem dX24_tableOf_6 : decode cX24_tableOf 6 = .ok (.getfield 232, 3) := dk_180 0 232 (dk_at dksX24_tableOf_0 6 rfl rfl)
theorem dX24_tableOf_9 : decode cX24_tableOf 9 = .ok (.if_icmp .ge 13, 3) := dk_162 0 13 (dk_at dksX24_tableOf_0 9 rfl rfl)
theorem dX24_tableOf_12 : decode cX24_tableOf 12 = .ok (.aload_n 0, 1) := dk_42 (dk_at dksX24_tableOf_0 12 rfl rfl)
theorem dX24_tableOf_13 : decode cX24_tableOf 13 = .ok (.iload_n 2, 1) := dk_28 (dk_at dksX24_tableOf_0 13 rfl rfl)
theorem dX24_tableOf_14 : decode cX24_tableOf 14 = .ok (.iconst 0, 1) := dk_3 (dk_at dksX24_tableOf_0 14 rfl rfl)
theorem dX24_tableOf_15 : decode cX24_tableOf 15 = .ok (.iconst 3, 1) := dk_6 (dk_at dksX24_tableOf_0 15 rfl rfl)
theorem dX24_tableOf_16 : decode cX24_tableOf 16 = .ok (.invokevirtual 217, 3) := dk_182 0 217 (dk_at dksX24_tableOf_0 16 rfl rfl)
theorem dX24_tableOf_19 : decode cX24_tableOf 19 = .ok (.ifCond .ne 10, 3) := dk_154 0 10 (dk_at dksX24_tableOf_0 19 rfl rfl)
theorem dX24_tableOf_22 : decode cX24_tableOf 22 = .ok (.aload_n 0, 1) := dk_42 (dk_at dksX24_tableOf_0 22 rfl rfl)
theorem dX24_tableOf_23 : decode cX24_tableOf 23 = .ok (.bipush (-5), 2) := dk_16 251 (dk_at dksX24_tableOf_1 0 rfl rfl)
theorem dX24_tableOf_25 : decode cX24_tableOf 25 = .ok (.invokevirtual 206, 3) := dk_182 0 206 (dk_at dksX24_tableOf_1 2 rfl rfl)
theorem dX24_tableOf_28 : decode cX24_tableOf 28 = .ok (.ireturn, 1) := dk_172 (dk_at dksX24_tableOf_1 5 rfl rfl)
theorem dX24_tableOf_29 : decode cX24_tableOf 29 = .ok (.iload_n 2, 1) := dk_28 (dk_at dksX24_tableOf_1 6 rfl rfl)
theorem dX24_tableOf_30 : decode cX24_tableOf 30 = .ok (.ifCond .ne 12, 3) := dk_154 0 12 (dk_at dksX24_tableOf_1 7 rfl rfl)
theorem dX24_tableOf_33 : decode cX24_tableOf 33 = .ok (.aload_n 0, 1) := dk_42 (dk_at dksX24_tableOf_1 10 rfl rfl)
theorem dX24_tableOf_34 : decode cX24_tableOf 34 = .ok (.getfield 26, 3) := dk_180 0 26 (dk_at dksX24_tableOf_1 11 rfl rfl)
theorem dX24_tableOf_37 : decode cX24_tableOf 37 = .ok (.iload_n 1, 1) := dk_27 (dk_at dksX24_tableOf_1 14 rfl rfl)
theorem dX24_tableOf_38 : decode cX24_tableOf 38 = .ok (.iaload, 1) := dk_46 (dk_at dksX24_tableOf_1 15 rfl rfl)
theorem dX24_tableOf_39 : decode cX24_tableOf 39 = .ok (.goto 37, 3) := dk_167 0 37 (dk_at dksX24_tableOf_1 16 rfl rfl)
theorem dX24_tableOf_42 : decode cX24_tableOf 42 = .ok (.iload_n 2, 1) := dk_28 (dk_at dksX24_tableOf_1 19 rfl rfl)
theorem dX24_tableOf_43 : decode cX24_tableOf 43 = .ok (.iconst 1, 1) := dk_4 (dk_at dksX24_tableOf_1 20 rfl rfl)
theorem dX24_tableOf_44 : decode cX24_tableOf 44 = .ok (.if_icmp .ne 12, 3) := dk_160 0 12 (dk_at dksX24_tableOf_1 21 rfl rfl)
theorem dX24_tableOf_47 : decode cX24_tableOf 47 = .ok (.aload_n 0, 1) := dk_42 (dk_at dksX24_tableOf_2 0 rfl rfl)
theorem dX24_tableOf_48 : decode cX24_tableOf 48 = .ok (.getfield 29, 3) := dk_180 0 29 (dk_at dksX24_tableOf_2 1 rfl rfl)
theorem dX24_tableOf_51 : decode cX24_tableOf 51 = .ok (.iload_n 1, 1) := dk_27 (dk_at dksX24_tableOf_2 4 rfl rfl)
theorem dX24_tableOf_52 : decode cX24_tableOf 52 = .ok (.iaload, 1) := dk_46 (dk_at dksX24_tableOf_2 5 rfl rfl)
theorem dX24_tableOf_53 : decode cX24_tableOf 53 = .ok (.goto 23, 3) := dk_167 0 23 (dk_at dksX24_tableOf_2 6 rfl rfl)
theorem dX24_tableOf_56 : decode cX24_tableOf 56 = .ok (.iload_n 2, 1) := dk_28 (dk_at dksX24_tableOf_2 9 rfl rfl)
theorem dX24_tableOf_57 : decode cX24_tableOf 57 = .ok (.iconst 2, 1) := dk_5 (dk_at dksX24_tableOf_2 10 rfl rfl)
theorem dX24_tableOf_58 : decode cX24_tableOf 58 = .ok (.if_icmp .ne 12, 3) := dk_160 0 12 (dk_at dksX24_tableOf_2 11 rfl rfl)
theorem dX24_tableOf_61 : decode cX24_tableOf 61 = .ok (.aload_n 0, 1) := dk_42 (dk_at dksX24_tableOf_2 14 rfl rfl)
theorem dX24_tableOf_62 : decode cX24_tableOf 62 = .ok (.getfield 32, 3) := dk_180 0 32 (dk_at dksX24_tableOf_2 15 rfl rfl)
theorem dX24_tableOf_65 : decode cX24_tableOf 65 = .ok (.iload_n 1, 1) := dk_27 (dk_at dksX24_tableOf_2 18 rfl rfl)
theorem dX24_tableOf_66 : decode cX24_tableOf 66 = .ok (.iaload, 1) := dk_46 (dk_at dksX24_tableOf_2 19 rfl rfl)
theorem dX24_tableOf_67 : decode cX24_tableOf 67 = .ok (.goto 9, 3) := dk_167 0 9 (dk_at dksX24_tableOf_2 20 rfl rfl)
theorem dX24_tableOf_70 : decode cX24_tableOf 70 = .ok (.aload_n 0, 1) := dk_42 (dk_at dksX24_tableOf_2 23 rfl rfl)
theorem dX24_tableOf_71 : decode cX24_tableOf 71 = .ok (.getfield 35, 3) := dk_180 0 35 (dk_at dksX24_tableOf_3 0 rfl rfl)
theorem dX24_tableOf_74 : decode cX24_tableOf 74 = .ok (.iload_n 1, 1) := dk_27 (dk_at dksX24_tableOf_3 3 rfl rfl)
theorem dX24_tableOf_75 : decode cX24_tableOf 75 = .ok (.iaload, 1) := dk_46 (dk_at dksX24_tableOf_3 4 rfl rfl)
theorem dX24_tableOf_76 : decode cX24_tableOf 76 = .ok (.ireturn, 1) := dk_172 (dk_at dksX24_tableOf_3 5 rfl rfl)
abbrev cX24_distinct : ByteArray := prog_53_method_20_code
def yX24_distinct : MethodName := ⟨RX24, "distinct", "(II)I"⟩
def dkwX24_distinct_2 : List UInt8 := [29, 172]
abbrev dktX24_distinct_2 : List UInt8 := dkwX24_distinct_2 ++ []
def dkwX24_distinct_1 : List UInt8 := [164, 0, 10, 42, 16, 250, 182, 0, 206, 172, 42, 180, 0, 23, 27, 46, 62, 42, 180, 0, 23, 27, 28, 79]
abbrev dktX24_distinct_1 : List UInt8 := dkwX24_distinct_1 ++ dktX24_distinct_2
def dkwX24_distinct_0 : List UInt8 := [42, 27, 3, 6, 182, 0, 217, 154, 0, 9, 42, 2, 182, 0, 206, 172, 28, 4, 161, 0, 9, 28, 18, 228]
abbrev dktX24_distinct_0 : List UInt8 := dkwX24_distinct_0 ++ dktX24_distinct_1
theorem dksX24_distinct_0 : cX24_distinct.data.toList.drop 0 = dktX24_distinct_0 := by decide +kernel
theorem dksX24_distinct_1 : cX24_distinct.data.toList.drop 24 = dktX24_distinct_1 := dk_seg dksX24_distinct_0 24 rfl rfl
theorem dksX24_distinct_2 : cX24_distinct.data.toList.drop 48 = dktX24_distinct_2 := dk_seg dksX24_distinct_1 24 rfl rfl
theorem dX24_distinct_0 : decode cX24_distinct 0 = .ok (.aload_n 0, 1) := dk_42 (dk_at dksX24_distinct_0 0 rfl rfl)
theorem dX24_distinct_1 : decode cX24_distinct 1 = .ok (.iload_n 1, 1) := dk_27 (dk_at dksX24_distinct_0 1 rfl rfl)
theorem dX24_distinct_2 : decode cX24_distinct 2 = .ok (.iconst 0, 1) := dk_3 (dk_at dksX24_distinct_0 2 rfl rfl)
theorem dX24_distinct_3 : decode cX24_distinct 3 = .ok (.iconst 3, 1) := dk_6 (dk_at dksX24_distinct_0 3 rfl rfl)
theorem dX24_distinct_4 : decode cX24_distinct 4 = .ok (.invokevirtual 217, 3) := dk_182 0 217 (dk_at dksX24_distinct_0 4 rfl rfl)
theorem dX24_distinct_7 : decode cX24_distinct 7 = .ok (.ifCond .ne 9, 3) := dk_154 0 9 (dk_at dksX24_distinct_0 7 rfl rfl)
theorem dX24_distinct_10 : decode cX24_distinct 10 = .ok (.aload_n 0, 1) := dk_42 (dk_at dksX24_distinct_0 10 rfl rfl)
theorem dX24_distinct_11 : decode cX24_distinct 11 = .ok (.iconst (-1), 1) := dk_2 (dk_at dksX24_distinct_0 11 rfl rfl)
theorem dX24_distinct_12 : decode cX24_distinct 12 = .ok (.invokevirtual 206, 3) := dk_182 0 206 (dk_at dksX24_distinct_0 12 rfl rfl)
theorem dX24_distinct_15 : decode cX24_distinct 15 = .ok (.ireturn, 1) := dk_172 (dk_at dksX24_distinct_0 15 rfl rfl)
theorem dX24_distinct_16 : decode cX24_distinct 16 = .ok (.iload_n 2, 1) := dk_28 (dk_at dksX24_distinct_0 16 rfl rfl)
theorem dX24_distinct_17 : decode cX24_distinct 17 = .ok (.iconst 1, 1) := dk_4 (dk_at dksX24_distinct_0 17 rfl rfl)
theorem dX24_distinct_18 : decode cX24_distinct 18 = .ok (.if_icmp .lt 9, 3) := dk_161 0 9 (dk_at dksX24_distinct_0 18 rfl rfl)
theorem dX24_distinct_21 : decode cX24_distinct 21 = .ok (.iload_n 2, 1) := dk_28 (dk_at dksX24_distinct_0 21 rfl rfl)
theorem dX24_distinct_22 : decode cX24_distinct 22 = .ok (.ldc 228, 2) := dk_18 228 (dk_at dksX24_distinct_0 22 rfl rfl)
theorem dX24_distinct_24 : decode cX24_distinct 24 = .ok (.if_icmp .le 10, 3) := dk_164 0 10 (dk_at dksX24_distinct_1 0 rfl rfl)
theorem dX24_distinct_27 : decode cX24_distinct 27 = .ok (.aload_n 0, 1) := dk_42 (dk_at dksX24_distinct_1 3 rfl rfl)
theorem dX24_distinct_28 : decode cX24_distinct 28 = .ok (.bipush (-6), 2) := dk_16 250 (dk_at dksX24_distinct_1 4 rfl rfl)
theorem dX24_distinct_30 : decode cX24_distinct 30 = .ok (.invokevirtual 206, 3) := dk_182 0 206 (dk_at dksX24_distinct_1 6 rfl rfl)
theorem dX24_distinct_33 : decode cX24_distinct 33 = .ok (.ireturn, 1) := dk_172 (dk_at dksX24_distinct_1 9 rfl rfl)
theorem dX24_distinct_34 : decode cX24_distinct 34 = .ok (.aload_n 0, 1) := dk_42 (dk_at dksX24_distinct_1 10 rfl rfl)
theorem dX24_distinct_35 : decode cX24_distinct 35 = .ok (.getfield 23, 3) := dk_180 0 23 (dk_at dksX24_distinct_1 11 rfl rfl)
theorem dX24_distinct_38 : decode cX24_distinct 38 = .ok (.iload_n 1, 1) := dk_27 (dk_at dksX24_distinct_1 14 rfl rfl)
theorem dX24_distinct_39 : decode cX24_distinct 39 = .ok (.iaload, 1) := dk_46 (dk_at dksX24_distinct_1 15 rfl rfl)
theorem dX24_distinct_40 : decode cX24_distinct 40 = .ok (.istore_n 3, 1) := dk_62 (dk_at dksX24_distinct_1 16 rfl rfl)
theorem dX24_distinct_41 : decode cX24_distinct 41 = .ok (.aload_n 0, 1) := dk_42 (dk_at dksX24_distinct_1 17 rfl rfl)
theorem dX24_distinct_42 : decode cX24_distinct 42 = .ok (.getfield 23, 3) := dk_180 0 23 (dk_at dksX24_distinct_1 18 rfl rfl)
theorem dX24_distinct_45 : decode cX24_distinct 45 = .ok (.iload_n 1, 1) := dk_27 (dk_at dksX24_distinct_1 21 rfl rfl)
theorem dX24_distinct_46 : decode cX24_distinct 46 = .ok (.iload_n 2, 1) := dk_28 (dk_at dksX24_distinct_1 22 rfl rfl)
theorem dX24_distinct_47 : decode cX24_distinct 47 = .ok (.iastore, 1) := dk_79 (dk_at dksX24_distinct_1 23 rfl rfl)
theorem dX24_distinct_48 : decode cX24_distinct 48 = .ok (.iload_n 3, 1) := dk_29 (dk_at dksX24_distinct_2 0 rfl rfl)
theorem dX24_distinct_49 : decode cX24_distinct 49 = .ok (.ireturn, 1) := dk_172 (dk_at dksX24_distinct_2 1 rfl rfl)
abbrev cX24_scan : ByteArray := prog_53_method_29_code
def yX24_scan : MethodName := ⟨RX24, "scan", "(I)I"⟩
def dkwX24_scan_1 : List UInt8 := [3, 182, 1, 9, 172]
abbrev dktX24_scan_1 : List UInt8 := dkwX24_scan_1 ++ []
def dkwX24_scan_0 : List UInt8 := [27, 155, 0, 11, 27, 42, 180, 0, 232, 161, 0, 11, 42, 2, 182, 0, 206, 167, 0, 11, 42, 4, 27, 3]
abbrev dktX24_scan_0 : List UInt8 := dkwX24_scan_0 ++ dktX24_scan_1
theorem dksX24_scan_0 : cX24_scan.data.toList.drop 0 = dktX24_scan_0 := by decide +kernel
theorem dksX24_scan_1 : cX24_scan.data.toList.drop 24 = dktX24_scan_1 := dk_seg dksX24_scan_0 24 rfl rfl
theorem dX24_scan_0 : decode cX24_scan 0 = .ok (.iload_n 1, 1) := dk_27 (dk_at dksX24_scan_0 0 rfl rfl)
theorem dX24_scan_1 : decode cX24_scan 1 = .ok (.ifCond .lt 11, 3) := dk_155 0 11 (dk_at dksX24_scan_0 1 rfl rfl)
theorem dX24_scan_4 : decode cX24_scan 4 = .ok (.iload_n 1, 1) := dk_27 (dk_at dksX24_scan_0 4 rfl rfl)
theorem dX24_scan_5 : decode cX24_scan 5 = .ok (.aload_n 0, 1) := dk_42 (dk_at dksX24_scan_0 5 rfl rfl)
theorem dX24_scan_6 : decode cX24_scan 6 = .ok (.getfield 232, 3) := dk_180 0 232 (dk_at dksX24_scan_0 6 rfl rfl)
theorem dX24_scan_9 : decode cX24_scan 9 = .ok (.if_icmp .lt 11, 3) := dk_161 0 11 (dk_at dksX24_scan_0 9 rfl rfl)
theorem dX24_scan_12 : decode cX24_scan 12 = .ok (.aload_n 0, 1) := dk_42 (dk_at dksX24_scan_0 12 rfl rfl)
theorem dX24_scan_13 : decode cX24_scan 13 = .ok (.iconst (-1), 1) := dk_2 (dk_at dksX24_scan_0 13 rfl rfl)
theorem dX24_scan_14 : decode cX24_scan 14 = .ok (.invokevirtual 206, 3) := dk_182 0 206 (dk_at dksX24_scan_0 14 rfl rfl)
theorem dX24_scan_17 : decode cX24_scan 17 = .ok (.goto 11, 3) := dk_167 0 11 (dk_at dksX24_scan_0 17 rfl rfl)
theorem dX24_scan_20 : decode cX24_scan 20 = .ok (.aload_n 0, 1) := dk_42 (dk_at dksX24_scan_0 20 rfl rfl)
theorem dX24_scan_21 : decode cX24_scan 21 = .ok (.iconst 1, 1) := dk_4 (dk_at dksX24_scan_0 21 rfl rfl)
theorem dX24_scan_22 : decode cX24_scan 22 = .ok (.iload_n 1, 1) := dk_27 (dk_at dksX24_scan_0 22 rfl rfl)
theorem dX24_scan_23 : decode cX24_scan 23 = .ok (.iconst 0, 1) := dk_3 (dk_at dksX24_scan_0 23 rfl rfl)
theorem dX24_scan_24 : decode cX24_scan 24 = .ok (.iconst 0, 1) := dk_3 (dk_at dksX24_scan_1 0 rfl rfl)
theorem dX24_scan_25 : decode cX24_scan 25 = .ok (.invokevirtual 265, 3) := dk_182 1 9 (dk_at dksX24_scan_1 1 rfl rfl)
theorem dX24_scan_28 : decode cX24_scan 28 = .ok (.ireturn, 1) := dk_172 (dk_at dksX24_scan_1 4 rfl rfl)
abbrev cX24_tellOf : ByteArray := prog_53_method_28_code
def yX24_tellOf : MethodName := ⟨RX24, "tellOf", "(IIII)I"⟩
def dkwX24_tellOf_1 : List UInt8 := [16, 249, 182, 0, 206, 172, 42, 27, 28, 29, 21, 4, 182, 1, 6, 172]
abbrev dktX24_tellOf_1 : List UInt8 := dkwX24_tellOf_1 ++ []
def dkwX24_tellOf_0 : List UInt8 := [42, 27, 28, 29, 21, 4, 182, 0, 251, 2, 160, 0, 19, 42, 180, 0, 199, 16, 64, 160, 0, 10, 42]
abbrev dktX24_tellOf_0 : List UInt8 := dkwX24_tellOf_0 ++ dktX24_tellOf_1
theorem dksX24_tellOf_0 : cX24_tellOf.data.toList.drop 0 = dktX24_tellOf_0 := by decide +kernel
theorem dksX24_tellOf_1 : cX24_tellOf.data.toList.drop 23 = dktX24_tellOf_1 := dk_seg dksX24_tellOf_0 23 rfl rfl
theorem dX24_tellOf_0 : decode cX24_tellOf 0 = .ok (.aload_n 0, 1) := dk_42 (dk_at dksX24_tellOf_0 0 rfl rfl)
theorem dX24_tellOf_1 : decode cX24_tellOf 1 = .ok (.iload_n 1, 1) := dk_27 (dk_at dksX24_tellOf_0 1 rfl rfl)
theorem dX24_tellOf_2 : decode cX24_tellOf 2 = .ok (.iload_n 2, 1) := dk_28 (dk_at dksX24_tellOf_0 2 rfl rfl)
theorem dX24_tellOf_3 : decode cX24_tellOf 3 = .ok (.iload_n 3, 1) := dk_29 (dk_at dksX24_tellOf_0 3 rfl rfl)
theorem dX24_tellOf_4 : decode cX24_tellOf 4 = .ok (.iload 4, 2) := dk_21 4 (dk_at dksX24_tellOf_0 4 rfl rfl)
theorem dX24_tellOf_6 : decode cX24_tellOf 6 = .ok (.invokevirtual 251, 3) := dk_182 0 251 (dk_at dksX24_tellOf_0 6 rfl rfl)
theorem dX24_tellOf_9 : decode cX24_tellOf 9 = .ok (.iconst (-1), 1) := dk_2 (dk_at dksX24_tellOf_0 9 rfl rfl)
theorem dX24_tellOf_10 : decode cX24_tellOf 10 = .ok (.if_icmp .ne 19, 3) := dk_160 0 19 (dk_at dksX24_tellOf_0 10 rfl rfl)
theorem dX24_tellOf_13 : decode cX24_tellOf 13 = .ok (.aload_n 0, 1) := dk_42 (dk_at dksX24_tellOf_0 13 rfl rfl)
theorem dX24_tellOf_14 : decode cX24_tellOf 14 = .ok (.getfield 199, 3) := dk_180 0 199 (dk_at dksX24_tellOf_0 14 rfl rfl)
theorem dX24_tellOf_17 : decode cX24_tellOf 17 = .ok (.bipush 64, 2) := dk_16 64 (dk_at dksX24_tellOf_0 17 rfl rfl)
theorem dX24_tellOf_19 : decode cX24_tellOf 19 = .ok (.if_icmp .ne 10, 3) := dk_160 0 10 (dk_at dksX24_tellOf_0 19 rfl rfl)
theorem dX24_tellOf_22 : decode cX24_tellOf 22 = .ok (.aload_n 0, 1) := dk_42 (dk_at dksX24_tellOf_0 22 rfl rfl)
theorem dX24_tellOf_23 : decode cX24_tellOf 23 = .ok (.bipush (-7), 2) := dk_16 249 (dk_at dksX24_tellOf_1 0 rfl rfl)
theorem dX24_tellOf_25 : decode cX24_tellOf 25 = .ok (.invokevirtual 206, 3) := dk_182 0 206 (dk_at dksX24_tellOf_1 2 rfl rfl)
theorem dX24_tellOf_28 : decode cX24_tellOf 28 = .ok (.ireturn, 1) := dk_172 (dk_at dksX24_tellOf_1 5 rfl rfl)
theorem dX24_tellOf_29 : decode cX24_tellOf 29 = .ok (.aload_n 0, 1) := dk_42 (dk_at dksX24_tellOf_1 6 rfl rfl)
theorem dX24_tellOf_30 : decode cX24_tellOf 30 = .ok (.iload_n 1, 1) := dk_27 (dk_at dksX24_tellOf_1 7 rfl rfl)
theorem dX24_tellOf_31 : decode cX24_tellOf 31 = .ok (.iload_n 2, 1) := dk_28 (dk_at dksX24_tellOf_1 8 rfl rfl)
theorem dX24_tellOf_32 : decode cX24_tellOf 32 = .ok (.iload_n 3, 1) := dk_29 (dk_at dksX24_tellOf_1 9 rfl rfl)
theorem dX24_tellOf_33 : decode cX24_tellOf 33 = .ok (.iload 4, 2) := dk_21 4 (dk_at dksX24_tellOf_1 10 rfl rfl)
theorem dX24_tellOf_35 : decode cX24_tellOf 35 = .ok (.invokevirtual 262, 3) := dk_182 1 6 (dk_at dksX24_tellOf_1 12 rfl rfl)
theorem dX24_tellOf_38 : decode cX24_tellOf 38 = .ok (.ireturn, 1) := dk_172 (dk_at dksX24_tellOf_1 15 rfl rfl)
abbrev cX24_alike : ByteArray := prog_53_method_23_code
def yX24_alike : MethodName := ⟨RX24, "alike", "(IIII)I"⟩
def dkwX24_alike_4 : List UInt8 := [182, 0, 225, 159, 0, 6, 167, 0, 6, 21, 5, 172, 132, 5, 1, 167, 255, 151, 2, 172]
abbrev dktX24_alike_4 : List UInt8 := dkwX24_alike_4 ++ []
def dkwX24_alike_3 : List UInt8 := [167, 0, 34, 27, 8, 161, 0, 26, 42, 42, 180, 0, 47, 21, 5, 46, 182, 0, 225, 42, 21, 4]
abbrev dktX24_alike_3 : List UInt8 := dkwX24_alike_3 ++ dktX24_alike_4
def dkwX24_alike_2 : List UInt8 := [27, 4, 159, 0, 25, 42, 42, 180, 0, 44, 21, 5, 46, 182, 0, 225, 42, 29, 182, 0, 225, 159, 0, 6]
abbrev dktX24_alike_2 : List UInt8 := dkwX24_alike_2 ++ dktX24_alike_3
def dkwX24_alike_1 : List UInt8 := [180, 0, 38, 21, 5, 46, 27, 160, 0, 75, 42, 180, 0, 41, 21, 5, 46, 28, 159, 0, 6, 167, 0, 61]
abbrev dktX24_alike_1 : List UInt8 := dkwX24_alike_1 ++ dktX24_alike_2
def dkwX24_alike_0 : List UInt8 := [3, 54, 5, 21, 5, 42, 180, 0, 199, 162, 0, 102, 42, 180, 0, 56, 21, 5, 51, 154, 0, 86, 42]
abbrev dktX24_alike_0 : List UInt8 := dkwX24_alike_0 ++ dktX24_alike_1
theorem dksX24_alike_0 : cX24_alike.data.toList.drop 0 = dktX24_alike_0 := by decide +kernel
theorem dksX24_alike_1 : cX24_alike.data.toList.drop 23 = dktX24_alike_1 := dk_seg dksX24_alike_0 23 rfl rfl
theorem dksX24_alike_2 : cX24_alike.data.toList.drop 47 = dktX24_alike_2 := dk_seg dksX24_alike_1 24 rfl rfl
theorem dksX24_alike_3 : cX24_alike.data.toList.drop 71 = dktX24_alike_3 := dk_seg dksX24_alike_2 24 rfl rfl
theorem dksX24_alike_4 : cX24_alike.data.toList.drop 93 = dktX24_alike_4 := dk_seg dksX24_alike_3 22 rfl rfl
theorem dX24_alike_0 : decode cX24_alike 0 = .ok (.iconst 0, 1) := dk_3 (dk_at dksX24_alike_0 0 rfl rfl)
theorem dX24_alike_1 : decode cX24_alike 1 = .ok (.istore 5, 2) := dk_54 5 (dk_at dksX24_alike_0 1 rfl rfl)
theorem dX24_alike_3 : decode cX24_alike 3 = .ok (.iload 5, 2) := dk_21 5 (dk_at dksX24_alike_0 3 rfl rfl)
theorem dX24_alike_5 : decode cX24_alike 5 = .ok (.aload_n 0, 1) := dk_42 (dk_at dksX24_alike_0 5 rfl rfl)
theorem dX24_alike_6 : decode cX24_alike 6 = .ok (.getfield 199, 3) := dk_180 0 199 (dk_at dksX24_alike_0 6 rfl rfl)
theorem dX24_alike_9 : decode cX24_alike 9 = .ok (.if_icmp .ge 102, 3) := dk_162 0 102 (dk_at dksX24_alike_0 9 rfl rfl)
theorem dX24_alike_12 : decode cX24_alike 12 = .ok (.aload_n 0, 1) := dk_42 (dk_at dksX24_alike_0 12 rfl rfl)
theorem dX24_alike_13 : decode cX24_alike 13 = .ok (.getfield 56, 3) := dk_180 0 56 (dk_at dksX24_alike_0 13 rfl rfl)
theorem dX24_alike_16 : decode cX24_alike 16 = .ok (.iload 5, 2) := dk_21 5 (dk_at dksX24_alike_0 16 rfl rfl)
theorem dX24_alike_18 : decode cX24_alike 18 = .ok (.baload, 1) := dk_51 (dk_at dksX24_alike_0 18 rfl rfl)
theorem dX24_alike_19 : decode cX24_alike 19 = .ok (.ifCond .ne 86, 3) := dk_154 0 86 (dk_at dksX24_alike_0 19 rfl rfl)
theorem dX24_alike_22 : decode cX24_alike 22 = .ok (.aload_n 0, 1) := dk_42 (dk_at dksX24_alike_0 22 rfl rfl)
theorem dX24_alike_23 : decode cX24_alike 23 = .ok (.getfield 38, 3) := dk_180 0 38 (dk_at dksX24_alike_1 0 rfl rfl)
theorem dX24_alike_26 : decode cX24_alike 26 = .ok (.iload 5, 2) := dk_21 5 (dk_at dksX24_alike_1 3 rfl rfl)
theorem dX24_alike_28 : decode cX24_alike 28 = .ok (.iaload, 1) := dk_46 (dk_at dksX24_alike_1 5 rfl rfl)
theorem dX24_alike_29 : decode cX24_alike 29 = .ok (.iload_n 1, 1) := dk_27 (dk_at dksX24_alike_1 6 rfl rfl)
theorem dX24_alike_30 : decode cX24_alike 30 = .ok (.if_icmp .ne 75, 3) := dk_160 0 75 (dk_at dksX24_alike_1 7 rfl rfl)
theorem dX24_alike_33 : decode cX24_alike 33 = .ok (.aload_n 0, 1) := dk_42 (dk_at dksX24_alike_1 10 rfl rfl)
theorem dX24_alike_34 : decode cX24_alike 34 = .ok (.getfield 41, 3) := dk_180 0 41 (dk_at dksX24_alike_1 11 rfl rfl)
theorem dX24_alike_37 : decode cX24_alike 37 = .ok (.iload 5, 2) := dk_21 5 (dk_at dksX24_alike_1 14 rfl rfl)
theorem dX24_alike_39 : decode cX24_alike 39 = .ok (.iaload, 1) := dk_46 (dk_at dksX24_alike_1 16 rfl rfl)
theorem dX24_alike_40 : decode cX24_alike 40 = .ok (.iload_n 2, 1) := dk_28 (dk_at dksX24_alike_1 17 rfl rfl)
theorem dX24_alike_41 : decode cX24_alike 41 = .ok (.if_icmp .eq 6, 3) := dk_159 0 6 (dk_at dksX24_alike_1 18 rfl rfl)
theorem dX24_alike_44 : decode cX24_alike 44 = .ok (.goto 61, 3) := dk_167 0 61 (dk_at dksX24_alike_1 21 rfl rfl)
theorem dX24_alike_47 : decode cX24_alike 47 = .ok (.iload_n 1, 1) := dk_27 (dk_at dksX24_alike_2 0 rfl rfl)
theorem dX24_alike_48 : decode cX24_alike 48 = .ok (.iconst 1, 1) := dk_4 (dk_at dksX24_alike_2 1 rfl rfl)
theorem dX24_alike_49 : decode cX24_alike 49 = .ok (.if_icmp .eq 25, 3) := dk_159 0 25 (dk_at dksX24_alike_2 2 rfl rfl)
theorem dX24_alike_52 : decode cX24_alike 52 = .ok (.aload_n 0, 1) := dk_42 (dk_at dksX24_alike_2 5 rfl rfl)
theorem dX24_alike_53 : decode cX24_alike 53 = .ok (.aload_n 0, 1) := dk_42 (dk_at dksX24_alike_2 6 rfl rfl)
theorem dX24_alike_54 : decode cX24_alike 54 = .ok (.getfield 44, 3) := dk_180 0 44 (dk_at dksX24_alike_2 7 rfl rfl)
theorem dX24_alike_57 : decode cX24_alike 57 = .ok (.iload 5, 2) := dk_21 5 (dk_at dksX24_alike_2 10 rfl rfl)
theorem dX24_alike_59 : decode cX24_alike 59 = .ok (.iaload, 1) := dk_46 (dk_at dksX24_alike_2 12 rfl rfl)
theorem dX24_alike_60 : decode cX24_alike 60 = .ok (.invokevirtual 225, 3) := dk_182 0 225 (dk_at dksX24_alike_2 13 rfl rfl)
theorem dX24_alike_63 : decode cX24_alike 63 = .ok (.aload_n 0, 1) := dk_42 (dk_at dksX24_alike_2 16 rfl rfl)
theorem dX24_alike_64 : decode cX24_alike 64 = .ok (.iload_n 3, 1) := dk_29 (dk_at dksX24_alike_2 17 rfl rfl)
theorem dX24_alike_65 : decode cX24_alike 65 = .ok (.invokevirtual 225, 3) := dk_182 0 225 (dk_at dksX24_alike_2 18 rfl rfl)
theorem dX24_alike_68 : decode cX24_alike 68 = .ok (.if_icmp .eq 6, 3) := dk_159 0 6 (dk_at dksX24_alike_2 21 rfl rfl)
theorem dX24_alike_71 : decode cX24_alike 71 = .ok (.goto 34, 3) := dk_167 0 34 (dk_at dksX24_alike_3 0 rfl rfl)
theorem dX24_alike_74 : decode cX24_alike 74 = .ok (.iload_n 1, 1) := dk_27 (dk_at dksX24_alike_3 3 rfl rfl)
theorem dX24_alike_75 : decode cX24_alike 75 = .ok (.iconst 5, 1) := dk_8 (dk_at dksX24_alike_3 4 rfl rfl)
theorem dX24_alike_76 : decode cX24_alike 76 = .ok (.if_icmp .lt 26, 3) := dk_161 0 26 (dk_at dksX24_alike_3 5 rfl rfl)
theorem dX24_alike_79 : decode cX24_alike 79 = .ok (.aload_n 0, 1) := dk_42 (dk_at dksX24_alike_3 8 rfl rfl)
theorem dX24_alike_80 : decode cX24_alike 80 = .ok (.aload_n 0, 1) := dk_42 (dk_at dksX24_alike_3 9 rfl rfl)
theorem dX24_alike_81 : decode cX24_alike 81 = .ok (.getfield 47, 3) := dk_180 0 47 (dk_at dksX24_alike_3 10 rfl rfl)
theorem dX24_alike_84 : decode cX24_alike 84 = .ok (.iload 5, 2) := dk_21 5 (dk_at dksX24_alike_3 13 rfl rfl)
theorem dX24_alike_86 : decode cX24_alike 86 = .ok (.iaload, 1) := dk_46 (dk_at dksX24_alike_3 15 rfl rfl)
theorem dX24_alike_87 : decode cX24_alike 87 = .ok (.invokevirtual 225, 3) := dk_182 0 225 (dk_at dksX24_alike_3 16 rfl rfl)
theorem dX24_alike_90 : decode cX24_alike 90 = .ok (.aload_n 0, 1) := dk_42 (dk_at dksX24_alike_3 19 rfl rfl)
theorem dX24_alike_91 : decode cX24_alike 91 = .ok (.iload 4, 2) := dk_21 4 (dk_at dksX24_alike_3 20 rfl rfl)
theorem dX24_alike_93 : decode cX24_alike 93 = .ok (.invokevirtual 225, 3) := dk_182 0 225 (dk_at dksX24_alike_4 0 rfl rfl)
theorem dX24_alike_96 : decode cX24_alike 96 = .ok (.if_icmp .eq 6, 3) := dk_159 0 6 (dk_at dksX24_alike_4 3 rfl rfl)
theorem dX24_alike_99 : decode cX24_alike 99 = .ok (.goto 6, 3) := dk_167 0 6 (dk_at dksX24_alike_4 6 rfl rfl)
theorem dX24_alike_102 : decode cX24_alike 102 = .ok (.iload 5, 2) := dk_21 5 (dk_at dksX24_alike_4 9 rfl rfl)
theorem dX24_alike_104 : decode cX24_alike 104 = .ok (.ireturn, 1) := dk_172 (dk_at dksX24_alike_4 11 rfl rfl)
theorem dX24_alike_105 : decode cX24_alike 105 = .ok (.iinc 5 1, 3) := dk_132 5 1 (dk_at dksX24_alike_4 12 rfl rfl)
theorem dX24_alike_108 : decode cX24_alike 108 = .ok (.goto (-105), 3) := dk_167 255 151 (dk_at dksX24_alike_4 15 rfl rfl)
theorem dX24_alike_111 : decode cX24_alike 111 = .ok (.iconst (-1), 1) := dk_2 (dk_at dksX24_alike_4 18 rfl rfl)
theorem dX24_alike_112 : decode cX24_alike 112 = .ok (.ireturn, 1) := dk_172 (dk_at dksX24_alike_4 19 rfl rfl)
abbrev cX24_told : ByteArray := prog_53_method_25_code
def yX24_told : MethodName := ⟨RX24, "told", "(IIII)I"⟩
def dkwX24_told_1 : List UInt8 := [182, 0, 255, 167, 0, 14, 42, 42, 180, 0, 50, 21, 5, 46, 182, 0, 225, 172]
abbrev dktX24_told_1 : List UInt8 := dkwX24_told_1 ++ []
def dkwX24_told_0 : List UInt8 := [42, 27, 28, 29, 21, 4, 182, 0, 251, 54, 5, 21, 5, 2, 160, 0, 16, 42, 27, 28, 29, 21, 4, 2]
abbrev dktX24_told_0 : List UInt8 := dkwX24_told_0 ++ dktX24_told_1
theorem dksX24_told_0 : cX24_told.data.toList.drop 0 = dktX24_told_0 := by decide +kernel
theorem dksX24_told_1 : cX24_told.data.toList.drop 24 = dktX24_told_1 := dk_seg dksX24_told_0 24 rfl rfl
theorem dX24_told_0 : decode cX24_told 0 = .ok (.aload_n 0, 1) := dk_42 (dk_at dksX24_told_0 0 rfl rfl)
theorem dX24_told_1 : decode cX24_told 1 = .ok (.iload_n 1, 1) := dk_27 (dk_at dksX24_told_0 1 rfl rfl)
theorem dX24_told_2 : decode cX24_told 2 = .ok (.iload_n 2, 1) := dk_28 (dk_at dksX24_told_0 2 rfl rfl)
theorem dX24_told_3 : decode cX24_told 3 = .ok (.iload_n 3, 1) := dk_29 (dk_at dksX24_told_0 3 rfl rfl)
theorem dX24_told_4 : decode cX24_told 4 = .ok (.iload 4, 2) := dk_21 4 (dk_at dksX24_told_0 4 rfl rfl)
theorem dX24_told_6 : decode cX24_told 6 = .ok (.invokevirtual 251, 3) := dk_182 0 251 (dk_at dksX24_told_0 6 rfl rfl)
theorem dX24_told_9 : decode cX24_told 9 = .ok (.istore 5, 2) := dk_54 5 (dk_at dksX24_told_0 9 rfl rfl)
theorem dX24_told_11 : decode cX24_told 11 = .ok (.iload 5, 2) := dk_21 5 (dk_at dksX24_told_0 11 rfl rfl)
theorem dX24_told_13 : decode cX24_told 13 = .ok (.iconst (-1), 1) := dk_2 (dk_at dksX24_told_0 13 rfl rfl)
theorem dX24_told_14 : decode cX24_told 14 = .ok (.if_icmp .ne 16, 3) := dk_160 0 16 (dk_at dksX24_told_0 14 rfl rfl)
theorem dX24_told_17 : decode cX24_told 17 = .ok (.aload_n 0, 1) := dk_42 (dk_at dksX24_told_0 17 rfl rfl)
theorem dX24_told_18 : decode cX24_told 18 = .ok (.iload_n 1, 1) := dk_27 (dk_at dksX24_told_0 18 rfl rfl)
theorem dX24_told_19 : decode cX24_told 19 = .ok (.iload_n 2, 1) := dk_28 (dk_at dksX24_told_0 19 rfl rfl)
theorem dX24_told_20 : decode cX24_told 20 = .ok (.iload_n 3, 1) := dk_29 (dk_at dksX24_told_0 20 rfl rfl)
theorem dX24_told_21 : decode cX24_told 21 = .ok (.iload 4, 2) := dk_21 4 (dk_at dksX24_told_0 21 rfl rfl)
theorem dX24_told_23 : decode cX24_told 23 = .ok (.iconst (-1), 1) := dk_2 (dk_at dksX24_told_0 23 rfl rfl)
theorem dX24_told_24 : decode cX24_told 24 = .ok (.invokevirtual 255, 3) := dk_182 0 255 (dk_at dksX24_told_1 0 rfl rfl)
theorem dX24_told_27 : decode cX24_told 27 = .ok (.goto 14, 3) := dk_167 0 14 (dk_at dksX24_told_1 3 rfl rfl)
theorem dX24_told_30 : decode cX24_told 30 = .ok (.aload_n 0, 1) := dk_42 (dk_at dksX24_told_1 6 rfl rfl)
theorem dX24_told_31 : decode cX24_told 31 = .ok (.aload_n 0, 1) := dk_42 (dk_at dksX24_told_1 7 rfl rfl)
theorem dX24_told_32 : decode cX24_told 32 = .ok (.getfield 50, 3) := dk_180 0 50 (dk_at dksX24_told_1 8 rfl rfl)
theorem dX24_told_35 : decode cX24_told 35 = .ok (.iload 5, 2) := dk_21 5 (dk_at dksX24_told_1 11 rfl rfl)
theorem dX24_told_37 : decode cX24_told 37 = .ok (.iaload, 1) := dk_46 (dk_at dksX24_told_1 13 rfl rfl)
theorem dX24_told_38 : decode cX24_told 38 = .ok (.invokevirtual 225, 3) := dk_182 0 225 (dk_at dksX24_told_1 14 rfl rfl)
theorem dX24_told_41 : decode cX24_told 41 = .ok (.ireturn, 1) := dk_172 (dk_at dksX24_told_1 17 rfl rfl)
abbrev cX24_adds : ByteArray := prog_53_method_24_code
def yX24_adds : MethodName := ⟨RX24, "adds", "(IIIII)I"⟩
def dkwX24_adds_6 : List UInt8 := [42, 180, 0, 50, 42, 180, 0, 199, 4, 100, 46, 172]
abbrev dktX24_adds_6 : List UInt8 := dkwX24_adds_6 ++ []
def dkwX24_adds_5 : List UInt8 := [167, 0, 14, 42, 180, 0, 50, 42, 180, 0, 199, 21, 5, 79, 42, 89, 180, 0, 199, 4, 96, 181, 0, 199]
abbrev dktX24_adds_5 : List UInt8 := dkwX24_adds_5 ++ dktX24_adds_6
def dkwX24_adds_4 : List UInt8 := [42, 180, 0, 50, 42, 180, 0, 199, 42, 180, 0, 196, 79, 42, 89, 180, 0, 196, 4, 96, 181, 0, 196]
abbrev dktX24_adds_4 : List UInt8 := dkwX24_adds_4 ++ dktX24_adds_5
def dkwX24_adds_3 : List UInt8 := [180, 0, 199, 3, 84, 21, 5, 2, 160, 0, 42, 42, 180, 0, 53, 42, 180, 0, 196, 42, 180, 0, 196, 79]
abbrev dktX24_adds_3 : List UInt8 := dkwX24_adds_3 ++ dktX24_adds_4
def dkwX24_adds_2 : List UInt8 := [180, 0, 199, 27, 8, 161, 0, 12, 42, 21, 4, 182, 0, 225, 167, 0, 4, 2, 79, 42, 180, 0, 56, 42]
abbrev dktX24_adds_2 : List UInt8 := dkwX24_adds_2 ++ dktX24_adds_3
def dkwX24_adds_1 : List UInt8 := [42, 180, 0, 199, 27, 4, 160, 0, 7, 2, 167, 0, 8, 42, 29, 182, 0, 225, 79, 42, 180, 0, 47, 42]
abbrev dktX24_adds_1 : List UInt8 := dkwX24_adds_1 ++ dktX24_adds_2
def dkwX24_adds_0 : List UInt8 := [42, 180, 0, 38, 42, 180, 0, 199, 27, 79, 42, 180, 0, 41, 42, 180, 0, 199, 28, 79, 42, 180, 0, 44]
abbrev dktX24_adds_0 : List UInt8 := dkwX24_adds_0 ++ dktX24_adds_1
theorem dksX24_adds_0 : cX24_adds.data.toList.drop 0 = dktX24_adds_0 := by decide +kernel
theorem dksX24_adds_1 : cX24_adds.data.toList.drop 24 = dktX24_adds_1 := dk_seg dksX24_adds_0 24 rfl rfl
theorem dksX24_adds_2 : cX24_adds.data.toList.drop 48 = dktX24_adds_2 := dk_seg dksX24_adds_1 24 rfl rfl
theorem dksX24_adds_3 : cX24_adds.data.toList.drop 72 = dktX24_adds_3 := dk_seg dksX24_adds_2 24 rfl rfl
theorem dksX24_adds_4 : cX24_adds.data.toList.drop 96 = dktX24_adds_4 := dk_seg dksX24_adds_3 24 rfl rfl
theorem dksX24_adds_5 : cX24_adds.data.toList.drop 119 = dktX24_adds_5 := dk_seg dksX24_adds_4 23 rfl rfl
theorem dksX24_adds_6 : cX24_adds.data.toList.drop 143 = dktX24_adds_6 := dk_seg dksX24_adds_5 24 rfl rfl
theorem dX24_adds_0 : decode cX24_adds 0 = .ok (.aload_n 0, 1) := dk_42 (dk_at dksX24_adds_0 0 rfl rfl)
theorem dX24_adds_1 : decode cX24_adds 1 = .ok (.getfield 38, 3) := dk_180 0 38 (dk_at dksX24_adds_0 1 rfl rfl)
theorem dX24_adds_4 : decode cX24_adds 4 = .ok (.aload_n 0, 1) := dk_42 (dk_at dksX24_adds_0 4 rfl rfl)
theorem dX24_adds_5 : decode cX24_adds 5 = .ok (.getfield 199, 3) := dk_180 0 199 (dk_at dksX24_adds_0 5 rfl rfl)
theorem dX24_adds_8 : decode cX24_adds 8 = .ok (.iload_n 1, 1) := dk_27 (dk_at dksX24_adds_0 8 rfl rfl)
theorem dX24_adds_9 : decode cX24_adds 9 = .ok (.iastore, 1) := dk_79 (dk_at dksX24_adds_0 9 rfl rfl)
theorem dX24_adds_10 : decode cX24_adds 10 = .ok (.aload_n 0, 1) := dk_42 (dk_at dksX24_adds_0 10 rfl rfl)
theorem dX24_adds_11 : decode cX24_adds 11 = .ok (.getfield 41, 3) := dk_180 0 41 (dk_at dksX24_adds_0 11 rfl rfl)
theorem dX24_adds_14 : decode cX24_adds 14 = .ok (.aload_n 0, 1) := dk_42 (dk_at dksX24_adds_0 14 rfl rfl)
theorem dX24_adds_15 : decode cX24_adds 15 = .ok (.getfield 199, 3) := dk_180 0 199 (dk_at dksX24_adds_0 15 rfl rfl)
theorem dX24_adds_18 : decode cX24_adds 18 = .ok (.iload_n 2, 1) := dk_28 (dk_at dksX24_adds_0 18 rfl rfl)
theorem dX24_adds_19 : decode cX24_adds 19 = .ok (.iastore, 1) := dk_79 (dk_at dksX24_adds_0 19 rfl rfl)
theorem dX24_adds_20 : decode cX24_adds 20 = .ok (.aload_n 0, 1) := dk_42 (dk_at dksX24_adds_0 20 rfl rfl)
theorem dX24_adds_21 : decode cX24_adds 21 = .ok (.getfield 44, 3) := dk_180 0 44 (dk_at dksX24_adds_0 21 rfl rfl)
theorem dX24_adds_24 : decode cX24_adds 24 = .ok (.aload_n 0, 1) := dk_42 (dk_at dksX24_adds_1 0 rfl rfl)
theorem dX24_adds_25 : decode cX24_adds 25 = .ok (.getfield 199, 3) := dk_180 0 199 (dk_at dksX24_adds_1 1 rfl rfl)
theorem dX24_adds_28 : decode cX24_adds 28 = .ok (.iload_n 1, 1) := dk_27 (dk_at dksX24_adds_1 4 rfl rfl)
theorem dX24_adds_29 : decode cX24_adds 29 = .ok (.iconst 1, 1) := dk_4 (dk_at dksX24_adds_1 5 rfl rfl)
theorem dX24_adds_30 : decode cX24_adds 30 = .ok (.if_icmp .ne 7, 3) := dk_160 0 7 (dk_at dksX24_adds_1 6 rfl rfl)
theorem dX24_adds_33 : decode cX24_adds 33 = .ok (.iconst (-1), 1) := dk_2 (dk_at dksX24_adds_1 9 rfl rfl)
theorem dX24_adds_34 : decode cX24_adds 34 = .ok (.goto 8, 3) := dk_167 0 8 (dk_at dksX24_adds_1 10 rfl rfl)
theorem dX24_adds_37 : decode cX24_adds 37 = .ok (.aload_n 0, 1) := dk_42 (dk_at dksX24_adds_1 13 rfl rfl)
theorem dX24_adds_38 : decode cX24_adds 38 = .ok (.iload_n 3, 1) := dk_29 (dk_at dksX24_adds_1 14 rfl rfl)
theorem dX24_adds_39 : decode cX24_adds 39 = .ok (.invokevirtual 225, 3) := dk_182 0 225 (dk_at dksX24_adds_1 15 rfl rfl)
theorem dX24_adds_42 : decode cX24_adds 42 = .ok (.iastore, 1) := dk_79 (dk_at dksX24_adds_1 18 rfl rfl)
theorem dX24_adds_43 : decode cX24_adds 43 = .ok (.aload_n 0, 1) := dk_42 (dk_at dksX24_adds_1 19 rfl rfl)
theorem dX24_adds_44 : decode cX24_adds 44 = .ok (.getfield 47, 3) := dk_180 0 47 (dk_at dksX24_adds_1 20 rfl rfl)
theorem dX24_adds_47 : decode cX24_adds 47 = .ok (.aload_n 0, 1) := dk_42 (dk_at dksX24_adds_1 23 rfl rfl)
theorem dX24_adds_48 : decode cX24_adds 48 = .ok (.getfield 199, 3) := dk_180 0 199 (dk_at dksX24_adds_2 0 rfl rfl)
theorem dX24_adds_51 : decode cX24_adds 51 = .ok (.iload_n 1, 1) := dk_27 (dk_at dksX24_adds_2 3 rfl rfl)
theorem dX24_adds_52 : decode cX24_adds 52 = .ok (.iconst 5, 1) := dk_8 (dk_at dksX24_adds_2 4 rfl rfl)
theorem dX24_adds_53 : decode cX24_adds 53 = .ok (.if_icmp .lt 12, 3) := dk_161 0 12 (dk_at dksX24_adds_2 5 rfl rfl)
theorem dX24_adds_56 : decode cX24_adds 56 = .ok (.aload_n 0, 1) := dk_42 (dk_at dksX24_adds_2 8 rfl rfl)
theorem dX24_adds_57 : decode cX24_adds 57 = .ok (.iload 4, 2) := dk_21 4 (dk_at dksX24_adds_2 9 rfl rfl)
theorem dX24_adds_59 : decode cX24_adds 59 = .ok (.invokevirtual 225, 3) := dk_182 0 225 (dk_at dksX24_adds_2 11 rfl rfl)
theorem dX24_adds_62 : decode cX24_adds 62 = .ok (.goto 4, 3) := dk_167 0 4 (dk_at dksX24_adds_2 14 rfl rfl)
theorem dX24_adds_65 : decode cX24_adds 65 = .ok (.iconst (-1), 1) := dk_2 (dk_at dksX24_adds_2 17 rfl rfl)
theorem dX24_adds_66 : decode cX24_adds 66 = .ok (.iastore, 1) := dk_79 (dk_at dksX24_adds_2 18 rfl rfl)
theorem dX24_adds_67 : decode cX24_adds 67 = .ok (.aload_n 0, 1) := dk_42 (dk_at dksX24_adds_2 19 rfl rfl)
theorem dX24_adds_68 : decode cX24_adds 68 = .ok (.getfield 56, 3) := dk_180 0 56 (dk_at dksX24_adds_2 20 rfl rfl)
theorem dX24_adds_71 : decode cX24_adds 71 = .ok (.aload_n 0, 1) := dk_42 (dk_at dksX24_adds_2 23 rfl rfl)
theorem dX24_adds_72 : decode cX24_adds 72 = .ok (.getfield 199, 3) := dk_180 0 199 (dk_at dksX24_adds_3 0 rfl rfl)
theorem dX24_adds_75 : decode cX24_adds 75 = .ok (.iconst 0, 1) := dk_3 (dk_at dksX24_adds_3 3 rfl rfl)
theorem dX24_adds_76 : decode cX24_adds 76 = .ok (.bastore, 1) := dk_84 (dk_at dksX24_adds_3 4 rfl rfl)
theorem dX24_adds_77 : decode cX24_adds 77 = .ok (.iload 5, 2) := dk_21 5 (dk_at dksX24_adds_3 5 rfl rfl)
theorem dX24_adds_79 : decode cX24_adds 79 = .ok (.iconst (-1), 1) := dk_2 (dk_at dksX24_adds_3 7 rfl rfl)
theorem dX24_adds_80 : decode cX24_adds 80 = .ok (.if_icmp .ne 42, 3) := dk_160 0 42 (dk_at dksX24_adds_3 8 rfl rfl)
theorem dX24_adds_83 : decode cX24_adds 83 = .ok (.aload_n 0, 1) := dk_42 (dk_at dksX24_adds_3 11 rfl rfl)
theorem dX24_adds_84 : decode cX24_adds 84 = .ok (.getfield 53, 3) := dk_180 0 53 (dk_at dksX24_adds_3 12 rfl rfl)
theorem dX24_adds_87 : decode cX24_adds 87 = .ok (.aload_n 0, 1) := dk_42 (dk_at dksX24_adds_3 15 rfl rfl)
theorem dX24_adds_88 : decode cX24_adds 88 = .ok (.getfield 196, 3) := dk_180 0 196 (dk_at dksX24_adds_3 16 rfl rfl)
theorem dX24_adds_91 : decode cX24_adds 91 = .ok (.aload_n 0, 1) := dk_42 (dk_at dksX24_adds_3 19 rfl rfl)
theorem dX24_adds_92 : decode cX24_adds 92 = .ok (.getfield 196, 3) := dk_180 0 196 (dk_at dksX24_adds_3 20 rfl rfl)
theorem dX24_adds_95 : decode cX24_adds 95 = .ok (.iastore, 1) := dk_79 (dk_at dksX24_adds_3 23 rfl rfl)
theorem dX24_adds_96 : decode cX24_adds 96 = .ok (.aload_n 0, 1) := dk_42 (dk_at dksX24_adds_4 0 rfl rfl)
theorem dX24_adds_97 : decode cX24_adds 97 = .ok (.getfield 50, 3) := dk_180 0 50 (dk_at dksX24_adds_4 1 rfl rfl)
theorem dX24_adds_100 : decode cX24_adds 100 = .ok (.aload_n 0, 1) := dk_42 (dk_at dksX24_adds_4 4 rfl rfl)
theorem dX24_adds_101 : decode cX24_adds 101 = .ok (.getfield 199, 3) := dk_180 0 199 (dk_at dksX24_adds_4 5 rfl rfl)
theorem dX24_adds_104 : decode cX24_adds 104 = .ok (.aload_n 0, 1) := dk_42 (dk_at dksX24_adds_4 8 rfl rfl)
theorem dX24_adds_105 : decode cX24_adds 105 = .ok (.getfield 196, 3) := dk_180 0 196 (dk_at dksX24_adds_4 9 rfl rfl)
theorem dX24_adds_108 : decode cX24_adds 108 = .ok (.iastore, 1) := dk_79 (dk_at dksX24_adds_4 12 rfl rfl)
theorem dX24_adds_109 : decode cX24_adds 109 = .ok (.aload_n 0, 1) := dk_42 (dk_at dksX24_adds_4 13 rfl rfl)
theorem dX24_adds_110 : decode cX24_adds 110 = .ok (.dup, 1) := dk_89 (dk_at dksX24_adds_4 14 rfl rfl)
theorem dX24_adds_111 : decode cX24_adds 111 = .ok (.getfield 196, 3) := dk_180 0 196 (dk_at dksX24_adds_4 15 rfl rfl)
theorem dX24_adds_114 : decode cX24_adds 114 = .ok (.iconst 1, 1) := dk_4 (dk_at dksX24_adds_4 18 rfl rfl)
theorem dX24_adds_115 : decode cX24_adds 115 = .ok (.iadd, 1) := dk_96 (dk_at dksX24_adds_4 19 rfl rfl)
theorem dX24_adds_116 : decode cX24_adds 116 = .ok (.putfield 196, 3) := dk_181 0 196 (dk_at dksX24_adds_4 20 rfl rfl)
theorem dX24_adds_119 : decode cX24_adds 119 = .ok (.goto 14, 3) := dk_167 0 14 (dk_at dksX24_adds_5 0 rfl rfl)
theorem dX24_adds_122 : decode cX24_adds 122 = .ok (.aload_n 0, 1) := dk_42 (dk_at dksX24_adds_5 3 rfl rfl)
theorem dX24_adds_123 : decode cX24_adds 123 = .ok (.getfield 50, 3) := dk_180 0 50 (dk_at dksX24_adds_5 4 rfl rfl)
theorem dX24_adds_126 : decode cX24_adds 126 = .ok (.aload_n 0, 1) := dk_42 (dk_at dksX24_adds_5 7 rfl rfl)
theorem dX24_adds_127 : decode cX24_adds 127 = .ok (.getfield 199, 3) := dk_180 0 199 (dk_at dksX24_adds_5 8 rfl rfl)
theorem dX24_adds_130 : decode cX24_adds 130 = .ok (.iload 5, 2) := dk_21 5 (dk_at dksX24_adds_5 11 rfl rfl)
theorem dX24_adds_132 : decode cX24_adds 132 = .ok (.iastore, 1) := dk_79 (dk_at dksX24_adds_5 13 rfl rfl)
theorem dX24_adds_133 : decode cX24_adds 133 = .ok (.aload_n 0, 1) := dk_42 (dk_at dksX24_adds_5 14 rfl rfl)
theorem dX24_adds_134 : decode cX24_adds 134 = .ok (.dup, 1) := dk_89 (dk_at dksX24_adds_5 15 rfl rfl)
theorem dX24_adds_135 : decode cX24_adds 135 = .ok (.getfield 199, 3) := dk_180 0 199 (dk_at dksX24_adds_5 16 rfl rfl)
theorem dX24_adds_138 : decode cX24_adds 138 = .ok (.iconst 1, 1) := dk_4 (dk_at dksX24_adds_5 19 rfl rfl)
theorem dX24_adds_139 : decode cX24_adds 139 = .ok (.iadd, 1) := dk_96 (dk_at dksX24_adds_5 20 rfl rfl)
theorem dX24_adds_140 : decode cX24_adds 140 = .ok (.putfield 199, 3) := dk_181 0 199 (dk_at dksX24_adds_5 21 rfl rfl)
theorem dX24_adds_143 : decode cX24_adds 143 = .ok (.aload_n 0, 1) := dk_42 (dk_at dksX24_adds_6 0 rfl rfl)
theorem dX24_adds_144 : decode cX24_adds 144 = .ok (.getfield 50, 3) := dk_180 0 50 (dk_at dksX24_adds_6 1 rfl rfl)
theorem dX24_adds_147 : decode cX24_adds 147 = .ok (.aload_n 0, 1) := dk_42 (dk_at dksX24_adds_6 4 rfl rfl)
theorem dX24_adds_148 : decode cX24_adds 148 = .ok (.getfield 199, 3) := dk_180 0 199 (dk_at dksX24_adds_6 5 rfl rfl)
theorem dX24_adds_151 : decode cX24_adds 151 = .ok (.iconst 1, 1) := dk_4 (dk_at dksX24_adds_6 8 rfl rfl)
theorem dX24_adds_152 : decode cX24_adds 152 = .ok (.isub, 1) := dk_100 (dk_at dksX24_adds_6 9 rfl rfl)
theorem dX24_adds_153 : decode cX24_adds 153 = .ok (.iaload, 1) := dk_46 (dk_at dksX24_adds_6 10 rfl rfl)
theorem dX24_adds_154 : decode cX24_adds 154 = .ok (.ireturn, 1) := dk_172 (dk_at dksX24_adds_6 11 rfl rfl)
abbrev cX24_keep : ByteArray := prog_53_method_30_code
def yX24_keep : MethodName := ⟨RX24, "keep", "(II)I"⟩
def dkwX24_keep_2 : List UInt8 := [6, 27, 28, 28, 182, 1, 9, 172]
abbrev dktX24_keep_2 : List UInt8 := dkwX24_keep_2 ++ []
def dkwX24_keep_1 : List UInt8 := [153, 0, 14, 42, 6, 27, 28, 28, 182, 1, 15, 154, 0, 12, 42, 16, 250, 182, 0, 206, 167, 0, 11, 42]
abbrev dktX24_keep_1 : List UInt8 := dkwX24_keep_1 ++ dktX24_keep_2
def dkwX24_keep_0 : List UInt8 := [42, 28, 182, 1, 12, 154, 0, 9, 42, 2, 182, 0, 206, 172, 42, 27, 3, 16, 7, 182, 0, 217]
abbrev dktX24_keep_0 : List UInt8 := dkwX24_keep_0 ++ dktX24_keep_1
theorem dksX24_keep_0 : cX24_keep.data.toList.drop 0 = dktX24_keep_0 := by decide +kernel
theorem dksX24_keep_1 : cX24_keep.data.toList.drop 22 = dktX24_keep_1 := dk_seg dksX24_keep_0 22 rfl rfl
theorem dksX24_keep_2 : cX24_keep.data.toList.drop 46 = dktX24_keep_2 := dk_seg dksX24_keep_1 24 rfl rfl
theorem dX24_keep_0 : decode cX24_keep 0 = .ok (.aload_n 0, 1) := dk_42 (dk_at dksX24_keep_0 0 rfl rfl)
theorem dX24_keep_1 : decode cX24_keep 1 = .ok (.iload_n 2, 1) := dk_28 (dk_at dksX24_keep_0 1 rfl rfl)
theorem dX24_keep_2 : decode cX24_keep 2 = .ok (.invokevirtual 268, 3) := dk_182 1 12 (dk_at dksX24_keep_0 2 rfl rfl)
theorem dX24_keep_5 : decode cX24_keep 5 = .ok (.ifCond .ne 9, 3) := dk_154 0 9 (dk_at dksX24_keep_0 5 rfl rfl)
theorem dX24_keep_8 : decode cX24_keep 8 = .ok (.aload_n 0, 1) := dk_42 (dk_at dksX24_keep_0 8 rfl rfl)
theorem dX24_keep_9 : decode cX24_keep 9 = .ok (.iconst (-1), 1) := dk_2 (dk_at dksX24_keep_0 9 rfl rfl)
theorem dX24_keep_10 : decode cX24_keep 10 = .ok (.invokevirtual 206, 3) := dk_182 0 206 (dk_at dksX24_keep_0 10 rfl rfl)
theorem dX24_keep_13 : decode cX24_keep 13 = .ok (.ireturn, 1) := dk_172 (dk_at dksX24_keep_0 13 rfl rfl)
theorem dX24_keep_14 : decode cX24_keep 14 = .ok (.aload_n 0, 1) := dk_42 (dk_at dksX24_keep_0 14 rfl rfl)
theorem dX24_keep_15 : decode cX24_keep 15 = .ok (.iload_n 1, 1) := dk_27 (dk_at dksX24_keep_0 15 rfl rfl)
theorem dX24_keep_16 : decode cX24_keep 16 = .ok (.iconst 0, 1) := dk_3 (dk_at dksX24_keep_0 16 rfl rfl)
theorem dX24_keep_17 : decode cX24_keep 17 = .ok (.bipush 7, 2) := dk_16 7 (dk_at dksX24_keep_0 17 rfl rfl)
theorem dX24_keep_19 : decode cX24_keep 19 = .ok (.invokevirtual 217, 3) := dk_182 0 217 (dk_at dksX24_keep_0 19 rfl rfl)
theorem dX24_keep_22 : decode cX24_keep 22 = .ok (.ifCond .eq 14, 3) := dk_153 0 14 (dk_at dksX24_keep_1 0 rfl rfl)
theorem dX24_keep_25 : decode cX24_keep 25 = .ok (.aload_n 0, 1) := dk_42 (dk_at dksX24_keep_1 3 rfl rfl)
theorem dX24_keep_26 : decode cX24_keep 26 = .ok (.iconst 3, 1) := dk_6 (dk_at dksX24_keep_1 4 rfl rfl)
theorem dX24_keep_27 : decode cX24_keep 27 = .ok (.iload_n 1, 1) := dk_27 (dk_at dksX24_keep_1 5 rfl rfl)
theorem dX24_keep_28 : decode cX24_keep 28 = .ok (.iload_n 2, 1) := dk_28 (dk_at dksX24_keep_1 6 rfl rfl)
theorem dX24_keep_29 : decode cX24_keep 29 = .ok (.iload_n 2, 1) := dk_28 (dk_at dksX24_keep_1 7 rfl rfl)
theorem dX24_keep_30 : decode cX24_keep 30 = .ok (.invokevirtual 271, 3) := dk_182 1 15 (dk_at dksX24_keep_1 8 rfl rfl)
theorem dX24_keep_33 : decode cX24_keep 33 = .ok (.ifCond .ne 12, 3) := dk_154 0 12 (dk_at dksX24_keep_1 11 rfl rfl)
theorem dX24_keep_36 : decode cX24_keep 36 = .ok (.aload_n 0, 1) := dk_42 (dk_at dksX24_keep_1 14 rfl rfl)
theorem dX24_keep_37 : decode cX24_keep 37 = .ok (.bipush (-6), 2) := dk_16 250 (dk_at dksX24_keep_1 15 rfl rfl)
theorem dX24_keep_39 : decode cX24_keep 39 = .ok (.invokevirtual 206, 3) := dk_182 0 206 (dk_at dksX24_keep_1 17 rfl rfl)
theorem dX24_keep_42 : decode cX24_keep 42 = .ok (.goto 11, 3) := dk_167 0 11 (dk_at dksX24_keep_1 20 rfl rfl)
theorem dX24_keep_45 : decode cX24_keep 45 = .ok (.aload_n 0, 1) := dk_42 (dk_at dksX24_keep_1 23 rfl rfl)
theorem dX24_keep_46 : decode cX24_keep 46 = .ok (.iconst 3, 1) := dk_6 (dk_at dksX24_keep_2 0 rfl rfl)
theorem dX24_keep_47 : decode cX24_keep 47 = .ok (.iload_n 1, 1) := dk_27 (dk_at dksX24_keep_2 1 rfl rfl)
theorem dX24_keep_48 : decode cX24_keep 48 = .ok (.iload_n 2, 1) := dk_28 (dk_at dksX24_keep_2 2 rfl rfl)
theorem dX24_keep_49 : decode cX24_keep 49 = .ok (.iload_n 2, 1) := dk_28 (dk_at dksX24_keep_2 3 rfl rfl)
theorem dX24_keep_50 : decode cX24_keep 50 = .ok (.invokevirtual 265, 3) := dk_182 1 9 (dk_at dksX24_keep_2 4 rfl rfl)
theorem dX24_keep_53 : decode cX24_keep 53 = .ok (.ireturn, 1) := dk_172 (dk_at dksX24_keep_2 7 rfl rfl)
abbrev cX24_isGroup : ByteArray := prog_53_method_5_code
def yX24_isGroup : MethodName := ⟨RX24, "isGroup", "(I)Z"⟩
def dkwX24_isGroup_0 : List UInt8 := [27, 155, 0, 15, 27, 42, 180, 0, 196, 162, 0, 7, 4, 167, 0, 4, 3, 172]
abbrev dktX24_isGroup_0 : List UInt8 := dkwX24_isGroup_0 ++ []
theorem dksX24_isGroup_0 : cX24_isGroup.data.toList.drop 0 = dktX24_isGroup_0 := by decide +kernel
theorem dX24_isGroup_0 : decode cX24_isGroup 0 = .ok (.iload_n 1, 1) := dk_27 (dk_at dksX24_isGroup_0 0 rfl rfl)
theorem dX24_isGroup_1 : decode cX24_isGroup 1 = .ok (.ifCond .lt 15, 3) := dk_155 0 15 (dk_at dksX24_isGroup_0 1 rfl rfl)
theorem dX24_isGroup_4 : decode cX24_isGroup 4 = .ok (.iload_n 1, 1) := dk_27 (dk_at dksX24_isGroup_0 4 rfl rfl)
theorem dX24_isGroup_5 : decode cX24_isGroup 5 = .ok (.aload_n 0, 1) := dk_42 (dk_at dksX24_isGroup_0 5 rfl rfl)
theorem dX24_isGroup_6 : decode cX24_isGroup 6 = .ok (.getfield 196, 3) := dk_180 0 196 (dk_at dksX24_isGroup_0 6 rfl rfl)
theorem dX24_isGroup_9 : decode cX24_isGroup 9 = .ok (.if_icmp .ge 7, 3) := dk_162 0 7 (dk_at dksX24_isGroup_0 9 rfl rfl)
theorem dX24_isGroup_12 : decode cX24_isGroup 12 = .ok (.iconst 1, 1) := dk_4 (dk_at dksX24_isGroup_0 12 rfl rfl)
theorem dX24_isGroup_13 : decode cX24_isGroup 13 = .ok (.goto 4, 3) := dk_167 0 4 (dk_at dksX24_isGroup_0 13 rfl rfl)
theorem dX24_isGroup_16 : decode cX24_isGroup 16 = .ok (.iconst 0, 1) := dk_3 (dk_at dksX24_isGroup_0 16 rfl rfl)
theorem dX24_isGroup_17 : decode cX24_isGroup 17 = .ok (.ireturn, 1) := dk_172 (dk_at dksX24_isGroup_0 17 rfl rfl)
abbrev cX24_may : ByteArray := prog_53_method_27_code
def yX24_may : MethodName := ⟨RX24, "may", "(IIII)Z"⟩
def dkwX24_may_2 : List UInt8 := [21, 4, 182, 0, 225, 46, 21, 5, 182, 0, 229, 153, 0, 7, 4, 167, 0, 4, 3, 172]
abbrev dktX24_may_2 : List UInt8 := dkwX24_may_2 ++ []
def dkwX24_may_1 : List UInt8 := [29, 182, 0, 225, 46, 21, 5, 182, 0, 229, 153, 0, 32, 27, 8, 161, 0, 23, 42, 42, 180, 0, 88, 42]
abbrev dktX24_may_1 : List UInt8 := dkwX24_may_1 ++ dktX24_may_2
def dkwX24_may_0 : List UInt8 := [42, 182, 1, 3, 27, 6, 160, 0, 9, 28, 5, 108, 167, 0, 4, 28, 54, 5, 42, 42, 180, 0, 88, 42]
abbrev dktX24_may_0 : List UInt8 := dkwX24_may_0 ++ dktX24_may_1
theorem dksX24_may_0 : cX24_may.data.toList.drop 0 = dktX24_may_0 := by decide +kernel
theorem dksX24_may_1 : cX24_may.data.toList.drop 24 = dktX24_may_1 := dk_seg dksX24_may_0 24 rfl rfl
theorem dksX24_may_2 : cX24_may.data.toList.drop 48 = dktX24_may_2 := dk_seg dksX24_may_1 24 rfl rfl
theorem dX24_may_0 : decode cX24_may 0 = .ok (.aload_n 0, 1) := dk_42 (dk_at dksX24_may_0 0 rfl rfl)
theorem dX24_may_1 : decode cX24_may 1 = .ok (.invokevirtual 259, 3) := dk_182 1 3 (dk_at dksX24_may_0 1 rfl rfl)
theorem dX24_may_4 : decode cX24_may 4 = .ok (.iload_n 1, 1) := dk_27 (dk_at dksX24_may_0 4 rfl rfl)
theorem dX24_may_5 : decode cX24_may 5 = .ok (.iconst 3, 1) := dk_6 (dk_at dksX24_may_0 5 rfl rfl)
theorem dX24_may_6 : decode cX24_may 6 = .ok (.if_icmp .ne 9, 3) := dk_160 0 9 (dk_at dksX24_may_0 6 rfl rfl)
theorem dX24_may_9 : decode cX24_may 9 = .ok (.iload_n 2, 1) := dk_28 (dk_at dksX24_may_0 9 rfl rfl)
theorem dX24_may_10 : decode cX24_may 10 = .ok (.iconst 2, 1) := dk_5 (dk_at dksX24_may_0 10 rfl rfl)
theorem dX24_may_11 : decode cX24_may 11 = .ok (.idiv, 1) := dk_108 (dk_at dksX24_may_0 11 rfl rfl)
theorem dX24_may_12 : decode cX24_may 12 = .ok (.goto 4, 3) := dk_167 0 4 (dk_at dksX24_may_0 12 rfl rfl)
theorem dX24_may_15 : decode cX24_may 15 = .ok (.iload_n 2, 1) := dk_28 (dk_at dksX24_may_0 15 rfl rfl)
theorem dX24_may_16 : decode cX24_may 16 = .ok (.istore 5, 2) := dk_54 5 (dk_at dksX24_may_0 16 rfl rfl)
theorem dX24_may_18 : decode cX24_may 18 = .ok (.aload_n 0, 1) := dk_42 (dk_at dksX24_may_0 18 rfl rfl)
theorem dX24_may_19 : decode cX24_may 19 = .ok (.aload_n 0, 1) := dk_42 (dk_at dksX24_may_0 19 rfl rfl)
theorem dX24_may_20 : decode cX24_may 20 = .ok (.getfield 88, 3) := dk_180 0 88 (dk_at dksX24_may_0 20 rfl rfl)
theorem dX24_may_23 : decode cX24_may 23 = .ok (.aload_n 0, 1) := dk_42 (dk_at dksX24_may_0 23 rfl rfl)
theorem dX24_may_24 : decode cX24_may 24 = .ok (.iload_n 3, 1) := dk_29 (dk_at dksX24_may_1 0 rfl rfl)
theorem dX24_may_25 : decode cX24_may 25 = .ok (.invokevirtual 225, 3) := dk_182 0 225 (dk_at dksX24_may_1 1 rfl rfl)
theorem dX24_may_28 : decode cX24_may 28 = .ok (.iaload, 1) := dk_46 (dk_at dksX24_may_1 4 rfl rfl)
theorem dX24_may_29 : decode cX24_may 29 = .ok (.iload 5, 2) := dk_21 5 (dk_at dksX24_may_1 5 rfl rfl)
theorem dX24_may_31 : decode cX24_may 31 = .ok (.invokevirtual 229, 3) := dk_182 0 229 (dk_at dksX24_may_1 7 rfl rfl)
theorem dX24_may_34 : decode cX24_may 34 = .ok (.ifCond .eq 32, 3) := dk_153 0 32 (dk_at dksX24_may_1 10 rfl rfl)
theorem dX24_may_37 : decode cX24_may 37 = .ok (.iload_n 1, 1) := dk_27 (dk_at dksX24_may_1 13 rfl rfl)
theorem dX24_may_38 : decode cX24_may 38 = .ok (.iconst 5, 1) := dk_8 (dk_at dksX24_may_1 14 rfl rfl)
theorem dX24_may_39 : decode cX24_may 39 = .ok (.if_icmp .lt 23, 3) := dk_161 0 23 (dk_at dksX24_may_1 15 rfl rfl)
theorem dX24_may_42 : decode cX24_may 42 = .ok (.aload_n 0, 1) := dk_42 (dk_at dksX24_may_1 18 rfl rfl)
theorem dX24_may_43 : decode cX24_may 43 = .ok (.aload_n 0, 1) := dk_42 (dk_at dksX24_may_1 19 rfl rfl)
theorem dX24_may_44 : decode cX24_may 44 = .ok (.getfield 88, 3) := dk_180 0 88 (dk_at dksX24_may_1 20 rfl rfl)
theorem dX24_may_47 : decode cX24_may 47 = .ok (.aload_n 0, 1) := dk_42 (dk_at dksX24_may_1 23 rfl rfl)
theorem dX24_may_48 : decode cX24_may 48 = .ok (.iload 4, 2) := dk_21 4 (dk_at dksX24_may_2 0 rfl rfl)
theorem dX24_may_50 : decode cX24_may 50 = .ok (.invokevirtual 225, 3) := dk_182 0 225 (dk_at dksX24_may_2 2 rfl rfl)
theorem dX24_may_53 : decode cX24_may 53 = .ok (.iaload, 1) := dk_46 (dk_at dksX24_may_2 5 rfl rfl)
theorem dX24_may_54 : decode cX24_may 54 = .ok (.iload 5, 2) := dk_21 5 (dk_at dksX24_may_2 6 rfl rfl)
theorem dX24_may_56 : decode cX24_may 56 = .ok (.invokevirtual 229, 3) := dk_182 0 229 (dk_at dksX24_may_2 8 rfl rfl)
theorem dX24_may_59 : decode cX24_may 59 = .ok (.ifCond .eq 7, 3) := dk_153 0 7 (dk_at dksX24_may_2 11 rfl rfl)
theorem dX24_may_62 : decode cX24_may 62 = .ok (.iconst 1, 1) := dk_4 (dk_at dksX24_may_2 14 rfl rfl)
theorem dX24_may_63 : decode cX24_may 63 = .ok (.goto 4, 3) := dk_167 0 4 (dk_at dksX24_may_2 15 rfl rfl)
theorem dX24_may_66 : decode cX24_may 66 = .ok (.iconst 0, 1) := dk_3 (dk_at dksX24_may_2 18 rfl rfl)
theorem dX24_may_67 : decode cX24_may 67 = .ok (.ireturn, 1) := dk_172 (dk_at dksX24_may_2 19 rfl rfl)
abbrev cX24_tells : ByteArray := prog_53_method_22_code
def yX24_tells : MethodName := ⟨RX24, "tells", "()V"⟩
def dkwX24_tells_17 : List UInt8 := [21, 4, 46, 128, 167, 0, 9, 42, 180, 0, 88, 29, 46, 79, 132, 1, 1, 167, 254, 123, 177]
abbrev dktX24_tells_17 : List UInt8 := dkwX24_tells_17 ++ []
def dkwX24_tells_16 : List UInt8 := [167, 0, 36, 42, 180, 0, 38, 27, 46, 8, 160, 0, 20, 42, 180, 0, 88, 29, 46, 42, 180, 0, 88]
abbrev dktX24_tells_16 : List UInt8 := dkwX24_tells_16 ++ dktX24_tells_17
def dkwX24_tells_15 : List UInt8 := [46, 46, 167, 0, 57, 42, 180, 0, 38, 27, 46, 7, 160, 0, 14, 4, 42, 180, 0, 41, 27, 46, 120]
abbrev dktX24_tells_15 : List UInt8 := dkwX24_tells_15 ++ dktX24_tells_16
def dkwX24_tells_14 : List UInt8 := [42, 180, 0, 88, 28, 42, 180, 0, 38, 27, 46, 4, 160, 0, 17, 42, 180, 0, 29, 42, 180, 0, 41, 27]
abbrev dktX24_tells_14 : List UInt8 := dkwX24_tells_14 ++ dktX24_tells_15
def dkwX24_tells_13 : List UInt8 := [180, 0, 85, 29, 46, 21, 7, 184, 0, 246, 54, 8, 42, 180, 0, 85, 28, 4, 21, 8, 184, 0, 249, 79]
abbrev dktX24_tells_13 : List UInt8 := dkwX24_tells_13 ++ dktX24_tells_14
def dkwX24_tells_12 : List UInt8 := [184, 0, 246, 167, 0, 29, 42, 180, 0, 38, 27, 46, 8, 160, 0, 8, 21, 7, 167, 0, 14, 42]
abbrev dktX24_tells_12 : List UInt8 := dkwX24_tells_12 ++ dktX24_tells_13
def dkwX24_tells_11 : List UInt8 := [27, 46, 7, 160, 0, 26, 42, 180, 0, 85, 29, 46, 42, 180, 0, 23, 42, 180, 0, 41, 27, 46, 46]
abbrev dktX24_tells_11 : List UInt8 := dkwX24_tells_11 ++ dktX24_tells_12
def dkwX24_tells_10 : List UInt8 := [180, 0, 41, 27, 46, 5, 112, 154, 0, 8, 16, 10, 167, 0, 4, 5, 108, 167, 0, 62, 42, 180, 0, 38]
abbrev dktX24_tells_10 : List UInt8 := dkwX24_tells_10 ++ dktX24_tells_11
def dkwX24_tells_9 : List UInt8 := [27, 46, 46, 167, 0, 99, 42, 180, 0, 38, 27, 46, 6, 160, 0, 30, 42, 180, 0, 85, 29, 46, 42]
abbrev dktX24_tells_9 : List UInt8 := dkwX24_tells_9 ++ dktX24_tells_10
def dkwX24_tells_8 : List UInt8 := [184, 0, 243, 136, 54, 7, 42, 180, 0, 38, 27, 46, 4, 160, 0, 17, 42, 180, 0, 26, 42, 180, 0, 41]
abbrev dktX24_tells_8 : List UInt8 := dkwX24_tells_8 ++ dktX24_tells_9
def dkwX24_tells_7 : List UInt8 := [180, 0, 41, 27, 46, 46, 133, 109, 167, 0, 4, 9, 55, 5, 10, 20, 0, 235, 22, 5, 184, 0, 237]
abbrev dktX24_tells_7 : List UInt8 := dkwX24_tells_7 ++ dktX24_tells_8
def dkwX24_tells_6 : List UInt8 := [161, 0, 35, 42, 180, 0, 85, 29, 46, 133, 42, 180, 0, 85, 21, 4, 46, 133, 105, 42, 180, 0, 23, 42]
abbrev dktX24_tells_6 : List UInt8 := dkwX24_tells_6 ++ dktX24_tells_7
def dkwX24_tells_5 : List UInt8 := [42, 42, 180, 0, 47, 27, 46, 182, 0, 225, 167, 0, 4, 3, 54, 4, 42, 180, 0, 38, 27, 46, 8]
abbrev dktX24_tells_5 : List UInt8 := dkwX24_tells_5 ++ dktX24_tells_6
def dkwX24_tells_4 : List UInt8 := [167, 0, 13, 42, 42, 180, 0, 44, 27, 46, 182, 0, 225, 62, 42, 180, 0, 38, 27, 46, 8, 161, 0, 16]
abbrev dktX24_tells_4 : List UInt8 := dkwX24_tells_4 ++ dktX24_tells_5
def dkwX24_tells_3 : List UInt8 := [182, 0, 225, 61, 42, 180, 0, 91, 28, 27, 79, 42, 180, 0, 38, 27, 46, 4, 160, 0, 7, 3]
abbrev dktX24_tells_3 : List UInt8 := dkwX24_tells_3 ++ dktX24_tells_4
def dkwX24_tells_2 : List UInt8 := [180, 0, 50, 27, 46, 182, 0, 225, 46, 2, 159, 0, 6, 167, 1, 94, 42, 42, 180, 0, 50, 27, 46]
abbrev dktX24_tells_2 : List UInt8 := dkwX24_tells_2 ++ dktX24_tells_3
def dkwX24_tells_1 : List UInt8 := [60, 27, 42, 180, 0, 199, 162, 1, 131, 42, 180, 0, 56, 27, 51, 154, 1, 116, 42, 180, 0, 91, 42, 42]
abbrev dktX24_tells_1 : List UInt8 := dkwX24_tells_1 ++ dktX24_tells_2
def dkwX24_tells_0 : List UInt8 := [3, 60, 27, 42, 180, 0, 196, 162, 0, 16, 42, 180, 0, 91, 27, 2, 79, 132, 1, 1, 167, 255, 238, 3]
abbrev dktX24_tells_0 : List UInt8 := dkwX24_tells_0 ++ dktX24_tells_1
theorem dksX24_tells_0 : cX24_tells.data.toList.drop 0 = dktX24_tells_0 := by decide +kernel
theorem dksX24_tells_1 : cX24_tells.data.toList.drop 24 = dktX24_tells_1 := dk_seg dksX24_tells_0 24 rfl rfl
theorem dksX24_tells_2 : cX24_tells.data.toList.drop 48 = dktX24_tells_2 := dk_seg dksX24_tells_1 24 rfl rfl
theorem dksX24_tells_3 : cX24_tells.data.toList.drop 71 = dktX24_tells_3 := dk_seg dksX24_tells_2 23 rfl rfl
theorem dksX24_tells_4 : cX24_tells.data.toList.drop 93 = dktX24_tells_4 := dk_seg dksX24_tells_3 22 rfl rfl
theorem dksX24_tells_5 : cX24_tells.data.toList.drop 117 = dktX24_tells_5 := dk_seg dksX24_tells_4 24 rfl rfl
theorem dksX24_tells_6 : cX24_tells.data.toList.drop 140 = dktX24_tells_6 := dk_seg dksX24_tells_5 23 rfl rfl
theorem dksX24_tells_7 : cX24_tells.data.toList.drop 164 = dktX24_tells_7 := dk_seg dksX24_tells_6 24 rfl rfl
theorem dksX24_tells_8 : cX24_tells.data.toList.drop 187 = dktX24_tells_8 := dk_seg dksX24_tells_7 23 rfl rfl
theorem dksX24_tells_9 : cX24_tells.data.toList.drop 211 = dktX24_tells_9 := dk_seg dksX24_tells_8 24 rfl rfl
theorem dksX24_tells_10 : cX24_tells.data.toList.drop 234 = dktX24_tells_10 := dk_seg dksX24_tells_9 23 rfl rfl
theorem dksX24_tells_11 : cX24_tells.data.toList.drop 258 = dktX24_tells_11 := dk_seg dksX24_tells_10 24 rfl rfl
theorem dksX24_tells_12 : cX24_tells.data.toList.drop 281 = dktX24_tells_12 := dk_seg dksX24_tells_11 23 rfl rfl
theorem dksX24_tells_13 : cX24_tells.data.toList.drop 303 = dktX24_tells_13 := dk_seg dksX24_tells_12 22 rfl rfl
theorem dksX24_tells_14 : cX24_tells.data.toList.drop 327 = dktX24_tells_14 := dk_seg dksX24_tells_13 24 rfl rfl
theorem dksX24_tells_15 : cX24_tells.data.toList.drop 351 = dktX24_tells_15 := dk_seg dksX24_tells_14 24 rfl rfl
theorem dksX24_tells_16 : cX24_tells.data.toList.drop 374 = dktX24_tells_16 := dk_seg dksX24_tells_15 23 rfl rfl
theorem dksX24_tells_17 : cX24_tells.data.toList.drop 397 = dktX24_tells_17 := dk_seg dksX24_tells_16 23 rfl rfl
theorem dX24_tells_0 : decode cX24_tells 0 = .ok (.iconst 0, 1) := dk_3 (dk_at dksX24_tells_0 0 rfl rfl)
theorem dX24_tells_1 : decode cX24_tells 1 = .ok (.istore_n 1, 1) := dk_60 (dk_at dksX24_tells_0 1 rfl rfl)
theorem dX24_tells_2 : decode cX24_tells 2 = .ok (.iload_n 1, 1) := dk_27 (dk_at dksX24_tells_0 2 rfl rfl)
theorem dX24_tells_3 : decode cX24_tells 3 = .ok (.aload_n 0, 1) := dk_42 (dk_at dksX24_tells_0 3 rfl rfl)
theorem dX24_tells_4 : decode cX24_tells 4 = .ok (.getfield 196, 3) := dk_180 0 196 (dk_at dksX24_tells_0 4 rfl rfl)
theorem dX24_tells_7 : decode cX24_tells 7 = .ok (.if_icmp .ge 16, 3) := dk_162 0 16 (dk_at dksX24_tells_0 7 rfl rfl)
theorem dX24_tells_10 : decode cX24_tells 10 = .ok (.aload_n 0, 1) := dk_42 (dk_at dksX24_tells_0 10 rfl rfl)
theorem dX24_tells_11 : decode cX24_tells 11 = .ok (.getfield 91, 3) := dk_180 0 91 (dk_at dksX24_tells_0 11 rfl rfl)
theorem dX24_tells_14 : decode cX24_tells 14 = .ok (.iload_n 1, 1) := dk_27 (dk_at dksX24_tells_0 14 rfl rfl)
theorem dX24_tells_15 : decode cX24_tells 15 = .ok (.iconst (-1), 1) := dk_2 (dk_at dksX24_tells_0 15 rfl rfl)
theorem dX24_tells_16 : decode cX24_tells 16 = .ok (.iastore, 1) := dk_79 (dk_at dksX24_tells_0 16 rfl rfl)
theorem dX24_tells_17 : decode cX24_tells 17 = .ok (.iinc 1 1, 3) := dk_132 1 1 (dk_at dksX24_tells_0 17 rfl rfl)
theorem dX24_tells_20 : decode cX24_tells 20 = .ok (.goto (-18), 3) := dk_167 255 238 (dk_at dksX24_tells_0 20 rfl rfl)
theorem dX24_tells_23 : decode cX24_tells 23 = .ok (.iconst 0, 1) := dk_3 (dk_at dksX24_tells_0 23 rfl rfl)
theorem dX24_tells_24 : decode cX24_tells 24 = .ok (.istore_n 1, 1) := dk_60 (dk_at dksX24_tells_1 0 rfl rfl)
theorem dX24_tells_25 : decode cX24_tells 25 = .ok (.iload_n 1, 1) := dk_27 (dk_at dksX24_tells_1 1 rfl rfl)
theorem dX24_tells_26 : decode cX24_tells 26 = .ok (.aload_n 0, 1) := dk_42 (dk_at dksX24_tells_1 2 rfl rfl)
theorem dX24_tells_27 : decode cX24_tells 27 = .ok (.getfield 199, 3) := dk_180 0 199 (dk_at dksX24_tells_1 3 rfl rfl)
theorem dX24_tells_30 : decode cX24_tells 30 = .ok (.if_icmp .ge 387, 3) := dk_162 1 131 (dk_at dksX24_tells_1 6 rfl rfl)
theorem dX24_tells_33 : decode cX24_tells 33 = .ok (.aload_n 0, 1) := dk_42 (dk_at dksX24_tells_1 9 rfl rfl)
theorem dX24_tells_34 : decode cX24_tells 34 = .ok (.getfield 56, 3) := dk_180 0 56 (dk_at dksX24_tells_1 10 rfl rfl)
theorem dX24_tells_37 : decode cX24_tells 37 = .ok (.iload_n 1, 1) := dk_27 (dk_at dksX24_tells_1 13 rfl rfl)
theorem dX24_tells_38 : decode cX24_tells 38 = .ok (.baload, 1) := dk_51 (dk_at dksX24_tells_1 14 rfl rfl)
theorem dX24_tells_39 : decode cX24_tells 39 = .ok (.ifCond .ne 372, 3) := dk_154 1 116 (dk_at dksX24_tells_1 15 rfl rfl)
theorem dX24_tells_42 : decode cX24_tells 42 = .ok (.aload_n 0, 1) := dk_42 (dk_at dksX24_tells_1 18 rfl rfl)
theorem dX24_tells_43 : decode cX24_tells 43 = .ok (.getfield 91, 3) := dk_180 0 91 (dk_at dksX24_tells_1 19 rfl rfl)
theorem dX24_tells_46 : decode cX24_tells 46 = .ok (.aload_n 0, 1) := dk_42 (dk_at dksX24_tells_1 22 rfl rfl)
theorem dX24_tells_47 : decode cX24_tells 47 = .ok (.aload_n 0, 1) := dk_42 (dk_at dksX24_tells_1 23 rfl rfl)
theorem dX24_tells_48 : decode cX24_tells 48 = .ok (.getfield 50, 3) := dk_180 0 50 (dk_at dksX24_tells_2 0 rfl rfl)
theorem dX24_tells_51 : decode cX24_tells 51 = .ok (.iload_n 1, 1) := dk_27 (dk_at dksX24_tells_2 3 rfl rfl)
theorem dX24_tells_52 : decode cX24_tells 52 = .ok (.iaload, 1) := dk_46 (dk_at dksX24_tells_2 4 rfl rfl)
theorem dX24_tells_53 : decode cX24_tells 53 = .ok (.invokevirtual 225, 3) := dk_182 0 225 (dk_at dksX24_tells_2 5 rfl rfl)
theorem dX24_tells_56 : decode cX24_tells 56 = .ok (.iaload, 1) := dk_46 (dk_at dksX24_tells_2 8 rfl rfl)
theorem dX24_tells_57 : decode cX24_tells 57 = .ok (.iconst (-1), 1) := dk_2 (dk_at dksX24_tells_2 9 rfl rfl)
theorem dX24_tells_58 : decode cX24_tells 58 = .ok (.if_icmp .eq 6, 3) := dk_159 0 6 (dk_at dksX24_tells_2 10 rfl rfl)
theorem dX24_tells_61 : decode cX24_tells 61 = .ok (.goto 350, 3) := dk_167 1 94 (dk_at dksX24_tells_2 13 rfl rfl)
theorem dX24_tells_64 : decode cX24_tells 64 = .ok (.aload_n 0, 1) := dk_42 (dk_at dksX24_tells_2 16 rfl rfl)
theorem dX24_tells_65 : decode cX24_tells 65 = .ok (.aload_n 0, 1) := dk_42 (dk_at dksX24_tells_2 17 rfl rfl)
theorem dX24_tells_66 : decode cX24_tells 66 = .ok (.getfield 50, 3) := dk_180 0 50 (dk_at dksX24_tells_2 18 rfl rfl)
theorem dX24_tells_69 : decode cX24_tells 69 = .ok (.iload_n 1, 1) := dk_27 (dk_at dksX24_tells_2 21 rfl rfl)
theorem dX24_tells_70 : decode cX24_tells 70 = .ok (.iaload, 1) := dk_46 (dk_at dksX24_tells_2 22 rfl rfl)
theorem dX24_tells_71 : decode cX24_tells 71 = .ok (.invokevirtual 225, 3) := dk_182 0 225 (dk_at dksX24_tells_3 0 rfl rfl)
theorem dX24_tells_74 : decode cX24_tells 74 = .ok (.istore_n 2, 1) := dk_61 (dk_at dksX24_tells_3 3 rfl rfl)
theorem dX24_tells_75 : decode cX24_tells 75 = .ok (.aload_n 0, 1) := dk_42 (dk_at dksX24_tells_3 4 rfl rfl)
theorem dX24_tells_76 : decode cX24_tells 76 = .ok (.getfield 91, 3) := dk_180 0 91 (dk_at dksX24_tells_3 5 rfl rfl)
theorem dX24_tells_79 : decode cX24_tells 79 = .ok (.iload_n 2, 1) := dk_28 (dk_at dksX24_tells_3 8 rfl rfl)
theorem dX24_tells_80 : decode cX24_tells 80 = .ok (.iload_n 1, 1) := dk_27 (dk_at dksX24_tells_3 9 rfl rfl)
theorem dX24_tells_81 : decode cX24_tells 81 = .ok (.iastore, 1) := dk_79 (dk_at dksX24_tells_3 10 rfl rfl)
theorem dX24_tells_82 : decode cX24_tells 82 = .ok (.aload_n 0, 1) := dk_42 (dk_at dksX24_tells_3 11 rfl rfl)
theorem dX24_tells_83 : decode cX24_tells 83 = .ok (.getfield 38, 3) := dk_180 0 38 (dk_at dksX24_tells_3 12 rfl rfl)
theorem dX24_tells_86 : decode cX24_tells 86 = .ok (.iload_n 1, 1) := dk_27 (dk_at dksX24_tells_3 15 rfl rfl)
theorem dX24_tells_87 : decode cX24_tells 87 = .ok (.iaload, 1) := dk_46 (dk_at dksX24_tells_3 16 rfl rfl)
theorem dX24_tells_88 : decode cX24_tells 88 = .ok (.iconst 1, 1) := dk_4 (dk_at dksX24_tells_3 17 rfl rfl)
theorem dX24_tells_89 : decode cX24_tells 89 = .ok (.if_icmp .ne 7, 3) := dk_160 0 7 (dk_at dksX24_tells_3 18 rfl rfl)
theorem dX24_tells_92 : decode cX24_tells 92 = .ok (.iconst 0, 1) := dk_3 (dk_at dksX24_tells_3 21 rfl rfl)
theorem dX24_tells_93 : decode cX24_tells 93 = .ok (.goto 13, 3) := dk_167 0 13 (dk_at dksX24_tells_4 0 rfl rfl)
theorem dX24_tells_96 : decode cX24_tells 96 = .ok (.aload_n 0, 1) := dk_42 (dk_at dksX24_tells_4 3 rfl rfl)
theorem dX24_tells_97 : decode cX24_tells 97 = .ok (.aload_n 0, 1) := dk_42 (dk_at dksX24_tells_4 4 rfl rfl)
theorem dX24_tells_98 : decode cX24_tells 98 = .ok (.getfield 44, 3) := dk_180 0 44 (dk_at dksX24_tells_4 5 rfl rfl)
theorem dX24_tells_101 : decode cX24_tells 101 = .ok (.iload_n 1, 1) := dk_27 (dk_at dksX24_tells_4 8 rfl rfl)
theorem dX24_tells_102 : decode cX24_tells 102 = .ok (.iaload, 1) := dk_46 (dk_at dksX24_tells_4 9 rfl rfl)
theorem dX24_tells_103 : decode cX24_tells 103 = .ok (.invokevirtual 225, 3) := dk_182 0 225 (dk_at dksX24_tells_4 10 rfl rfl)
theorem dX24_tells_106 : decode cX24_tells 106 = .ok (.istore_n 3, 1) := dk_62 (dk_at dksX24_tells_4 13 rfl rfl)
theorem dX24_tells_107 : decode cX24_tells 107 = .ok (.aload_n 0, 1) := dk_42 (dk_at dksX24_tells_4 14 rfl rfl)
theorem dX24_tells_108 : decode cX24_tells 108 = .ok (.getfield 38, 3) := dk_180 0 38 (dk_at dksX24_tells_4 15 rfl rfl)
theorem dX24_tells_111 : decode cX24_tells 111 = .ok (.iload_n 1, 1) := dk_27 (dk_at dksX24_tells_4 18 rfl rfl)
theorem dX24_tells_112 : decode cX24_tells 112 = .ok (.iaload, 1) := dk_46 (dk_at dksX24_tells_4 19 rfl rfl)
theorem dX24_tells_113 : decode cX24_tells 113 = .ok (.iconst 5, 1) := dk_8 (dk_at dksX24_tells_4 20 rfl rfl)
theorem dX24_tells_114 : decode cX24_tells 114 = .ok (.if_icmp .lt 16, 3) := dk_161 0 16 (dk_at dksX24_tells_4 21 rfl rfl)
theorem dX24_tells_117 : decode cX24_tells 117 = .ok (.aload_n 0, 1) := dk_42 (dk_at dksX24_tells_5 0 rfl rfl)
theorem dX24_tells_118 : decode cX24_tells 118 = .ok (.aload_n 0, 1) := dk_42 (dk_at dksX24_tells_5 1 rfl rfl)
theorem dX24_tells_119 : decode cX24_tells 119 = .ok (.getfield 47, 3) := dk_180 0 47 (dk_at dksX24_tells_5 2 rfl rfl)
theorem dX24_tells_122 : decode cX24_tells 122 = .ok (.iload_n 1, 1) := dk_27 (dk_at dksX24_tells_5 5 rfl rfl)
theorem dX24_tells_123 : decode cX24_tells 123 = .ok (.iaload, 1) := dk_46 (dk_at dksX24_tells_5 6 rfl rfl)
theorem dX24_tells_124 : decode cX24_tells 124 = .ok (.invokevirtual 225, 3) := dk_182 0 225 (dk_at dksX24_tells_5 7 rfl rfl)
theorem dX24_tells_127 : decode cX24_tells 127 = .ok (.goto 4, 3) := dk_167 0 4 (dk_at dksX24_tells_5 10 rfl rfl)
theorem dX24_tells_130 : decode cX24_tells 130 = .ok (.iconst 0, 1) := dk_3 (dk_at dksX24_tells_5 13 rfl rfl)
theorem dX24_tells_131 : decode cX24_tells 131 = .ok (.istore 4, 2) := dk_54 4 (dk_at dksX24_tells_5 14 rfl rfl)
theorem dX24_tells_133 : decode cX24_tells 133 = .ok (.aload_n 0, 1) := dk_42 (dk_at dksX24_tells_5 16 rfl rfl)
theorem dX24_tells_134 : decode cX24_tells 134 = .ok (.getfield 38, 3) := dk_180 0 38 (dk_at dksX24_tells_5 17 rfl rfl)
theorem dX24_tells_137 : decode cX24_tells 137 = .ok (.iload_n 1, 1) := dk_27 (dk_at dksX24_tells_5 20 rfl rfl)
theorem dX24_tells_138 : decode cX24_tells 138 = .ok (.iaload, 1) := dk_46 (dk_at dksX24_tells_5 21 rfl rfl)
theorem dX24_tells_139 : decode cX24_tells 139 = .ok (.iconst 5, 1) := dk_8 (dk_at dksX24_tells_5 22 rfl rfl)
theorem dX24_tells_140 : decode cX24_tells 140 = .ok (.if_icmp .lt 35, 3) := dk_161 0 35 (dk_at dksX24_tells_6 0 rfl rfl)
theorem dX24_tells_143 : decode cX24_tells 143 = .ok (.aload_n 0, 1) := dk_42 (dk_at dksX24_tells_6 3 rfl rfl)
theorem dX24_tells_144 : decode cX24_tells 144 = .ok (.getfield 85, 3) := dk_180 0 85 (dk_at dksX24_tells_6 4 rfl rfl)
theorem dX24_tells_147 : decode cX24_tells 147 = .ok (.iload_n 3, 1) := dk_29 (dk_at dksX24_tells_6 7 rfl rfl)
theorem dX24_tells_148 : decode cX24_tells 148 = .ok (.iaload, 1) := dk_46 (dk_at dksX24_tells_6 8 rfl rfl)
theorem dX24_tells_149 : decode cX24_tells 149 = .ok (.i2l, 1) := dk_133 (dk_at dksX24_tells_6 9 rfl rfl)
theorem dX24_tells_150 : decode cX24_tells 150 = .ok (.aload_n 0, 1) := dk_42 (dk_at dksX24_tells_6 10 rfl rfl)
theorem dX24_tells_151 : decode cX24_tells 151 = .ok (.getfield 85, 3) := dk_180 0 85 (dk_at dksX24_tells_6 11 rfl rfl)
theorem dX24_tells_154 : decode cX24_tells 154 = .ok (.iload 4, 2) := dk_21 4 (dk_at dksX24_tells_6 14 rfl rfl)
theorem dX24_tells_156 : decode cX24_tells 156 = .ok (.iaload, 1) := dk_46 (dk_at dksX24_tells_6 16 rfl rfl)
theorem dX24_tells_157 : decode cX24_tells 157 = .ok (.i2l, 1) := dk_133 (dk_at dksX24_tells_6 17 rfl rfl)
theorem dX24_tells_158 : decode cX24_tells 158 = .ok (.lmul, 1) := dk_105 (dk_at dksX24_tells_6 18 rfl rfl)
theorem dX24_tells_159 : decode cX24_tells 159 = .ok (.aload_n 0, 1) := dk_42 (dk_at dksX24_tells_6 19 rfl rfl)
theorem dX24_tells_160 : decode cX24_tells 160 = .ok (.getfield 23, 3) := dk_180 0 23 (dk_at dksX24_tells_6 20 rfl rfl)
theorem dX24_tells_163 : decode cX24_tells 163 = .ok (.aload_n 0, 1) := dk_42 (dk_at dksX24_tells_6 23 rfl rfl)
theorem dX24_tells_164 : decode cX24_tells 164 = .ok (.getfield 41, 3) := dk_180 0 41 (dk_at dksX24_tells_7 0 rfl rfl)
theorem dX24_tells_167 : decode cX24_tells 167 = .ok (.iload_n 1, 1) := dk_27 (dk_at dksX24_tells_7 3 rfl rfl)
theorem dX24_tells_168 : decode cX24_tells 168 = .ok (.iaload, 1) := dk_46 (dk_at dksX24_tells_7 4 rfl rfl)
theorem dX24_tells_169 : decode cX24_tells 169 = .ok (.iaload, 1) := dk_46 (dk_at dksX24_tells_7 5 rfl rfl)
theorem dX24_tells_170 : decode cX24_tells 170 = .ok (.i2l, 1) := dk_133 (dk_at dksX24_tells_7 6 rfl rfl)
theorem dX24_tells_171 : decode cX24_tells 171 = .ok (.ldiv, 1) := dk_109 (dk_at dksX24_tells_7 7 rfl rfl)
theorem dX24_tells_172 : decode cX24_tells 172 = .ok (.goto 4, 3) := dk_167 0 4 (dk_at dksX24_tells_7 8 rfl rfl)
theorem dX24_tells_175 : decode cX24_tells 175 = .ok (.lconst 0, 1) := dk_9 (dk_at dksX24_tells_7 11 rfl rfl)
theorem dX24_tells_176 : decode cX24_tells 176 = .ok (.lstore 5, 2) := dk_55 5 (dk_at dksX24_tells_7 12 rfl rfl)
theorem dX24_tells_178 : decode cX24_tells 178 = .ok (.lconst 1, 1) := dk_10 (dk_at dksX24_tells_7 14 rfl rfl)
theorem dX24_tells_179 : decode cX24_tells 179 = .ok (.ldc2_w 235, 3) := dk_20 0 235 (dk_at dksX24_tells_7 15 rfl rfl)
theorem dX24_tells_182 : decode cX24_tells 182 = .ok (.lload 5, 2) := dk_22 5 (dk_at dksX24_tells_7 18 rfl rfl)
theorem dX24_tells_184 : decode cX24_tells 184 = .ok (.invokestatic 237, 3) := dk_184 0 237 (dk_at dksX24_tells_7 20 rfl rfl)
theorem dX24_tells_187 : decode cX24_tells 187 = .ok (.invokestatic 243, 3) := dk_184 0 243 (dk_at dksX24_tells_8 0 rfl rfl)
theorem dX24_tells_190 : decode cX24_tells 190 = .ok (.l2i, 1) := dk_136 (dk_at dksX24_tells_8 3 rfl rfl)
theorem dX24_tells_191 : decode cX24_tells 191 = .ok (.istore 7, 2) := dk_54 7 (dk_at dksX24_tells_8 4 rfl rfl)
theorem dX24_tells_193 : decode cX24_tells 193 = .ok (.aload_n 0, 1) := dk_42 (dk_at dksX24_tells_8 6 rfl rfl)
theorem dX24_tells_194 : decode cX24_tells 194 = .ok (.getfield 38, 3) := dk_180 0 38 (dk_at dksX24_tells_8 7 rfl rfl)
theorem dX24_tells_197 : decode cX24_tells 197 = .ok (.iload_n 1, 1) := dk_27 (dk_at dksX24_tells_8 10 rfl rfl)
theorem dX24_tells_198 : decode cX24_tells 198 = .ok (.iaload, 1) := dk_46 (dk_at dksX24_tells_8 11 rfl rfl)
theorem dX24_tells_199 : decode cX24_tells 199 = .ok (.iconst 1, 1) := dk_4 (dk_at dksX24_tells_8 12 rfl rfl)
theorem dX24_tells_200 : decode cX24_tells 200 = .ok (.if_icmp .ne 17, 3) := dk_160 0 17 (dk_at dksX24_tells_8 13 rfl rfl)
theorem dX24_tells_203 : decode cX24_tells 203 = .ok (.aload_n 0, 1) := dk_42 (dk_at dksX24_tells_8 16 rfl rfl)
theorem dX24_tells_204 : decode cX24_tells 204 = .ok (.getfield 26, 3) := dk_180 0 26 (dk_at dksX24_tells_8 17 rfl rfl)
theorem dX24_tells_207 : decode cX24_tells 207 = .ok (.aload_n 0, 1) := dk_42 (dk_at dksX24_tells_8 20 rfl rfl)
theorem dX24_tells_208 : decode cX24_tells 208 = .ok (.getfield 41, 3) := dk_180 0 41 (dk_at dksX24_tells_8 21 rfl rfl)
theorem dX24_tells_211 : decode cX24_tells 211 = .ok (.iload_n 1, 1) := dk_27 (dk_at dksX24_tells_9 0 rfl rfl)
theorem dX24_tells_212 : decode cX24_tells 212 = .ok (.iaload, 1) := dk_46 (dk_at dksX24_tells_9 1 rfl rfl)
theorem dX24_tells_213 : decode cX24_tells 213 = .ok (.iaload, 1) := dk_46 (dk_at dksX24_tells_9 2 rfl rfl)
theorem dX24_tells_214 : decode cX24_tells 214 = .ok (.goto 99, 3) := dk_167 0 99 (dk_at dksX24_tells_9 3 rfl rfl)
theorem dX24_tells_217 : decode cX24_tells 217 = .ok (.aload_n 0, 1) := dk_42 (dk_at dksX24_tells_9 6 rfl rfl)
theorem dX24_tells_218 : decode cX24_tells 218 = .ok (.getfield 38, 3) := dk_180 0 38 (dk_at dksX24_tells_9 7 rfl rfl)
theorem dX24_tells_221 : decode cX24_tells 221 = .ok (.iload_n 1, 1) := dk_27 (dk_at dksX24_tells_9 10 rfl rfl)
theorem dX24_tells_222 : decode cX24_tells 222 = .ok (.iaload, 1) := dk_46 (dk_at dksX24_tells_9 11 rfl rfl)
theorem dX24_tells_223 : decode cX24_tells 223 = .ok (.iconst 3, 1) := dk_6 (dk_at dksX24_tells_9 12 rfl rfl)
theorem dX24_tells_224 : decode cX24_tells 224 = .ok (.if_icmp .ne 30, 3) := dk_160 0 30 (dk_at dksX24_tells_9 13 rfl rfl)
theorem dX24_tells_227 : decode cX24_tells 227 = .ok (.aload_n 0, 1) := dk_42 (dk_at dksX24_tells_9 16 rfl rfl)
theorem dX24_tells_228 : decode cX24_tells 228 = .ok (.getfield 85, 3) := dk_180 0 85 (dk_at dksX24_tells_9 17 rfl rfl)
theorem dX24_tells_231 : decode cX24_tells 231 = .ok (.iload_n 3, 1) := dk_29 (dk_at dksX24_tells_9 20 rfl rfl)
theorem dX24_tells_232 : decode cX24_tells 232 = .ok (.iaload, 1) := dk_46 (dk_at dksX24_tells_9 21 rfl rfl)
theorem dX24_tells_233 : decode cX24_tells 233 = .ok (.aload_n 0, 1) := dk_42 (dk_at dksX24_tells_9 22 rfl rfl)
theorem dX24_tells_234 : decode cX24_tells 234 = .ok (.getfield 41, 3) := dk_180 0 41 (dk_at dksX24_tells_10 0 rfl rfl)
theorem dX24_tells_237 : decode cX24_tells 237 = .ok (.iload_n 1, 1) := dk_27 (dk_at dksX24_tells_10 3 rfl rfl)
theorem dX24_tells_238 : decode cX24_tells 238 = .ok (.iaload, 1) := dk_46 (dk_at dksX24_tells_10 4 rfl rfl)
theorem dX24_tells_239 : decode cX24_tells 239 = .ok (.iconst 2, 1) := dk_5 (dk_at dksX24_tells_10 5 rfl rfl)
theorem dX24_tells_240 : decode cX24_tells 240 = .ok (.irem, 1) := dk_112 (dk_at dksX24_tells_10 6 rfl rfl)
theorem dX24_tells_241 : decode cX24_tells 241 = .ok (.ifCond .ne 8, 3) := dk_154 0 8 (dk_at dksX24_tells_10 7 rfl rfl)
theorem dX24_tells_244 : decode cX24_tells 244 = .ok (.bipush 10, 2) := dk_16 10 (dk_at dksX24_tells_10 10 rfl rfl)
theorem dX24_tells_246 : decode cX24_tells 246 = .ok (.goto 4, 3) := dk_167 0 4 (dk_at dksX24_tells_10 12 rfl rfl)
theorem dX24_tells_249 : decode cX24_tells 249 = .ok (.iconst 2, 1) := dk_5 (dk_at dksX24_tells_10 15 rfl rfl)
theorem dX24_tells_250 : decode cX24_tells 250 = .ok (.idiv, 1) := dk_108 (dk_at dksX24_tells_10 16 rfl rfl)
theorem dX24_tells_251 : decode cX24_tells 251 = .ok (.goto 62, 3) := dk_167 0 62 (dk_at dksX24_tells_10 17 rfl rfl)
theorem dX24_tells_254 : decode cX24_tells 254 = .ok (.aload_n 0, 1) := dk_42 (dk_at dksX24_tells_10 20 rfl rfl)
theorem dX24_tells_255 : decode cX24_tells 255 = .ok (.getfield 38, 3) := dk_180 0 38 (dk_at dksX24_tells_10 21 rfl rfl)
theorem dX24_tells_258 : decode cX24_tells 258 = .ok (.iload_n 1, 1) := dk_27 (dk_at dksX24_tells_11 0 rfl rfl)
theorem dX24_tells_259 : decode cX24_tells 259 = .ok (.iaload, 1) := dk_46 (dk_at dksX24_tells_11 1 rfl rfl)
theorem dX24_tells_260 : decode cX24_tells 260 = .ok (.iconst 4, 1) := dk_7 (dk_at dksX24_tells_11 2 rfl rfl)
theorem dX24_tells_261 : decode cX24_tells 261 = .ok (.if_icmp .ne 26, 3) := dk_160 0 26 (dk_at dksX24_tells_11 3 rfl rfl)
theorem dX24_tells_264 : decode cX24_tells 264 = .ok (.aload_n 0, 1) := dk_42 (dk_at dksX24_tells_11 6 rfl rfl)
theorem dX24_tells_265 : decode cX24_tells 265 = .ok (.getfield 85, 3) := dk_180 0 85 (dk_at dksX24_tells_11 7 rfl rfl)
theorem dX24_tells_268 : decode cX24_tells 268 = .ok (.iload_n 3, 1) := dk_29 (dk_at dksX24_tells_11 10 rfl rfl)
theorem dX24_tells_269 : decode cX24_tells 269 = .ok (.iaload, 1) := dk_46 (dk_at dksX24_tells_11 11 rfl rfl)
theorem dX24_tells_270 : decode cX24_tells 270 = .ok (.aload_n 0, 1) := dk_42 (dk_at dksX24_tells_11 12 rfl rfl)
theorem dX24_tells_271 : decode cX24_tells 271 = .ok (.getfield 23, 3) := dk_180 0 23 (dk_at dksX24_tells_11 13 rfl rfl)
theorem dX24_tells_274 : decode cX24_tells 274 = .ok (.aload_n 0, 1) := dk_42 (dk_at dksX24_tells_11 16 rfl rfl)
theorem dX24_tells_275 : decode cX24_tells 275 = .ok (.getfield 41, 3) := dk_180 0 41 (dk_at dksX24_tells_11 17 rfl rfl)
theorem dX24_tells_278 : decode cX24_tells 278 = .ok (.iload_n 1, 1) := dk_27 (dk_at dksX24_tells_11 20 rfl rfl)
theorem dX24_tells_279 : decode cX24_tells 279 = .ok (.iaload, 1) := dk_46 (dk_at dksX24_tells_11 21 rfl rfl)
theorem dX24_tells_280 : decode cX24_tells 280 = .ok (.iaload, 1) := dk_46 (dk_at dksX24_tells_11 22 rfl rfl)
theorem dX24_tells_281 : decode cX24_tells 281 = .ok (.invokestatic 246, 3) := dk_184 0 246 (dk_at dksX24_tells_12 0 rfl rfl)
theorem dX24_tells_284 : decode cX24_tells 284 = .ok (.goto 29, 3) := dk_167 0 29 (dk_at dksX24_tells_12 3 rfl rfl)
theorem dX24_tells_287 : decode cX24_tells 287 = .ok (.aload_n 0, 1) := dk_42 (dk_at dksX24_tells_12 6 rfl rfl)
theorem dX24_tells_288 : decode cX24_tells 288 = .ok (.getfield 38, 3) := dk_180 0 38 (dk_at dksX24_tells_12 7 rfl rfl)
theorem dX24_tells_291 : decode cX24_tells 291 = .ok (.iload_n 1, 1) := dk_27 (dk_at dksX24_tells_12 10 rfl rfl)
theorem dX24_tells_292 : decode cX24_tells 292 = .ok (.iaload, 1) := dk_46 (dk_at dksX24_tells_12 11 rfl rfl)
theorem dX24_tells_293 : decode cX24_tells 293 = .ok (.iconst 5, 1) := dk_8 (dk_at dksX24_tells_12 12 rfl rfl)
theorem dX24_tells_294 : decode cX24_tells 294 = .ok (.if_icmp .ne 8, 3) := dk_160 0 8 (dk_at dksX24_tells_12 13 rfl rfl)
theorem dX24_tells_297 : decode cX24_tells 297 = .ok (.iload 7, 2) := dk_21 7 (dk_at dksX24_tells_12 16 rfl rfl)
theorem dX24_tells_299 : decode cX24_tells 299 = .ok (.goto 14, 3) := dk_167 0 14 (dk_at dksX24_tells_12 18 rfl rfl)
theorem dX24_tells_302 : decode cX24_tells 302 = .ok (.aload_n 0, 1) := dk_42 (dk_at dksX24_tells_12 21 rfl rfl)
theorem dX24_tells_303 : decode cX24_tells 303 = .ok (.getfield 85, 3) := dk_180 0 85 (dk_at dksX24_tells_13 0 rfl rfl)
theorem dX24_tells_306 : decode cX24_tells 306 = .ok (.iload_n 3, 1) := dk_29 (dk_at dksX24_tells_13 3 rfl rfl)
theorem dX24_tells_307 : decode cX24_tells 307 = .ok (.iaload, 1) := dk_46 (dk_at dksX24_tells_13 4 rfl rfl)
theorem dX24_tells_308 : decode cX24_tells 308 = .ok (.iload 7, 2) := dk_21 7 (dk_at dksX24_tells_13 5 rfl rfl)
theorem dX24_tells_310 : decode cX24_tells 310 = .ok (.invokestatic 246, 3) := dk_184 0 246 (dk_at dksX24_tells_13 7 rfl rfl)
theorem dX24_tells_313 : decode cX24_tells 313 = .ok (.istore 8, 2) := dk_54 8 (dk_at dksX24_tells_13 10 rfl rfl)
theorem dX24_tells_315 : decode cX24_tells 315 = .ok (.aload_n 0, 1) := dk_42 (dk_at dksX24_tells_13 12 rfl rfl)
theorem dX24_tells_316 : decode cX24_tells 316 = .ok (.getfield 85, 3) := dk_180 0 85 (dk_at dksX24_tells_13 13 rfl rfl)
theorem dX24_tells_319 : decode cX24_tells 319 = .ok (.iload_n 2, 1) := dk_28 (dk_at dksX24_tells_13 16 rfl rfl)
theorem dX24_tells_320 : decode cX24_tells 320 = .ok (.iconst 1, 1) := dk_4 (dk_at dksX24_tells_13 17 rfl rfl)
theorem dX24_tells_321 : decode cX24_tells 321 = .ok (.iload 8, 2) := dk_21 8 (dk_at dksX24_tells_13 18 rfl rfl)
theorem dX24_tells_323 : decode cX24_tells 323 = .ok (.invokestatic 249, 3) := dk_184 0 249 (dk_at dksX24_tells_13 20 rfl rfl)
theorem dX24_tells_326 : decode cX24_tells 326 = .ok (.iastore, 1) := dk_79 (dk_at dksX24_tells_13 23 rfl rfl)
theorem dX24_tells_327 : decode cX24_tells 327 = .ok (.aload_n 0, 1) := dk_42 (dk_at dksX24_tells_14 0 rfl rfl)
theorem dX24_tells_328 : decode cX24_tells 328 = .ok (.getfield 88, 3) := dk_180 0 88 (dk_at dksX24_tells_14 1 rfl rfl)
theorem dX24_tells_331 : decode cX24_tells 331 = .ok (.iload_n 2, 1) := dk_28 (dk_at dksX24_tells_14 4 rfl rfl)
theorem dX24_tells_332 : decode cX24_tells 332 = .ok (.aload_n 0, 1) := dk_42 (dk_at dksX24_tells_14 5 rfl rfl)
theorem dX24_tells_333 : decode cX24_tells 333 = .ok (.getfield 38, 3) := dk_180 0 38 (dk_at dksX24_tells_14 6 rfl rfl)
theorem dX24_tells_336 : decode cX24_tells 336 = .ok (.iload_n 1, 1) := dk_27 (dk_at dksX24_tells_14 9 rfl rfl)
theorem dX24_tells_337 : decode cX24_tells 337 = .ok (.iaload, 1) := dk_46 (dk_at dksX24_tells_14 10 rfl rfl)
theorem dX24_tells_338 : decode cX24_tells 338 = .ok (.iconst 1, 1) := dk_4 (dk_at dksX24_tells_14 11 rfl rfl)
theorem dX24_tells_339 : decode cX24_tells 339 = .ok (.if_icmp .ne 17, 3) := dk_160 0 17 (dk_at dksX24_tells_14 12 rfl rfl)
theorem dX24_tells_342 : decode cX24_tells 342 = .ok (.aload_n 0, 1) := dk_42 (dk_at dksX24_tells_14 15 rfl rfl)
theorem dX24_tells_343 : decode cX24_tells 343 = .ok (.getfield 29, 3) := dk_180 0 29 (dk_at dksX24_tells_14 16 rfl rfl)
theorem dX24_tells_346 : decode cX24_tells 346 = .ok (.aload_n 0, 1) := dk_42 (dk_at dksX24_tells_14 19 rfl rfl)
theorem dX24_tells_347 : decode cX24_tells 347 = .ok (.getfield 41, 3) := dk_180 0 41 (dk_at dksX24_tells_14 20 rfl rfl)
theorem dX24_tells_350 : decode cX24_tells 350 = .ok (.iload_n 1, 1) := dk_27 (dk_at dksX24_tells_14 23 rfl rfl)
theorem dX24_tells_351 : decode cX24_tells 351 = .ok (.iaload, 1) := dk_46 (dk_at dksX24_tells_15 0 rfl rfl)
theorem dX24_tells_352 : decode cX24_tells 352 = .ok (.iaload, 1) := dk_46 (dk_at dksX24_tells_15 1 rfl rfl)
theorem dX24_tells_353 : decode cX24_tells 353 = .ok (.goto 57, 3) := dk_167 0 57 (dk_at dksX24_tells_15 2 rfl rfl)
theorem dX24_tells_356 : decode cX24_tells 356 = .ok (.aload_n 0, 1) := dk_42 (dk_at dksX24_tells_15 5 rfl rfl)
theorem dX24_tells_357 : decode cX24_tells 357 = .ok (.getfield 38, 3) := dk_180 0 38 (dk_at dksX24_tells_15 6 rfl rfl)
theorem dX24_tells_360 : decode cX24_tells 360 = .ok (.iload_n 1, 1) := dk_27 (dk_at dksX24_tells_15 9 rfl rfl)
theorem dX24_tells_361 : decode cX24_tells 361 = .ok (.iaload, 1) := dk_46 (dk_at dksX24_tells_15 10 rfl rfl)
theorem dX24_tells_362 : decode cX24_tells 362 = .ok (.iconst 4, 1) := dk_7 (dk_at dksX24_tells_15 11 rfl rfl)
theorem dX24_tells_363 : decode cX24_tells 363 = .ok (.if_icmp .ne 14, 3) := dk_160 0 14 (dk_at dksX24_tells_15 12 rfl rfl)
theorem dX24_tells_366 : decode cX24_tells 366 = .ok (.iconst 1, 1) := dk_4 (dk_at dksX24_tells_15 15 rfl rfl)
theorem dX24_tells_367 : decode cX24_tells 367 = .ok (.aload_n 0, 1) := dk_42 (dk_at dksX24_tells_15 16 rfl rfl)
theorem dX24_tells_368 : decode cX24_tells 368 = .ok (.getfield 41, 3) := dk_180 0 41 (dk_at dksX24_tells_15 17 rfl rfl)
theorem dX24_tells_371 : decode cX24_tells 371 = .ok (.iload_n 1, 1) := dk_27 (dk_at dksX24_tells_15 20 rfl rfl)
theorem dX24_tells_372 : decode cX24_tells 372 = .ok (.iaload, 1) := dk_46 (dk_at dksX24_tells_15 21 rfl rfl)
theorem dX24_tells_373 : decode cX24_tells 373 = .ok (.ishl, 1) := dk_120 (dk_at dksX24_tells_15 22 rfl rfl)
theorem dX24_tells_374 : decode cX24_tells 374 = .ok (.goto 36, 3) := dk_167 0 36 (dk_at dksX24_tells_16 0 rfl rfl)
theorem dX24_tells_377 : decode cX24_tells 377 = .ok (.aload_n 0, 1) := dk_42 (dk_at dksX24_tells_16 3 rfl rfl)
theorem dX24_tells_378 : decode cX24_tells 378 = .ok (.getfield 38, 3) := dk_180 0 38 (dk_at dksX24_tells_16 4 rfl rfl)
theorem dX24_tells_381 : decode cX24_tells 381 = .ok (.iload_n 1, 1) := dk_27 (dk_at dksX24_tells_16 7 rfl rfl)
theorem dX24_tells_382 : decode cX24_tells 382 = .ok (.iaload, 1) := dk_46 (dk_at dksX24_tells_16 8 rfl rfl)
theorem dX24_tells_383 : decode cX24_tells 383 = .ok (.iconst 5, 1) := dk_8 (dk_at dksX24_tells_16 9 rfl rfl)
theorem dX24_tells_384 : decode cX24_tells 384 = .ok (.if_icmp .ne 20, 3) := dk_160 0 20 (dk_at dksX24_tells_16 10 rfl rfl)
theorem dX24_tells_387 : decode cX24_tells 387 = .ok (.aload_n 0, 1) := dk_42 (dk_at dksX24_tells_16 13 rfl rfl)
theorem dX24_tells_388 : decode cX24_tells 388 = .ok (.getfield 88, 3) := dk_180 0 88 (dk_at dksX24_tells_16 14 rfl rfl)
theorem dX24_tells_391 : decode cX24_tells 391 = .ok (.iload_n 3, 1) := dk_29 (dk_at dksX24_tells_16 17 rfl rfl)
theorem dX24_tells_392 : decode cX24_tells 392 = .ok (.iaload, 1) := dk_46 (dk_at dksX24_tells_16 18 rfl rfl)
theorem dX24_tells_393 : decode cX24_tells 393 = .ok (.aload_n 0, 1) := dk_42 (dk_at dksX24_tells_16 19 rfl rfl)
theorem dX24_tells_394 : decode cX24_tells 394 = .ok (.getfield 88, 3) := dk_180 0 88 (dk_at dksX24_tells_16 20 rfl rfl)
theorem dX24_tells_397 : decode cX24_tells 397 = .ok (.iload 4, 2) := dk_21 4 (dk_at dksX24_tells_17 0 rfl rfl)
theorem dX24_tells_399 : decode cX24_tells 399 = .ok (.iaload, 1) := dk_46 (dk_at dksX24_tells_17 2 rfl rfl)
theorem dX24_tells_400 : decode cX24_tells 400 = .ok (.ior, 1) := dk_128 (dk_at dksX24_tells_17 3 rfl rfl)
theorem dX24_tells_401 : decode cX24_tells 401 = .ok (.goto 9, 3) := dk_167 0 9 (dk_at dksX24_tells_17 4 rfl rfl)
theorem dX24_tells_404 : decode cX24_tells 404 = .ok (.aload_n 0, 1) := dk_42 (dk_at dksX24_tells_17 7 rfl rfl)
theorem dX24_tells_405 : decode cX24_tells 405 = .ok (.getfield 88, 3) := dk_180 0 88 (dk_at dksX24_tells_17 8 rfl rfl)
theorem dX24_tells_408 : decode cX24_tells 408 = .ok (.iload_n 3, 1) := dk_29 (dk_at dksX24_tells_17 11 rfl rfl)
theorem dX24_tells_409 : decode cX24_tells 409 = .ok (.iaload, 1) := dk_46 (dk_at dksX24_tells_17 12 rfl rfl)
theorem dX24_tells_410 : decode cX24_tells 410 = .ok (.iastore, 1) := dk_79 (dk_at dksX24_tells_17 13 rfl rfl)
theorem dX24_tells_411 : decode cX24_tells 411 = .ok (.iinc 1 1, 3) := dk_132 1 1 (dk_at dksX24_tells_17 14 rfl rfl)
theorem dX24_tells_414 : decode cX24_tells 414 = .ok (.goto (-389), 3) := dk_167 254 123 (dk_at dksX24_tells_17 17 rfl rfl)
theorem dX24_tells_417 : decode cX24_tells 417 = .ok (.return_, 1) := dk_177 (dk_at dksX24_tells_17 20 rfl rfl)
abbrev cX24_tally : ByteArray := prog_53_method_31_code
def yX24_tally : MethodName := ⟨RX24, "tally", "(II)I"⟩
def dkwX24_tally_2 : List UInt8 := [28, 182, 1, 9, 172]
abbrev dktX24_tally_2 : List UInt8 := dkwX24_tally_2 ++ []
def dkwX24_tally_1 : List UInt8 := [42, 7, 27, 28, 28, 182, 1, 15, 154, 0, 12, 42, 16, 250, 182, 0, 206, 167, 0, 11, 42, 7, 27, 28]
abbrev dktX24_tally_1 : List UInt8 := dkwX24_tally_1 ++ dktX24_tally_2
def dkwX24_tally_0 : List UInt8 := [42, 27, 3, 6, 182, 0, 217, 153, 0, 11, 42, 28, 182, 1, 12, 154, 0, 9, 42, 2, 182, 0, 206, 172]
abbrev dktX24_tally_0 : List UInt8 := dkwX24_tally_0 ++ dktX24_tally_1
theorem dksX24_tally_0 : cX24_tally.data.toList.drop 0 = dktX24_tally_0 := by decide +kernel
theorem dksX24_tally_1 : cX24_tally.data.toList.drop 24 = dktX24_tally_1 := dk_seg dksX24_tally_0 24 rfl rfl
theorem dksX24_tally_2 : cX24_tally.data.toList.drop 48 = dktX24_tally_2 := dk_seg dksX24_tally_1 24 rfl rfl
theorem dX24_tally_0 : decode cX24_tally 0 = .ok (.aload_n 0, 1) := dk_42 (dk_at dksX24_tally_0 0 rfl rfl)
theorem dX24_tally_1 : decode cX24_tally 1 = .ok (.iload_n 1, 1) := dk_27 (dk_at dksX24_tally_0 1 rfl rfl)
theorem dX24_tally_2 : decode cX24_tally 2 = .ok (.iconst 0, 1) := dk_3 (dk_at dksX24_tally_0 2 rfl rfl)
theorem dX24_tally_3 : decode cX24_tally 3 = .ok (.iconst 3, 1) := dk_6 (dk_at dksX24_tally_0 3 rfl rfl)
theorem dX24_tally_4 : decode cX24_tally 4 = .ok (.invokevirtual 217, 3) := dk_182 0 217 (dk_at dksX24_tally_0 4 rfl rfl)
theorem dX24_tally_7 : decode cX24_tally 7 = .ok (.ifCond .eq 11, 3) := dk_153 0 11 (dk_at dksX24_tally_0 7 rfl rfl)
theorem dX24_tally_10 : decode cX24_tally 10 = .ok (.aload_n 0, 1) := dk_42 (dk_at dksX24_tally_0 10 rfl rfl)
theorem dX24_tally_11 : decode cX24_tally 11 = .ok (.iload_n 2, 1) := dk_28 (dk_at dksX24_tally_0 11 rfl rfl)
theorem dX24_tally_12 : decode cX24_tally 12 = .ok (.invokevirtual 268, 3) := dk_182 1 12 (dk_at dksX24_tally_0 12 rfl rfl)
theorem dX24_tally_15 : decode cX24_tally 15 = .ok (.ifCond .ne 9, 3) := dk_154 0 9 (dk_at dksX24_tally_0 15 rfl rfl)
theorem dX24_tally_18 : decode cX24_tally 18 = .ok (.aload_n 0, 1) := dk_42 (dk_at dksX24_tally_0 18 rfl rfl)
theorem dX24_tally_19 : decode cX24_tally 19 = .ok (.iconst (-1), 1) := dk_2 (dk_at dksX24_tally_0 19 rfl rfl)
theorem dX24_tally_20 : decode cX24_tally 20 = .ok (.invokevirtual 206, 3) := dk_182 0 206 (dk_at dksX24_tally_0 20 rfl rfl)
theorem dX24_tally_23 : decode cX24_tally 23 = .ok (.ireturn, 1) := dk_172 (dk_at dksX24_tally_0 23 rfl rfl)
theorem dX24_tally_24 : decode cX24_tally 24 = .ok (.aload_n 0, 1) := dk_42 (dk_at dksX24_tally_1 0 rfl rfl)
theorem dX24_tally_25 : decode cX24_tally 25 = .ok (.iconst 4, 1) := dk_7 (dk_at dksX24_tally_1 1 rfl rfl)
theorem dX24_tally_26 : decode cX24_tally 26 = .ok (.iload_n 1, 1) := dk_27 (dk_at dksX24_tally_1 2 rfl rfl)
theorem dX24_tally_27 : decode cX24_tally 27 = .ok (.iload_n 2, 1) := dk_28 (dk_at dksX24_tally_1 3 rfl rfl)
theorem dX24_tally_28 : decode cX24_tally 28 = .ok (.iload_n 2, 1) := dk_28 (dk_at dksX24_tally_1 4 rfl rfl)
theorem dX24_tally_29 : decode cX24_tally 29 = .ok (.invokevirtual 271, 3) := dk_182 1 15 (dk_at dksX24_tally_1 5 rfl rfl)
theorem dX24_tally_32 : decode cX24_tally 32 = .ok (.ifCond .ne 12, 3) := dk_154 0 12 (dk_at dksX24_tally_1 8 rfl rfl)
theorem dX24_tally_35 : decode cX24_tally 35 = .ok (.aload_n 0, 1) := dk_42 (dk_at dksX24_tally_1 11 rfl rfl)
theorem dX24_tally_36 : decode cX24_tally 36 = .ok (.bipush (-6), 2) := dk_16 250 (dk_at dksX24_tally_1 12 rfl rfl)
theorem dX24_tally_38 : decode cX24_tally 38 = .ok (.invokevirtual 206, 3) := dk_182 0 206 (dk_at dksX24_tally_1 14 rfl rfl)
theorem dX24_tally_41 : decode cX24_tally 41 = .ok (.goto 11, 3) := dk_167 0 11 (dk_at dksX24_tally_1 17 rfl rfl)
theorem dX24_tally_44 : decode cX24_tally 44 = .ok (.aload_n 0, 1) := dk_42 (dk_at dksX24_tally_1 20 rfl rfl)
theorem dX24_tally_45 : decode cX24_tally 45 = .ok (.iconst 4, 1) := dk_7 (dk_at dksX24_tally_1 21 rfl rfl)
theorem dX24_tally_46 : decode cX24_tally 46 = .ok (.iload_n 1, 1) := dk_27 (dk_at dksX24_tally_1 22 rfl rfl)
theorem dX24_tally_47 : decode cX24_tally 47 = .ok (.iload_n 2, 1) := dk_28 (dk_at dksX24_tally_1 23 rfl rfl)
theorem dX24_tally_48 : decode cX24_tally 48 = .ok (.iload_n 2, 1) := dk_28 (dk_at dksX24_tally_2 0 rfl rfl)
theorem dX24_tally_49 : decode cX24_tally 49 = .ok (.invokevirtual 265, 3) := dk_182 1 9 (dk_at dksX24_tally_2 1 rfl rfl)
theorem dX24_tally_52 : decode cX24_tally 52 = .ok (.ireturn, 1) := dk_172 (dk_at dksX24_tally_2 4 rfl rfl)
abbrev cX24_join : ByteArray := prog_53_method_33_code
def yX24_join : MethodName := ⟨RX24, "join", "(III)I"⟩
def dkwX24_join_0 : List UInt8 := [42, 8, 27, 28, 29, 182, 1, 19, 172]
abbrev dktX24_join_0 : List UInt8 := dkwX24_join_0 ++ []
theorem dksX24_join_0 : cX24_join.data.toList.drop 0 = dktX24_join_0 := by decide +kernel
theorem dX24_join_0 : decode cX24_join 0 = .ok (.aload_n 0, 1) := dk_42 (dk_at dksX24_join_0 0 rfl rfl)
theorem dX24_join_1 : decode cX24_join 1 = .ok (.iconst 5, 1) := dk_8 (dk_at dksX24_join_0 1 rfl rfl)
theorem dX24_join_2 : decode cX24_join 2 = .ok (.iload_n 1, 1) := dk_27 (dk_at dksX24_join_0 2 rfl rfl)
theorem dX24_join_3 : decode cX24_join 3 = .ok (.iload_n 2, 1) := dk_28 (dk_at dksX24_join_0 3 rfl rfl)
theorem dX24_join_4 : decode cX24_join 4 = .ok (.iload_n 3, 1) := dk_29 (dk_at dksX24_join_0 4 rfl rfl)
theorem dX24_join_5 : decode cX24_join 5 = .ok (.invokevirtual 275, 3) := dk_182 1 19 (dk_at dksX24_join_0 5 rfl rfl)
theorem dX24_join_8 : decode cX24_join 8 = .ok (.ireturn, 1) := dk_172 (dk_at dksX24_join_0 8 rfl rfl)
abbrev cX24_two : ByteArray := prog_53_method_32_code
def yX24_two : MethodName := ⟨RX24, "two", "(IIII)I"⟩
def dkwX24_two_2 : List UInt8 := [182, 0, 206, 167, 0, 12, 42, 27, 28, 29, 21, 4, 182, 1, 9, 172]
abbrev dktX24_two_2 : List UInt8 := dkwX24_two_2 ++ []
def dkwX24_two_1 : List UInt8 := [154, 0, 9, 42, 2, 182, 0, 206, 172, 42, 27, 28, 29, 21, 4, 182, 1, 15, 154, 0, 12, 42, 16, 250]
abbrev dktX24_two_1 : List UInt8 := dkwX24_two_1 ++ dktX24_two_2
def dkwX24_two_0 : List UInt8 := [42, 28, 3, 6, 182, 0, 217, 153, 0, 20, 42, 29, 182, 1, 12, 153, 0, 12, 42, 21, 4, 182, 1, 12]
abbrev dktX24_two_0 : List UInt8 := dkwX24_two_0 ++ dktX24_two_1
theorem dksX24_two_0 : cX24_two.data.toList.drop 0 = dktX24_two_0 := by decide +kernel
theorem dksX24_two_1 : cX24_two.data.toList.drop 24 = dktX24_two_1 := dk_seg dksX24_two_0 24 rfl rfl
theorem dksX24_two_2 : cX24_two.data.toList.drop 48 = dktX24_two_2 := dk_seg dksX24_two_1 24 rfl rfl
theorem dX24_two_0 : decode cX24_two 0 = .ok (.aload_n 0, 1) := dk_42 (dk_at dksX24_two_0 0 rfl rfl)
theorem dX24_two_1 : decode cX24_two 1 = .ok (.iload_n 2, 1) := dk_28 (dk_at dksX24_two_0 1 rfl rfl)
theorem dX24_two_2 : decode cX24_two 2 = .ok (.iconst 0, 1) := dk_3 (dk_at dksX24_two_0 2 rfl rfl)
theorem dX24_two_3 : decode cX24_two 3 = .ok (.iconst 3, 1) := dk_6 (dk_at dksX24_two_0 3 rfl rfl)
theorem dX24_two_4 : decode cX24_two 4 = .ok (.invokevirtual 217, 3) := dk_182 0 217 (dk_at dksX24_two_0 4 rfl rfl)
theorem dX24_two_7 : decode cX24_two 7 = .ok (.ifCond .eq 20, 3) := dk_153 0 20 (dk_at dksX24_two_0 7 rfl rfl)
theorem dX24_two_10 : decode cX24_two 10 = .ok (.aload_n 0, 1) := dk_42 (dk_at dksX24_two_0 10 rfl rfl)
theorem dX24_two_11 : decode cX24_two 11 = .ok (.iload_n 3, 1) := dk_29 (dk_at dksX24_two_0 11 rfl rfl)
theorem dX24_two_12 : decode cX24_two 12 = .ok (.invokevirtual 268, 3) := dk_182 1 12 (dk_at dksX24_two_0 12 rfl rfl)
theorem dX24_two_15 : decode cX24_two 15 = .ok (.ifCond .eq 12, 3) := dk_153 0 12 (dk_at dksX24_two_0 15 rfl rfl)
theorem dX24_two_18 : decode cX24_two 18 = .ok (.aload_n 0, 1) := dk_42 (dk_at dksX24_two_0 18 rfl rfl)
theorem dX24_two_19 : decode cX24_two 19 = .ok (.iload 4, 2) := dk_21 4 (dk_at dksX24_two_0 19 rfl rfl)
theorem dX24_two_21 : decode cX24_two 21 = .ok (.invokevirtual 268, 3) := dk_182 1 12 (dk_at dksX24_two_0 21 rfl rfl)
theorem dX24_two_24 : decode cX24_two 24 = .ok (.ifCond .ne 9, 3) := dk_154 0 9 (dk_at dksX24_two_1 0 rfl rfl)
theorem dX24_two_27 : decode cX24_two 27 = .ok (.aload_n 0, 1) := dk_42 (dk_at dksX24_two_1 3 rfl rfl)
theorem dX24_two_28 : decode cX24_two 28 = .ok (.iconst (-1), 1) := dk_2 (dk_at dksX24_two_1 4 rfl rfl)
theorem dX24_two_29 : decode cX24_two 29 = .ok (.invokevirtual 206, 3) := dk_182 0 206 (dk_at dksX24_two_1 5 rfl rfl)
theorem dX24_two_32 : decode cX24_two 32 = .ok (.ireturn, 1) := dk_172 (dk_at dksX24_two_1 8 rfl rfl)
theorem dX24_two_33 : decode cX24_two 33 = .ok (.aload_n 0, 1) := dk_42 (dk_at dksX24_two_1 9 rfl rfl)
theorem dX24_two_34 : decode cX24_two 34 = .ok (.iload_n 1, 1) := dk_27 (dk_at dksX24_two_1 10 rfl rfl)
theorem dX24_two_35 : decode cX24_two 35 = .ok (.iload_n 2, 1) := dk_28 (dk_at dksX24_two_1 11 rfl rfl)
theorem dX24_two_36 : decode cX24_two 36 = .ok (.iload_n 3, 1) := dk_29 (dk_at dksX24_two_1 12 rfl rfl)
theorem dX24_two_37 : decode cX24_two 37 = .ok (.iload 4, 2) := dk_21 4 (dk_at dksX24_two_1 13 rfl rfl)
theorem dX24_two_39 : decode cX24_two 39 = .ok (.invokevirtual 271, 3) := dk_182 1 15 (dk_at dksX24_two_1 15 rfl rfl)
theorem dX24_two_42 : decode cX24_two 42 = .ok (.ifCond .ne 12, 3) := dk_154 0 12 (dk_at dksX24_two_1 18 rfl rfl)
theorem dX24_two_45 : decode cX24_two 45 = .ok (.aload_n 0, 1) := dk_42 (dk_at dksX24_two_1 21 rfl rfl)
theorem dX24_two_46 : decode cX24_two 46 = .ok (.bipush (-6), 2) := dk_16 250 (dk_at dksX24_two_1 22 rfl rfl)
theorem dX24_two_48 : decode cX24_two 48 = .ok (.invokevirtual 206, 3) := dk_182 0 206 (dk_at dksX24_two_2 0 rfl rfl)
theorem dX24_two_51 : decode cX24_two 51 = .ok (.goto 12, 3) := dk_167 0 12 (dk_at dksX24_two_2 3 rfl rfl)
theorem dX24_two_54 : decode cX24_two 54 = .ok (.aload_n 0, 1) := dk_42 (dk_at dksX24_two_2 6 rfl rfl)
theorem dX24_two_55 : decode cX24_two 55 = .ok (.iload_n 1, 1) := dk_27 (dk_at dksX24_two_2 7 rfl rfl)
theorem dX24_two_56 : decode cX24_two 56 = .ok (.iload_n 2, 1) := dk_28 (dk_at dksX24_two_2 8 rfl rfl)
theorem dX24_two_57 : decode cX24_two 57 = .ok (.iload_n 3, 1) := dk_29 (dk_at dksX24_two_2 9 rfl rfl)
theorem dX24_two_58 : decode cX24_two 58 = .ok (.iload 4, 2) := dk_21 4 (dk_at dksX24_two_2 10 rfl rfl)
theorem dX24_two_60 : decode cX24_two 60 = .ok (.invokevirtual 265, 3) := dk_182 1 9 (dk_at dksX24_two_2 12 rfl rfl)
theorem dX24_two_63 : decode cX24_two 63 = .ok (.ireturn, 1) := dk_172 (dk_at dksX24_two_2 15 rfl rfl)
abbrev cX24_half : ByteArray := prog_53_method_34_code
def yX24_half : MethodName := ⟨RX24, "half", "(III)I"⟩
def dkwX24_half_0 : List UInt8 := [42, 16, 6, 27, 28, 29, 182, 1, 19, 172]
abbrev dktX24_half_0 : List UInt8 := dkwX24_half_0 ++ []
theorem dksX24_half_0 : cX24_half.data.toList.drop 0 = dktX24_half_0 := by decide +kernel
theorem dX24_half_0 : decode cX24_half 0 = .ok (.aload_n 0, 1) := dk_42 (dk_at dksX24_half_0 0 rfl rfl)
theorem dX24_half_1 : decode cX24_half 1 = .ok (.bipush 6, 2) := dk_16 6 (dk_at dksX24_half_0 1 rfl rfl)
theorem dX24_half_3 : decode cX24_half 3 = .ok (.iload_n 1, 1) := dk_27 (dk_at dksX24_half_0 3 rfl rfl)
theorem dX24_half_4 : decode cX24_half 4 = .ok (.iload_n 2, 1) := dk_28 (dk_at dksX24_half_0 4 rfl rfl)
theorem dX24_half_5 : decode cX24_half 5 = .ok (.iload_n 3, 1) := dk_29 (dk_at dksX24_half_0 5 rfl rfl)
theorem dX24_half_6 : decode cX24_half 6 = .ok (.invokevirtual 275, 3) := dk_182 1 19 (dk_at dksX24_half_0 6 rfl rfl)
theorem dX24_half_9 : decode cX24_half 9 = .ok (.ireturn, 1) := dk_172 (dk_at dksX24_half_0 9 rfl rfl)
abbrev cX24_read : ByteArray := prog_53_method_39_code
def yX24_read : MethodName := ⟨RX24, "read", "(I)I"⟩
def dkwX24_read_8 : List UInt8 := [182, 0, 206, 172, 21, 4, 172]
abbrev dktX24_read_8 : List UInt8 := dkwX24_read_8 ++ []
def dkwX24_read_7 : List UInt8 := [181, 0, 199, 42, 29, 181, 0, 196, 42, 42, 180, 0, 16, 2, 159, 0, 8, 16, 250, 167, 0, 5, 16, 249]
abbrev dktX24_read_7 : List UInt8 := dkwX24_read_7 ++ dktX24_read_8
def dkwX24_read_6 : List UInt8 := [181, 0, 16, 42, 180, 0, 16, 2, 160, 0, 12, 42, 180, 0, 199, 16, 64, 164, 0, 33, 42, 28]
abbrev dktX24_read_6 : List UInt8 := dkwX24_read_6 ++ dktX24_read_7
def dkwX24_read_5 : List UInt8 := [42, 180, 0, 16, 2, 160, 0, 22, 42, 180, 1, 22, 42, 180, 1, 25, 162, 0, 11, 42, 42, 180, 1, 22]
abbrev dktX24_read_5 : List UInt8 := dkwX24_read_5 ++ dktX24_read_6
def dkwX24_read_4 : List UInt8 := [181, 1, 22, 42, 2, 181, 0, 16, 42, 180, 0, 199, 61, 42, 180, 0, 196, 62, 42, 182, 1, 57, 54, 4]
abbrev dktX24_read_4 : List UInt8 := dkwX24_read_4 ++ dktX24_read_5
def dkwX24_read_3 : List UInt8 := [42, 180, 0, 78, 17, 0, 160, 27, 104, 28, 96, 47, 136, 79, 132, 2, 1, 167, 255, 226, 42, 3]
abbrev dktX24_read_3 : List UInt8 := dkwX24_read_3 ++ dktX24_read_4
def dkwX24_read_2 : List UInt8 := [42, 180, 0, 72, 27, 46, 181, 1, 25, 3, 61, 28, 42, 180, 1, 25, 162, 0, 28, 42, 180, 0, 181, 28]
abbrev dktX24_read_2 : List UInt8 := dkwX24_read_2 ++ dktX24_read_3
def dkwX24_read_1 : List UInt8 := [42, 16, 254, 182, 0, 206, 172, 42, 180, 0, 66, 27, 46, 154, 0, 10, 42, 16, 253, 182, 0, 206, 172, 42]
abbrev dktX24_read_1 : List UInt8 := dkwX24_read_1 ++ dktX24_read_2
def dkwX24_read_0 : List UInt8 := [42, 27, 182, 0, 202, 154, 0, 9, 42, 2, 182, 0, 206, 172, 42, 180, 0, 66, 27, 46, 5, 160, 0, 10]
abbrev dktX24_read_0 : List UInt8 := dkwX24_read_0 ++ dktX24_read_1
theorem dksX24_read_0 : cX24_read.data.toList.drop 0 = dktX24_read_0 := by decide +kernel
theorem dksX24_read_1 : cX24_read.data.toList.drop 24 = dktX24_read_1 := dk_seg dksX24_read_0 24 rfl rfl
theorem dksX24_read_2 : cX24_read.data.toList.drop 48 = dktX24_read_2 := dk_seg dksX24_read_1 24 rfl rfl
theorem dksX24_read_3 : cX24_read.data.toList.drop 72 = dktX24_read_3 := dk_seg dksX24_read_2 24 rfl rfl
theorem dksX24_read_4 : cX24_read.data.toList.drop 94 = dktX24_read_4 := dk_seg dksX24_read_3 22 rfl rfl
theorem dksX24_read_5 : cX24_read.data.toList.drop 118 = dktX24_read_5 := dk_seg dksX24_read_4 24 rfl rfl
theorem dksX24_read_6 : cX24_read.data.toList.drop 142 = dktX24_read_6 := dk_seg dksX24_read_5 24 rfl rfl
theorem dksX24_read_7 : cX24_read.data.toList.drop 164 = dktX24_read_7 := dk_seg dksX24_read_6 22 rfl rfl
theorem dksX24_read_8 : cX24_read.data.toList.drop 188 = dktX24_read_8 := dk_seg dksX24_read_7 24 rfl rfl
theorem dX24_read_0 : decode cX24_read 0 = .ok (.aload_n 0, 1) := dk_42 (dk_at dksX24_read_0 0 rfl rfl)
theorem dX24_read_1 : decode cX24_read 1 = .ok (.iload_n 1, 1) := dk_27 (dk_at dksX24_read_0 1 rfl rfl)
theorem dX24_read_2 : decode cX24_read 2 = .ok (.invokevirtual 202, 3) := dk_182 0 202 (dk_at dksX24_read_0 2 rfl rfl)
theorem dX24_read_5 : decode cX24_read 5 = .ok (.ifCond .ne 9, 3) := dk_154 0 9 (dk_at dksX24_read_0 5 rfl rfl)
theorem dX24_read_8 : decode cX24_read 8 = .ok (.aload_n 0, 1) := dk_42 (dk_at dksX24_read_0 8 rfl rfl)
theorem dX24_read_9 : decode cX24_read 9 = .ok (.iconst (-1), 1) := dk_2 (dk_at dksX24_read_0 9 rfl rfl)
theorem dX24_read_10 : decode cX24_read 10 = .ok (.invokevirtual 206, 3) := dk_182 0 206 (dk_at dksX24_read_0 10 rfl rfl)
theorem dX24_read_13 : decode cX24_read 13 = .ok (.ireturn, 1) := dk_172 (dk_at dksX24_read_0 13 rfl rfl)
theorem dX24_read_14 : decode cX24_read 14 = .ok (.aload_n 0, 1) := dk_42 (dk_at dksX24_read_0 14 rfl rfl)
theorem dX24_read_15 : decode cX24_read 15 = .ok (.getfield 66, 3) := dk_180 0 66 (dk_at dksX24_read_0 15 rfl rfl)
theorem dX24_read_18 : decode cX24_read 18 = .ok (.iload_n 1, 1) := dk_27 (dk_at dksX24_read_0 18 rfl rfl)
theorem dX24_read_19 : decode cX24_read 19 = .ok (.iaload, 1) := dk_46 (dk_at dksX24_read_0 19 rfl rfl)
theorem dX24_read_20 : decode cX24_read 20 = .ok (.iconst 2, 1) := dk_5 (dk_at dksX24_read_0 20 rfl rfl)
theorem dX24_read_21 : decode cX24_read 21 = .ok (.if_icmp .ne 10, 3) := dk_160 0 10 (dk_at dksX24_read_0 21 rfl rfl)
theorem dX24_read_24 : decode cX24_read 24 = .ok (.aload_n 0, 1) := dk_42 (dk_at dksX24_read_1 0 rfl rfl)
theorem dX24_read_25 : decode cX24_read 25 = .ok (.bipush (-2), 2) := dk_16 254 (dk_at dksX24_read_1 1 rfl rfl)
theorem dX24_read_27 : decode cX24_read 27 = .ok (.invokevirtual 206, 3) := dk_182 0 206 (dk_at dksX24_read_1 3 rfl rfl)
theorem dX24_read_30 : decode cX24_read 30 = .ok (.ireturn, 1) := dk_172 (dk_at dksX24_read_1 6 rfl rfl)
theorem dX24_read_31 : decode cX24_read 31 = .ok (.aload_n 0, 1) := dk_42 (dk_at dksX24_read_1 7 rfl rfl)
theorem dX24_read_32 : decode cX24_read 32 = .ok (.getfield 66, 3) := dk_180 0 66 (dk_at dksX24_read_1 8 rfl rfl)
theorem dX24_read_35 : decode cX24_read 35 = .ok (.iload_n 1, 1) := dk_27 (dk_at dksX24_read_1 11 rfl rfl)
theorem dX24_read_36 : decode cX24_read 36 = .ok (.iaload, 1) := dk_46 (dk_at dksX24_read_1 12 rfl rfl)
theorem dX24_read_37 : decode cX24_read 37 = .ok (.ifCond .ne 10, 3) := dk_154 0 10 (dk_at dksX24_read_1 13 rfl rfl)
theorem dX24_read_40 : decode cX24_read 40 = .ok (.aload_n 0, 1) := dk_42 (dk_at dksX24_read_1 16 rfl rfl)
theorem dX24_read_41 : decode cX24_read 41 = .ok (.bipush (-3), 2) := dk_16 253 (dk_at dksX24_read_1 17 rfl rfl)
theorem dX24_read_43 : decode cX24_read 43 = .ok (.invokevirtual 206, 3) := dk_182 0 206 (dk_at dksX24_read_1 19 rfl rfl)
theorem dX24_read_46 : decode cX24_read 46 = .ok (.ireturn, 1) := dk_172 (dk_at dksX24_read_1 22 rfl rfl)
theorem dX24_read_47 : decode cX24_read 47 = .ok (.aload_n 0, 1) := dk_42 (dk_at dksX24_read_1 23 rfl rfl)
theorem dX24_read_48 : decode cX24_read 48 = .ok (.aload_n 0, 1) := dk_42 (dk_at dksX24_read_2 0 rfl rfl)
theorem dX24_read_49 : decode cX24_read 49 = .ok (.getfield 72, 3) := dk_180 0 72 (dk_at dksX24_read_2 1 rfl rfl)
theorem dX24_read_52 : decode cX24_read 52 = .ok (.iload_n 1, 1) := dk_27 (dk_at dksX24_read_2 4 rfl rfl)
theorem dX24_read_53 : decode cX24_read 53 = .ok (.iaload, 1) := dk_46 (dk_at dksX24_read_2 5 rfl rfl)
theorem dX24_read_54 : decode cX24_read 54 = .ok (.putfield 281, 3) := dk_181 1 25 (dk_at dksX24_read_2 6 rfl rfl)
theorem dX24_read_57 : decode cX24_read 57 = .ok (.iconst 0, 1) := dk_3 (dk_at dksX24_read_2 9 rfl rfl)
theorem dX24_read_58 : decode cX24_read 58 = .ok (.istore_n 2, 1) := dk_61 (dk_at dksX24_read_2 10 rfl rfl)
theorem dX24_read_59 : decode cX24_read 59 = .ok (.iload_n 2, 1) := dk_28 (dk_at dksX24_read_2 11 rfl rfl)
theorem dX24_read_60 : decode cX24_read 60 = .ok (.aload_n 0, 1) := dk_42 (dk_at dksX24_read_2 12 rfl rfl)
theorem dX24_read_61 : decode cX24_read 61 = .ok (.getfield 281, 3) := dk_180 1 25 (dk_at dksX24_read_2 13 rfl rfl)
theorem dX24_read_64 : decode cX24_read 64 = .ok (.if_icmp .ge 28, 3) := dk_162 0 28 (dk_at dksX24_read_2 16 rfl rfl)
theorem dX24_read_67 : decode cX24_read 67 = .ok (.aload_n 0, 1) := dk_42 (dk_at dksX24_read_2 19 rfl rfl)
theorem dX24_read_68 : decode cX24_read 68 = .ok (.getfield 181, 3) := dk_180 0 181 (dk_at dksX24_read_2 20 rfl rfl)
theorem dX24_read_71 : decode cX24_read 71 = .ok (.iload_n 2, 1) := dk_28 (dk_at dksX24_read_2 23 rfl rfl)
theorem dX24_read_72 : decode cX24_read 72 = .ok (.aload_n 0, 1) := dk_42 (dk_at dksX24_read_3 0 rfl rfl)
theorem dX24_read_73 : decode cX24_read 73 = .ok (.getfield 78, 3) := dk_180 0 78 (dk_at dksX24_read_3 1 rfl rfl)
theorem dX24_read_76 : decode cX24_read 76 = .ok (.sipush 160, 3) := dk_17 0 160 (dk_at dksX24_read_3 4 rfl rfl)
theorem dX24_read_79 : decode cX24_read 79 = .ok (.iload_n 1, 1) := dk_27 (dk_at dksX24_read_3 7 rfl rfl)
theorem dX24_read_80 : decode cX24_read 80 = .ok (.imul, 1) := dk_104 (dk_at dksX24_read_3 8 rfl rfl)
theorem dX24_read_81 : decode cX24_read 81 = .ok (.iload_n 2, 1) := dk_28 (dk_at dksX24_read_3 9 rfl rfl)
theorem dX24_read_82 : decode cX24_read 82 = .ok (.iadd, 1) := dk_96 (dk_at dksX24_read_3 10 rfl rfl)
theorem dX24_read_83 : decode cX24_read 83 = .ok (.laload, 1) := dk_47 (dk_at dksX24_read_3 11 rfl rfl)
theorem dX24_read_84 : decode cX24_read 84 = .ok (.l2i, 1) := dk_136 (dk_at dksX24_read_3 12 rfl rfl)
theorem dX24_read_85 : decode cX24_read 85 = .ok (.iastore, 1) := dk_79 (dk_at dksX24_read_3 13 rfl rfl)
theorem dX24_read_86 : decode cX24_read 86 = .ok (.iinc 2 1, 3) := dk_132 2 1 (dk_at dksX24_read_3 14 rfl rfl)
theorem dX24_read_89 : decode cX24_read 89 = .ok (.goto (-30), 3) := dk_167 255 226 (dk_at dksX24_read_3 17 rfl rfl)
theorem dX24_read_92 : decode cX24_read 92 = .ok (.aload_n 0, 1) := dk_42 (dk_at dksX24_read_3 20 rfl rfl)
theorem dX24_read_93 : decode cX24_read 93 = .ok (.iconst 0, 1) := dk_3 (dk_at dksX24_read_3 21 rfl rfl)
theorem dX24_read_94 : decode cX24_read 94 = .ok (.putfield 278, 3) := dk_181 1 22 (dk_at dksX24_read_4 0 rfl rfl)
theorem dX24_read_97 : decode cX24_read 97 = .ok (.aload_n 0, 1) := dk_42 (dk_at dksX24_read_4 3 rfl rfl)
theorem dX24_read_98 : decode cX24_read 98 = .ok (.iconst (-1), 1) := dk_2 (dk_at dksX24_read_4 4 rfl rfl)
theorem dX24_read_99 : decode cX24_read 99 = .ok (.putfield 16, 3) := dk_181 0 16 (dk_at dksX24_read_4 5 rfl rfl)
theorem dX24_read_102 : decode cX24_read 102 = .ok (.aload_n 0, 1) := dk_42 (dk_at dksX24_read_4 8 rfl rfl)
theorem dX24_read_103 : decode cX24_read 103 = .ok (.getfield 199, 3) := dk_180 0 199 (dk_at dksX24_read_4 9 rfl rfl)
theorem dX24_read_106 : decode cX24_read 106 = .ok (.istore_n 2, 1) := dk_61 (dk_at dksX24_read_4 12 rfl rfl)
theorem dX24_read_107 : decode cX24_read 107 = .ok (.aload_n 0, 1) := dk_42 (dk_at dksX24_read_4 13 rfl rfl)
theorem dX24_read_108 : decode cX24_read 108 = .ok (.getfield 196, 3) := dk_180 0 196 (dk_at dksX24_read_4 14 rfl rfl)
theorem dX24_read_111 : decode cX24_read 111 = .ok (.istore_n 3, 1) := dk_62 (dk_at dksX24_read_4 17 rfl rfl)
theorem dX24_read_112 : decode cX24_read 112 = .ok (.aload_n 0, 1) := dk_42 (dk_at dksX24_read_4 18 rfl rfl)
theorem dX24_read_113 : decode cX24_read 113 = .ok (.invokevirtual 313, 3) := dk_182 1 57 (dk_at dksX24_read_4 19 rfl rfl)
theorem dX24_read_116 : decode cX24_read 116 = .ok (.istore 4, 2) := dk_54 4 (dk_at dksX24_read_4 22 rfl rfl)
theorem dX24_read_118 : decode cX24_read 118 = .ok (.aload_n 0, 1) := dk_42 (dk_at dksX24_read_5 0 rfl rfl)
theorem dX24_read_119 : decode cX24_read 119 = .ok (.getfield 16, 3) := dk_180 0 16 (dk_at dksX24_read_5 1 rfl rfl)
theorem dX24_read_122 : decode cX24_read 122 = .ok (.iconst (-1), 1) := dk_2 (dk_at dksX24_read_5 4 rfl rfl)
theorem dX24_read_123 : decode cX24_read 123 = .ok (.if_icmp .ne 22, 3) := dk_160 0 22 (dk_at dksX24_read_5 5 rfl rfl)
theorem dX24_read_126 : decode cX24_read 126 = .ok (.aload_n 0, 1) := dk_42 (dk_at dksX24_read_5 8 rfl rfl)
theorem dX24_read_127 : decode cX24_read 127 = .ok (.getfield 278, 3) := dk_180 1 22 (dk_at dksX24_read_5 9 rfl rfl)
theorem dX24_read_130 : decode cX24_read 130 = .ok (.aload_n 0, 1) := dk_42 (dk_at dksX24_read_5 12 rfl rfl)
theorem dX24_read_131 : decode cX24_read 131 = .ok (.getfield 281, 3) := dk_180 1 25 (dk_at dksX24_read_5 13 rfl rfl)
theorem dX24_read_134 : decode cX24_read 134 = .ok (.if_icmp .ge 11, 3) := dk_162 0 11 (dk_at dksX24_read_5 16 rfl rfl)
theorem dX24_read_137 : decode cX24_read 137 = .ok (.aload_n 0, 1) := dk_42 (dk_at dksX24_read_5 19 rfl rfl)
theorem dX24_read_138 : decode cX24_read 138 = .ok (.aload_n 0, 1) := dk_42 (dk_at dksX24_read_5 20 rfl rfl)
theorem dX24_read_139 : decode cX24_read 139 = .ok (.getfield 278, 3) := dk_180 1 22 (dk_at dksX24_read_5 21 rfl rfl)
theorem dX24_read_142 : decode cX24_read 142 = .ok (.putfield 16, 3) := dk_181 0 16 (dk_at dksX24_read_6 0 rfl rfl)
theorem dX24_read_145 : decode cX24_read 145 = .ok (.aload_n 0, 1) := dk_42 (dk_at dksX24_read_6 3 rfl rfl)
theorem dX24_read_146 : decode cX24_read 146 = .ok (.getfield 16, 3) := dk_180 0 16 (dk_at dksX24_read_6 4 rfl rfl)
theorem dX24_read_149 : decode cX24_read 149 = .ok (.iconst (-1), 1) := dk_2 (dk_at dksX24_read_6 7 rfl rfl)
theorem dX24_read_150 : decode cX24_read 150 = .ok (.if_icmp .ne 12, 3) := dk_160 0 12 (dk_at dksX24_read_6 8 rfl rfl)
theorem dX24_read_153 : decode cX24_read 153 = .ok (.aload_n 0, 1) := dk_42 (dk_at dksX24_read_6 11 rfl rfl)
theorem dX24_read_154 : decode cX24_read 154 = .ok (.getfield 199, 3) := dk_180 0 199 (dk_at dksX24_read_6 12 rfl rfl)
theorem dX24_read_157 : decode cX24_read 157 = .ok (.bipush 64, 2) := dk_16 64 (dk_at dksX24_read_6 15 rfl rfl)
theorem dX24_read_159 : decode cX24_read 159 = .ok (.if_icmp .le 33, 3) := dk_164 0 33 (dk_at dksX24_read_6 17 rfl rfl)
theorem dX24_read_162 : decode cX24_read 162 = .ok (.aload_n 0, 1) := dk_42 (dk_at dksX24_read_6 20 rfl rfl)
theorem dX24_read_163 : decode cX24_read 163 = .ok (.iload_n 2, 1) := dk_28 (dk_at dksX24_read_6 21 rfl rfl)
theorem dX24_read_164 : decode cX24_read 164 = .ok (.putfield 199, 3) := dk_181 0 199 (dk_at dksX24_read_7 0 rfl rfl)
theorem dX24_read_167 : decode cX24_read 167 = .ok (.aload_n 0, 1) := dk_42 (dk_at dksX24_read_7 3 rfl rfl)
theorem dX24_read_168 : decode cX24_read 168 = .ok (.iload_n 3, 1) := dk_29 (dk_at dksX24_read_7 4 rfl rfl)
theorem dX24_read_169 : decode cX24_read 169 = .ok (.putfield 196, 3) := dk_181 0 196 (dk_at dksX24_read_7 5 rfl rfl)
theorem dX24_read_172 : decode cX24_read 172 = .ok (.aload_n 0, 1) := dk_42 (dk_at dksX24_read_7 8 rfl rfl)
theorem dX24_read_173 : decode cX24_read 173 = .ok (.aload_n 0, 1) := dk_42 (dk_at dksX24_read_7 9 rfl rfl)
theorem dX24_read_174 : decode cX24_read 174 = .ok (.getfield 16, 3) := dk_180 0 16 (dk_at dksX24_read_7 10 rfl rfl)
theorem dX24_read_177 : decode cX24_read 177 = .ok (.iconst (-1), 1) := dk_2 (dk_at dksX24_read_7 13 rfl rfl)
theorem dX24_read_178 : decode cX24_read 178 = .ok (.if_icmp .eq 8, 3) := dk_159 0 8 (dk_at dksX24_read_7 14 rfl rfl)
theorem dX24_read_181 : decode cX24_read 181 = .ok (.bipush (-6), 2) := dk_16 250 (dk_at dksX24_read_7 17 rfl rfl)
theorem dX24_read_183 : decode cX24_read 183 = .ok (.goto 5, 3) := dk_167 0 5 (dk_at dksX24_read_7 19 rfl rfl)
theorem dX24_read_186 : decode cX24_read 186 = .ok (.bipush (-7), 2) := dk_16 249 (dk_at dksX24_read_7 22 rfl rfl)
theorem dX24_read_188 : decode cX24_read 188 = .ok (.invokevirtual 206, 3) := dk_182 0 206 (dk_at dksX24_read_8 0 rfl rfl)
theorem dX24_read_191 : decode cX24_read 191 = .ok (.ireturn, 1) := dk_172 (dk_at dksX24_read_8 3 rfl rfl)
theorem dX24_read_192 : decode cX24_read 192 = .ok (.iload 4, 2) := dk_21 4 (dk_at dksX24_read_8 4 rfl rfl)
theorem dX24_read_194 : decode cX24_read 194 = .ok (.ireturn, 1) := dk_172 (dk_at dksX24_read_8 6 rfl rfl)
abbrev cX24_reads : ByteArray := prog_53_method_38_code
def yX24_reads : MethodName := ⟨RX24, "reads", "()I"⟩
def dkwX24_reads_13 : List UInt8 := [21, 5, 21, 6, 182, 1, 6, 172]
abbrev dktX24_reads_13 : List UInt8 := dkwX24_reads_13 ++ []
def dkwX24_reads_12 : List UInt8 := [21, 4, 21, 5, 21, 6, 182, 1, 15, 154, 0, 10, 42, 27, 181, 0, 16, 2, 172, 42, 29, 21, 4]
abbrev dktX24_reads_12 : List UInt8 := dkwX24_reads_12 ++ dktX24_reads_13
def dkwX24_reads_11 : List UInt8 := [42, 180, 0, 16, 2, 159, 0, 5, 2, 172, 42, 16, 41, 182, 1, 38, 154, 0, 5, 2, 172, 42, 29]
abbrev dktX24_reads_11 : List UInt8 := dkwX24_reads_11 ++ dktX24_reads_12
def dkwX24_reads_10 : List UInt8 := [54, 6, 29, 8, 161, 0, 30, 42, 16, 44, 182, 1, 38, 154, 0, 5, 2, 172, 42, 182, 1, 57, 54, 6]
abbrev dktX24_reads_10 : List UInt8 := dkwX24_reads_10 ++ dktX24_reads_11
def dkwX24_reads_9 : List UInt8 := [154, 0, 5, 2, 172, 42, 182, 1, 57, 54, 5, 42, 180, 0, 16, 2, 159, 0, 5, 2, 172, 21, 5]
abbrev dktX24_reads_9 : List UInt8 := dkwX24_reads_9 ++ dktX24_reads_10
def dkwX24_reads_8 : List UInt8 := [172, 29, 4, 160, 0, 13, 42, 29, 21, 4, 3, 3, 182, 1, 6, 172, 42, 16, 40, 182, 1, 38]
abbrev dktX24_reads_8 : List UInt8 := dkwX24_reads_8 ++ dktX24_reads_9
def dkwX24_reads_7 : List UInt8 := [6, 160, 0, 8, 16, 8, 167, 0, 4, 7, 182, 1, 54, 54, 4, 42, 180, 0, 16, 2, 159, 0, 5, 2]
abbrev dktX24_reads_7 : List UInt8 := dkwX24_reads_7 ++ dktX24_reads_8
def dkwX24_reads_6 : List UInt8 := [167, 0, 6, 19, 1, 49, 182, 1, 51, 87, 42, 29, 4, 160, 0, 10, 42, 180, 0, 232, 167, 0, 14, 29]
abbrev dktX24_reads_6 : List UInt8 := dkwX24_reads_6 ++ dktX24_reads_7
def dkwX24_reads_5 : List UInt8 := [167, 0, 28, 29, 7, 160, 0, 9, 19, 1, 45, 167, 0, 17, 29, 8, 160, 0, 9, 19, 1, 47]
abbrev dktX24_reads_5 : List UInt8 := dkwX24_reads_5 ++ dktX24_reads_6
def dkwX24_reads_4 : List UInt8 := [2, 172, 42, 29, 4, 160, 0, 9, 19, 1, 41, 167, 0, 39, 29, 6, 160, 0, 9, 19, 1, 43]
abbrev dktX24_reads_4 : List UInt8 := dkwX24_reads_4 ++ dktX24_reads_5
def dkwX24_reads_3 : List UInt8 := [16, 104, 160, 0, 8, 16, 6, 167, 0, 4, 3, 62, 29, 154, 0, 13, 42, 42, 180, 1, 22, 181, 0, 16]
abbrev dktX24_reads_3 : List UInt8 := dkwX24_reads_3 ++ dktX24_reads_4
def dkwX24_reads_2 : List UInt8 := [167, 0, 35, 28, 16, 116, 160, 0, 7, 7, 167, 0, 25, 28, 16, 106, 160, 0, 7, 8, 167, 0, 15, 28]
abbrev dktX24_reads_2 : List UInt8 := dkwX24_reads_2 ++ dktX24_reads_3
def dkwX24_reads_1 : List UInt8 := [46, 167, 0, 4, 3, 61, 28, 16, 115, 160, 0, 7, 4, 167, 0, 45, 28, 16, 107, 160, 0, 7, 6]
abbrev dktX24_reads_1 : List UInt8 := dkwX24_reads_1 ++ dktX24_reads_2
def dkwX24_reads_0 : List UInt8 := [42, 180, 1, 22, 60, 42, 180, 1, 22, 42, 180, 1, 25, 162, 0, 15, 42, 180, 0, 181, 42, 180, 1, 22]
abbrev dktX24_reads_0 : List UInt8 := dkwX24_reads_0 ++ dktX24_reads_1
theorem dksX24_reads_0 : cX24_reads.data.toList.drop 0 = dktX24_reads_0 := by decide +kernel
theorem dksX24_reads_1 : cX24_reads.data.toList.drop 24 = dktX24_reads_1 := dk_seg dksX24_reads_0 24 rfl rfl
theorem dksX24_reads_2 : cX24_reads.data.toList.drop 47 = dktX24_reads_2 := dk_seg dksX24_reads_1 23 rfl rfl
theorem dksX24_reads_3 : cX24_reads.data.toList.drop 71 = dktX24_reads_3 := dk_seg dksX24_reads_2 24 rfl rfl
theorem dksX24_reads_4 : cX24_reads.data.toList.drop 95 = dktX24_reads_4 := dk_seg dksX24_reads_3 24 rfl rfl
theorem dksX24_reads_5 : cX24_reads.data.toList.drop 117 = dktX24_reads_5 := dk_seg dksX24_reads_4 22 rfl rfl
theorem dksX24_reads_6 : cX24_reads.data.toList.drop 139 = dktX24_reads_6 := dk_seg dksX24_reads_5 22 rfl rfl
theorem dksX24_reads_7 : cX24_reads.data.toList.drop 163 = dktX24_reads_7 := dk_seg dksX24_reads_6 24 rfl rfl
theorem dksX24_reads_8 : cX24_reads.data.toList.drop 187 = dktX24_reads_8 := dk_seg dksX24_reads_7 24 rfl rfl
theorem dksX24_reads_9 : cX24_reads.data.toList.drop 209 = dktX24_reads_9 := dk_seg dksX24_reads_8 22 rfl rfl
theorem dksX24_reads_10 : cX24_reads.data.toList.drop 232 = dktX24_reads_10 := dk_seg dksX24_reads_9 23 rfl rfl
theorem dksX24_reads_11 : cX24_reads.data.toList.drop 256 = dktX24_reads_11 := dk_seg dksX24_reads_10 24 rfl rfl
theorem dksX24_reads_12 : cX24_reads.data.toList.drop 279 = dktX24_reads_12 := dk_seg dksX24_reads_11 23 rfl rfl
theorem dksX24_reads_13 : cX24_reads.data.toList.drop 302 = dktX24_reads_13 := dk_seg dksX24_reads_12 23 rfl rfl
theorem dX24_reads_0 : decode cX24_reads 0 = .ok (.aload_n 0, 1) := dk_42 (dk_at dksX24_reads_0 0 rfl rfl)
theorem dX24_reads_1 : decode cX24_reads 1 = .ok (.getfield 278, 3) := dk_180 1 22 (dk_at dksX24_reads_0 1 rfl rfl)
theorem dX24_reads_4 : decode cX24_reads 4 = .ok (.istore_n 1, 1) := dk_60 (dk_at dksX24_reads_0 4 rfl rfl)
theorem dX24_reads_5 : decode cX24_reads 5 = .ok (.aload_n 0, 1) := dk_42 (dk_at dksX24_reads_0 5 rfl rfl)
theorem dX24_reads_6 : decode cX24_reads 6 = .ok (.getfield 278, 3) := dk_180 1 22 (dk_at dksX24_reads_0 6 rfl rfl)
theorem dX24_reads_9 : decode cX24_reads 9 = .ok (.aload_n 0, 1) := dk_42 (dk_at dksX24_reads_0 9 rfl rfl)
theorem dX24_reads_10 : decode cX24_reads 10 = .ok (.getfield 281, 3) := dk_180 1 25 (dk_at dksX24_reads_0 10 rfl rfl)
theorem dX24_reads_13 : decode cX24_reads 13 = .ok (.if_icmp .ge 15, 3) := dk_162 0 15 (dk_at dksX24_reads_0 13 rfl rfl)
theorem dX24_reads_16 : decode cX24_reads 16 = .ok (.aload_n 0, 1) := dk_42 (dk_at dksX24_reads_0 16 rfl rfl)
theorem dX24_reads_17 : decode cX24_reads 17 = .ok (.getfield 181, 3) := dk_180 0 181 (dk_at dksX24_reads_0 17 rfl rfl)
theorem dX24_reads_20 : decode cX24_reads 20 = .ok (.aload_n 0, 1) := dk_42 (dk_at dksX24_reads_0 20 rfl rfl)
theorem dX24_reads_21 : decode cX24_reads 21 = .ok (.getfield 278, 3) := dk_180 1 22 (dk_at dksX24_reads_0 21 rfl rfl)
theorem dX24_reads_24 : decode cX24_reads 24 = .ok (.iaload, 1) := dk_46 (dk_at dksX24_reads_1 0 rfl rfl)
theorem dX24_reads_25 : decode cX24_reads 25 = .ok (.goto 4, 3) := dk_167 0 4 (dk_at dksX24_reads_1 1 rfl rfl)
theorem dX24_reads_28 : decode cX24_reads 28 = .ok (.iconst 0, 1) := dk_3 (dk_at dksX24_reads_1 4 rfl rfl)
theorem dX24_reads_29 : decode cX24_reads 29 = .ok (.istore_n 2, 1) := dk_61 (dk_at dksX24_reads_1 5 rfl rfl)
theorem dX24_reads_30 : decode cX24_reads 30 = .ok (.iload_n 2, 1) := dk_28 (dk_at dksX24_reads_1 6 rfl rfl)
theorem dX24_reads_31 : decode cX24_reads 31 = .ok (.bipush 115, 2) := dk_16 115 (dk_at dksX24_reads_1 7 rfl rfl)
theorem dX24_reads_33 : decode cX24_reads 33 = .ok (.if_icmp .ne 7, 3) := dk_160 0 7 (dk_at dksX24_reads_1 9 rfl rfl)
theorem dX24_reads_36 : decode cX24_reads 36 = .ok (.iconst 1, 1) := dk_4 (dk_at dksX24_reads_1 12 rfl rfl)
theorem dX24_reads_37 : decode cX24_reads 37 = .ok (.goto 45, 3) := dk_167 0 45 (dk_at dksX24_reads_1 13 rfl rfl)
theorem dX24_reads_40 : decode cX24_reads 40 = .ok (.iload_n 2, 1) := dk_28 (dk_at dksX24_reads_1 16 rfl rfl)
theorem dX24_reads_41 : decode cX24_reads 41 = .ok (.bipush 107, 2) := dk_16 107 (dk_at dksX24_reads_1 17 rfl rfl)
theorem dX24_reads_43 : decode cX24_reads 43 = .ok (.if_icmp .ne 7, 3) := dk_160 0 7 (dk_at dksX24_reads_1 19 rfl rfl)
theorem dX24_reads_46 : decode cX24_reads 46 = .ok (.iconst 3, 1) := dk_6 (dk_at dksX24_reads_1 22 rfl rfl)
theorem dX24_reads_47 : decode cX24_reads 47 = .ok (.goto 35, 3) := dk_167 0 35 (dk_at dksX24_reads_2 0 rfl rfl)
theorem dX24_reads_50 : decode cX24_reads 50 = .ok (.iload_n 2, 1) := dk_28 (dk_at dksX24_reads_2 3 rfl rfl)
theorem dX24_reads_51 : decode cX24_reads 51 = .ok (.bipush 116, 2) := dk_16 116 (dk_at dksX24_reads_2 4 rfl rfl)
theorem dX24_reads_53 : decode cX24_reads 53 = .ok (.if_icmp .ne 7, 3) := dk_160 0 7 (dk_at dksX24_reads_2 6 rfl rfl)
theorem dX24_reads_56 : decode cX24_reads 56 = .ok (.iconst 4, 1) := dk_7 (dk_at dksX24_reads_2 9 rfl rfl)
theorem dX24_reads_57 : decode cX24_reads 57 = .ok (.goto 25, 3) := dk_167 0 25 (dk_at dksX24_reads_2 10 rfl rfl)
theorem dX24_reads_60 : decode cX24_reads 60 = .ok (.iload_n 2, 1) := dk_28 (dk_at dksX24_reads_2 13 rfl rfl)
theorem dX24_reads_61 : decode cX24_reads 61 = .ok (.bipush 106, 2) := dk_16 106 (dk_at dksX24_reads_2 14 rfl rfl)
theorem dX24_reads_63 : decode cX24_reads 63 = .ok (.if_icmp .ne 7, 3) := dk_160 0 7 (dk_at dksX24_reads_2 16 rfl rfl)
theorem dX24_reads_66 : decode cX24_reads 66 = .ok (.iconst 5, 1) := dk_8 (dk_at dksX24_reads_2 19 rfl rfl)
theorem dX24_reads_67 : decode cX24_reads 67 = .ok (.goto 15, 3) := dk_167 0 15 (dk_at dksX24_reads_2 20 rfl rfl)
theorem dX24_reads_70 : decode cX24_reads 70 = .ok (.iload_n 2, 1) := dk_28 (dk_at dksX24_reads_2 23 rfl rfl)
theorem dX24_reads_71 : decode cX24_reads 71 = .ok (.bipush 104, 2) := dk_16 104 (dk_at dksX24_reads_3 0 rfl rfl)
theorem dX24_reads_73 : decode cX24_reads 73 = .ok (.if_icmp .ne 8, 3) := dk_160 0 8 (dk_at dksX24_reads_3 2 rfl rfl)
theorem dX24_reads_76 : decode cX24_reads 76 = .ok (.bipush 6, 2) := dk_16 6 (dk_at dksX24_reads_3 5 rfl rfl)
theorem dX24_reads_78 : decode cX24_reads 78 = .ok (.goto 4, 3) := dk_167 0 4 (dk_at dksX24_reads_3 7 rfl rfl)
theorem dX24_reads_81 : decode cX24_reads 81 = .ok (.iconst 0, 1) := dk_3 (dk_at dksX24_reads_3 10 rfl rfl)
theorem dX24_reads_82 : decode cX24_reads 82 = .ok (.istore_n 3, 1) := dk_62 (dk_at dksX24_reads_3 11 rfl rfl)
theorem dX24_reads_83 : decode cX24_reads 83 = .ok (.iload_n 3, 1) := dk_29 (dk_at dksX24_reads_3 12 rfl rfl)
theorem dX24_reads_84 : decode cX24_reads 84 = .ok (.ifCond .ne 13, 3) := dk_154 0 13 (dk_at dksX24_reads_3 13 rfl rfl)
theorem dX24_reads_87 : decode cX24_reads 87 = .ok (.aload_n 0, 1) := dk_42 (dk_at dksX24_reads_3 16 rfl rfl)
theorem dX24_reads_88 : decode cX24_reads 88 = .ok (.aload_n 0, 1) := dk_42 (dk_at dksX24_reads_3 17 rfl rfl)
theorem dX24_reads_89 : decode cX24_reads 89 = .ok (.getfield 278, 3) := dk_180 1 22 (dk_at dksX24_reads_3 18 rfl rfl)
theorem dX24_reads_92 : decode cX24_reads 92 = .ok (.putfield 16, 3) := dk_181 0 16 (dk_at dksX24_reads_3 21 rfl rfl)
theorem dX24_reads_95 : decode cX24_reads 95 = .ok (.iconst (-1), 1) := dk_2 (dk_at dksX24_reads_4 0 rfl rfl)
theorem dX24_reads_96 : decode cX24_reads 96 = .ok (.ireturn, 1) := dk_172 (dk_at dksX24_reads_4 1 rfl rfl)
theorem dX24_reads_97 : decode cX24_reads 97 = .ok (.aload_n 0, 1) := dk_42 (dk_at dksX24_reads_4 2 rfl rfl)
theorem dX24_reads_98 : decode cX24_reads 98 = .ok (.iload_n 3, 1) := dk_29 (dk_at dksX24_reads_4 3 rfl rfl)
theorem dX24_reads_99 : decode cX24_reads 99 = .ok (.iconst 1, 1) := dk_4 (dk_at dksX24_reads_4 4 rfl rfl)
theorem dX24_reads_100 : decode cX24_reads 100 = .ok (.if_icmp .ne 9, 3) := dk_160 0 9 (dk_at dksX24_reads_4 5 rfl rfl)
theorem dX24_reads_103 : decode cX24_reads 103 = .ok (.ldc_w 297, 3) := dk_19 1 41 (dk_at dksX24_reads_4 8 rfl rfl)
theorem dX24_reads_106 : decode cX24_reads 106 = .ok (.goto 39, 3) := dk_167 0 39 (dk_at dksX24_reads_4 11 rfl rfl)
theorem dX24_reads_109 : decode cX24_reads 109 = .ok (.iload_n 3, 1) := dk_29 (dk_at dksX24_reads_4 14 rfl rfl)
theorem dX24_reads_110 : decode cX24_reads 110 = .ok (.iconst 3, 1) := dk_6 (dk_at dksX24_reads_4 15 rfl rfl)
theorem dX24_reads_111 : decode cX24_reads 111 = .ok (.if_icmp .ne 9, 3) := dk_160 0 9 (dk_at dksX24_reads_4 16 rfl rfl)
theorem dX24_reads_114 : decode cX24_reads 114 = .ok (.ldc_w 299, 3) := dk_19 1 43 (dk_at dksX24_reads_4 19 rfl rfl)
theorem dX24_reads_117 : decode cX24_reads 117 = .ok (.goto 28, 3) := dk_167 0 28 (dk_at dksX24_reads_5 0 rfl rfl)
theorem dX24_reads_120 : decode cX24_reads 120 = .ok (.iload_n 3, 1) := dk_29 (dk_at dksX24_reads_5 3 rfl rfl)
theorem dX24_reads_121 : decode cX24_reads 121 = .ok (.iconst 4, 1) := dk_7 (dk_at dksX24_reads_5 4 rfl rfl)
theorem dX24_reads_122 : decode cX24_reads 122 = .ok (.if_icmp .ne 9, 3) := dk_160 0 9 (dk_at dksX24_reads_5 5 rfl rfl)
theorem dX24_reads_125 : decode cX24_reads 125 = .ok (.ldc_w 301, 3) := dk_19 1 45 (dk_at dksX24_reads_5 8 rfl rfl)
theorem dX24_reads_128 : decode cX24_reads 128 = .ok (.goto 17, 3) := dk_167 0 17 (dk_at dksX24_reads_5 11 rfl rfl)
theorem dX24_reads_131 : decode cX24_reads 131 = .ok (.iload_n 3, 1) := dk_29 (dk_at dksX24_reads_5 14 rfl rfl)
theorem dX24_reads_132 : decode cX24_reads 132 = .ok (.iconst 5, 1) := dk_8 (dk_at dksX24_reads_5 15 rfl rfl)
theorem dX24_reads_133 : decode cX24_reads 133 = .ok (.if_icmp .ne 9, 3) := dk_160 0 9 (dk_at dksX24_reads_5 16 rfl rfl)
theorem dX24_reads_136 : decode cX24_reads 136 = .ok (.ldc_w 303, 3) := dk_19 1 47 (dk_at dksX24_reads_5 19 rfl rfl)
theorem dX24_reads_139 : decode cX24_reads 139 = .ok (.goto 6, 3) := dk_167 0 6 (dk_at dksX24_reads_6 0 rfl rfl)
theorem dX24_reads_142 : decode cX24_reads 142 = .ok (.ldc_w 305, 3) := dk_19 1 49 (dk_at dksX24_reads_6 3 rfl rfl)
theorem dX24_reads_145 : decode cX24_reads 145 = .ok (.invokevirtual 307, 3) := dk_182 1 51 (dk_at dksX24_reads_6 6 rfl rfl)
theorem dX24_reads_148 : decode cX24_reads 148 = .ok (.pop, 1) := dk_87 (dk_at dksX24_reads_6 9 rfl rfl)
theorem dX24_reads_149 : decode cX24_reads 149 = .ok (.aload_n 0, 1) := dk_42 (dk_at dksX24_reads_6 10 rfl rfl)
theorem dX24_reads_150 : decode cX24_reads 150 = .ok (.iload_n 3, 1) := dk_29 (dk_at dksX24_reads_6 11 rfl rfl)
theorem dX24_reads_151 : decode cX24_reads 151 = .ok (.iconst 1, 1) := dk_4 (dk_at dksX24_reads_6 12 rfl rfl)
theorem dX24_reads_152 : decode cX24_reads 152 = .ok (.if_icmp .ne 10, 3) := dk_160 0 10 (dk_at dksX24_reads_6 13 rfl rfl)
theorem dX24_reads_155 : decode cX24_reads 155 = .ok (.aload_n 0, 1) := dk_42 (dk_at dksX24_reads_6 16 rfl rfl)
theorem dX24_reads_156 : decode cX24_reads 156 = .ok (.getfield 232, 3) := dk_180 0 232 (dk_at dksX24_reads_6 17 rfl rfl)
theorem dX24_reads_159 : decode cX24_reads 159 = .ok (.goto 14, 3) := dk_167 0 14 (dk_at dksX24_reads_6 20 rfl rfl)
theorem dX24_reads_162 : decode cX24_reads 162 = .ok (.iload_n 3, 1) := dk_29 (dk_at dksX24_reads_6 23 rfl rfl)
theorem dX24_reads_163 : decode cX24_reads 163 = .ok (.iconst 3, 1) := dk_6 (dk_at dksX24_reads_7 0 rfl rfl)
theorem dX24_reads_164 : decode cX24_reads 164 = .ok (.if_icmp .ne 8, 3) := dk_160 0 8 (dk_at dksX24_reads_7 1 rfl rfl)
theorem dX24_reads_167 : decode cX24_reads 167 = .ok (.bipush 8, 2) := dk_16 8 (dk_at dksX24_reads_7 4 rfl rfl)
theorem dX24_reads_169 : decode cX24_reads 169 = .ok (.goto 4, 3) := dk_167 0 4 (dk_at dksX24_reads_7 6 rfl rfl)
theorem dX24_reads_172 : decode cX24_reads 172 = .ok (.iconst 4, 1) := dk_7 (dk_at dksX24_reads_7 9 rfl rfl)
theorem dX24_reads_173 : decode cX24_reads 173 = .ok (.invokevirtual 310, 3) := dk_182 1 54 (dk_at dksX24_reads_7 10 rfl rfl)
theorem dX24_reads_176 : decode cX24_reads 176 = .ok (.istore 4, 2) := dk_54 4 (dk_at dksX24_reads_7 13 rfl rfl)
theorem dX24_reads_178 : decode cX24_reads 178 = .ok (.aload_n 0, 1) := dk_42 (dk_at dksX24_reads_7 15 rfl rfl)
theorem dX24_reads_179 : decode cX24_reads 179 = .ok (.getfield 16, 3) := dk_180 0 16 (dk_at dksX24_reads_7 16 rfl rfl)
theorem dX24_reads_182 : decode cX24_reads 182 = .ok (.iconst (-1), 1) := dk_2 (dk_at dksX24_reads_7 19 rfl rfl)
theorem dX24_reads_183 : decode cX24_reads 183 = .ok (.if_icmp .eq 5, 3) := dk_159 0 5 (dk_at dksX24_reads_7 20 rfl rfl)
theorem dX24_reads_186 : decode cX24_reads 186 = .ok (.iconst (-1), 1) := dk_2 (dk_at dksX24_reads_7 23 rfl rfl)
theorem dX24_reads_187 : decode cX24_reads 187 = .ok (.ireturn, 1) := dk_172 (dk_at dksX24_reads_8 0 rfl rfl)
theorem dX24_reads_188 : decode cX24_reads 188 = .ok (.iload_n 3, 1) := dk_29 (dk_at dksX24_reads_8 1 rfl rfl)
theorem dX24_reads_189 : decode cX24_reads 189 = .ok (.iconst 1, 1) := dk_4 (dk_at dksX24_reads_8 2 rfl rfl)
theorem dX24_reads_190 : decode cX24_reads 190 = .ok (.if_icmp .ne 13, 3) := dk_160 0 13 (dk_at dksX24_reads_8 3 rfl rfl)
theorem dX24_reads_193 : decode cX24_reads 193 = .ok (.aload_n 0, 1) := dk_42 (dk_at dksX24_reads_8 6 rfl rfl)
theorem dX24_reads_194 : decode cX24_reads 194 = .ok (.iload_n 3, 1) := dk_29 (dk_at dksX24_reads_8 7 rfl rfl)
theorem dX24_reads_195 : decode cX24_reads 195 = .ok (.iload 4, 2) := dk_21 4 (dk_at dksX24_reads_8 8 rfl rfl)
theorem dX24_reads_197 : decode cX24_reads 197 = .ok (.iconst 0, 1) := dk_3 (dk_at dksX24_reads_8 10 rfl rfl)
theorem dX24_reads_198 : decode cX24_reads 198 = .ok (.iconst 0, 1) := dk_3 (dk_at dksX24_reads_8 11 rfl rfl)
theorem dX24_reads_199 : decode cX24_reads 199 = .ok (.invokevirtual 262, 3) := dk_182 1 6 (dk_at dksX24_reads_8 12 rfl rfl)
theorem dX24_reads_202 : decode cX24_reads 202 = .ok (.ireturn, 1) := dk_172 (dk_at dksX24_reads_8 15 rfl rfl)
theorem dX24_reads_203 : decode cX24_reads 203 = .ok (.aload_n 0, 1) := dk_42 (dk_at dksX24_reads_8 16 rfl rfl)
theorem dX24_reads_204 : decode cX24_reads 204 = .ok (.bipush 40, 2) := dk_16 40 (dk_at dksX24_reads_8 17 rfl rfl)
theorem dX24_reads_206 : decode cX24_reads 206 = .ok (.invokevirtual 294, 3) := dk_182 1 38 (dk_at dksX24_reads_8 19 rfl rfl)
theorem dX24_reads_209 : decode cX24_reads 209 = .ok (.ifCond .ne 5, 3) := dk_154 0 5 (dk_at dksX24_reads_9 0 rfl rfl)
theorem dX24_reads_212 : decode cX24_reads 212 = .ok (.iconst (-1), 1) := dk_2 (dk_at dksX24_reads_9 3 rfl rfl)
theorem dX24_reads_213 : decode cX24_reads 213 = .ok (.ireturn, 1) := dk_172 (dk_at dksX24_reads_9 4 rfl rfl)
theorem dX24_reads_214 : decode cX24_reads 214 = .ok (.aload_n 0, 1) := dk_42 (dk_at dksX24_reads_9 5 rfl rfl)
theorem dX24_reads_215 : decode cX24_reads 215 = .ok (.invokevirtual 313, 3) := dk_182 1 57 (dk_at dksX24_reads_9 6 rfl rfl)
theorem dX24_reads_218 : decode cX24_reads 218 = .ok (.istore 5, 2) := dk_54 5 (dk_at dksX24_reads_9 9 rfl rfl)
theorem dX24_reads_220 : decode cX24_reads 220 = .ok (.aload_n 0, 1) := dk_42 (dk_at dksX24_reads_9 11 rfl rfl)
theorem dX24_reads_221 : decode cX24_reads 221 = .ok (.getfield 16, 3) := dk_180 0 16 (dk_at dksX24_reads_9 12 rfl rfl)
theorem dX24_reads_224 : decode cX24_reads 224 = .ok (.iconst (-1), 1) := dk_2 (dk_at dksX24_reads_9 15 rfl rfl)
theorem dX24_reads_225 : decode cX24_reads 225 = .ok (.if_icmp .eq 5, 3) := dk_159 0 5 (dk_at dksX24_reads_9 16 rfl rfl)
theorem dX24_reads_228 : decode cX24_reads 228 = .ok (.iconst (-1), 1) := dk_2 (dk_at dksX24_reads_9 19 rfl rfl)
theorem dX24_reads_229 : decode cX24_reads 229 = .ok (.ireturn, 1) := dk_172 (dk_at dksX24_reads_9 20 rfl rfl)
theorem dX24_reads_230 : decode cX24_reads 230 = .ok (.iload 5, 2) := dk_21 5 (dk_at dksX24_reads_9 21 rfl rfl)
theorem dX24_reads_232 : decode cX24_reads 232 = .ok (.istore 6, 2) := dk_54 6 (dk_at dksX24_reads_10 0 rfl rfl)
theorem dX24_reads_234 : decode cX24_reads 234 = .ok (.iload_n 3, 1) := dk_29 (dk_at dksX24_reads_10 2 rfl rfl)
theorem dX24_reads_235 : decode cX24_reads 235 = .ok (.iconst 5, 1) := dk_8 (dk_at dksX24_reads_10 3 rfl rfl)
theorem dX24_reads_236 : decode cX24_reads 236 = .ok (.if_icmp .lt 30, 3) := dk_161 0 30 (dk_at dksX24_reads_10 4 rfl rfl)
theorem dX24_reads_239 : decode cX24_reads 239 = .ok (.aload_n 0, 1) := dk_42 (dk_at dksX24_reads_10 7 rfl rfl)
theorem dX24_reads_240 : decode cX24_reads 240 = .ok (.bipush 44, 2) := dk_16 44 (dk_at dksX24_reads_10 8 rfl rfl)
theorem dX24_reads_242 : decode cX24_reads 242 = .ok (.invokevirtual 294, 3) := dk_182 1 38 (dk_at dksX24_reads_10 10 rfl rfl)
theorem dX24_reads_245 : decode cX24_reads 245 = .ok (.ifCond .ne 5, 3) := dk_154 0 5 (dk_at dksX24_reads_10 13 rfl rfl)
theorem dX24_reads_248 : decode cX24_reads 248 = .ok (.iconst (-1), 1) := dk_2 (dk_at dksX24_reads_10 16 rfl rfl)
theorem dX24_reads_249 : decode cX24_reads 249 = .ok (.ireturn, 1) := dk_172 (dk_at dksX24_reads_10 17 rfl rfl)
theorem dX24_reads_250 : decode cX24_reads 250 = .ok (.aload_n 0, 1) := dk_42 (dk_at dksX24_reads_10 18 rfl rfl)
theorem dX24_reads_251 : decode cX24_reads 251 = .ok (.invokevirtual 313, 3) := dk_182 1 57 (dk_at dksX24_reads_10 19 rfl rfl)
theorem dX24_reads_254 : decode cX24_reads 254 = .ok (.istore 6, 2) := dk_54 6 (dk_at dksX24_reads_10 22 rfl rfl)
theorem dX24_reads_256 : decode cX24_reads 256 = .ok (.aload_n 0, 1) := dk_42 (dk_at dksX24_reads_11 0 rfl rfl)
theorem dX24_reads_257 : decode cX24_reads 257 = .ok (.getfield 16, 3) := dk_180 0 16 (dk_at dksX24_reads_11 1 rfl rfl)
theorem dX24_reads_260 : decode cX24_reads 260 = .ok (.iconst (-1), 1) := dk_2 (dk_at dksX24_reads_11 4 rfl rfl)
theorem dX24_reads_261 : decode cX24_reads 261 = .ok (.if_icmp .eq 5, 3) := dk_159 0 5 (dk_at dksX24_reads_11 5 rfl rfl)
theorem dX24_reads_264 : decode cX24_reads 264 = .ok (.iconst (-1), 1) := dk_2 (dk_at dksX24_reads_11 8 rfl rfl)
theorem dX24_reads_265 : decode cX24_reads 265 = .ok (.ireturn, 1) := dk_172 (dk_at dksX24_reads_11 9 rfl rfl)
theorem dX24_reads_266 : decode cX24_reads 266 = .ok (.aload_n 0, 1) := dk_42 (dk_at dksX24_reads_11 10 rfl rfl)
theorem dX24_reads_267 : decode cX24_reads 267 = .ok (.bipush 41, 2) := dk_16 41 (dk_at dksX24_reads_11 11 rfl rfl)
theorem dX24_reads_269 : decode cX24_reads 269 = .ok (.invokevirtual 294, 3) := dk_182 1 38 (dk_at dksX24_reads_11 13 rfl rfl)
theorem dX24_reads_272 : decode cX24_reads 272 = .ok (.ifCond .ne 5, 3) := dk_154 0 5 (dk_at dksX24_reads_11 16 rfl rfl)
theorem dX24_reads_275 : decode cX24_reads 275 = .ok (.iconst (-1), 1) := dk_2 (dk_at dksX24_reads_11 19 rfl rfl)
theorem dX24_reads_276 : decode cX24_reads 276 = .ok (.ireturn, 1) := dk_172 (dk_at dksX24_reads_11 20 rfl rfl)
theorem dX24_reads_277 : decode cX24_reads 277 = .ok (.aload_n 0, 1) := dk_42 (dk_at dksX24_reads_11 21 rfl rfl)
theorem dX24_reads_278 : decode cX24_reads 278 = .ok (.iload_n 3, 1) := dk_29 (dk_at dksX24_reads_11 22 rfl rfl)
theorem dX24_reads_279 : decode cX24_reads 279 = .ok (.iload 4, 2) := dk_21 4 (dk_at dksX24_reads_12 0 rfl rfl)
theorem dX24_reads_281 : decode cX24_reads 281 = .ok (.iload 5, 2) := dk_21 5 (dk_at dksX24_reads_12 2 rfl rfl)
theorem dX24_reads_283 : decode cX24_reads 283 = .ok (.iload 6, 2) := dk_21 6 (dk_at dksX24_reads_12 4 rfl rfl)
theorem dX24_reads_285 : decode cX24_reads 285 = .ok (.invokevirtual 271, 3) := dk_182 1 15 (dk_at dksX24_reads_12 6 rfl rfl)
theorem dX24_reads_288 : decode cX24_reads 288 = .ok (.ifCond .ne 10, 3) := dk_154 0 10 (dk_at dksX24_reads_12 9 rfl rfl)
theorem dX24_reads_291 : decode cX24_reads 291 = .ok (.aload_n 0, 1) := dk_42 (dk_at dksX24_reads_12 12 rfl rfl)
theorem dX24_reads_292 : decode cX24_reads 292 = .ok (.iload_n 1, 1) := dk_27 (dk_at dksX24_reads_12 13 rfl rfl)
theorem dX24_reads_293 : decode cX24_reads 293 = .ok (.putfield 16, 3) := dk_181 0 16 (dk_at dksX24_reads_12 14 rfl rfl)
theorem dX24_reads_296 : decode cX24_reads 296 = .ok (.iconst (-1), 1) := dk_2 (dk_at dksX24_reads_12 17 rfl rfl)
theorem dX24_reads_297 : decode cX24_reads 297 = .ok (.ireturn, 1) := dk_172 (dk_at dksX24_reads_12 18 rfl rfl)
theorem dX24_reads_298 : decode cX24_reads 298 = .ok (.aload_n 0, 1) := dk_42 (dk_at dksX24_reads_12 19 rfl rfl)
theorem dX24_reads_299 : decode cX24_reads 299 = .ok (.iload_n 3, 1) := dk_29 (dk_at dksX24_reads_12 20 rfl rfl)
theorem dX24_reads_300 : decode cX24_reads 300 = .ok (.iload 4, 2) := dk_21 4 (dk_at dksX24_reads_12 21 rfl rfl)
theorem dX24_reads_302 : decode cX24_reads 302 = .ok (.iload 5, 2) := dk_21 5 (dk_at dksX24_reads_13 0 rfl rfl)
theorem dX24_reads_304 : decode cX24_reads 304 = .ok (.iload 6, 2) := dk_21 6 (dk_at dksX24_reads_13 2 rfl rfl)
theorem dX24_reads_306 : decode cX24_reads 306 = .ok (.invokevirtual 262, 3) := dk_182 1 6 (dk_at dksX24_reads_13 4 rfl rfl)
theorem dX24_reads_309 : decode cX24_reads 309 = .ok (.ireturn, 1) := dk_172 (dk_at dksX24_reads_13 7 rfl rfl)
abbrev cX24_goes : ByteArray := prog_53_method_36_code
def yX24_goes : MethodName := ⟨RX24, "goes", "(Ljava/lang/String;)Z"⟩
def dkwX24_goes_1 : List UInt8 := [167, 255, 235, 42, 180, 0, 16, 2, 160, 0, 7, 4, 167, 0, 4, 3, 172]
abbrev dktX24_goes_1 : List UInt8 := dkwX24_goes_1 ++ []
def dkwX24_goes_0 : List UInt8 := [3, 61, 28, 43, 182, 1, 28, 162, 0, 19, 42, 43, 28, 182, 1, 34, 182, 1, 38, 87, 132, 2, 1]
abbrev dktX24_goes_0 : List UInt8 := dkwX24_goes_0 ++ dktX24_goes_1
theorem dksX24_goes_0 : cX24_goes.data.toList.drop 0 = dktX24_goes_0 := by decide +kernel
theorem dksX24_goes_1 : cX24_goes.data.toList.drop 23 = dktX24_goes_1 := dk_seg dksX24_goes_0 23 rfl rfl
theorem dX24_goes_0 : decode cX24_goes 0 = .ok (.iconst 0, 1) := dk_3 (dk_at dksX24_goes_0 0 rfl rfl)
theorem dX24_goes_1 : decode cX24_goes 1 = .ok (.istore_n 2, 1) := dk_61 (dk_at dksX24_goes_0 1 rfl rfl)
theorem dX24_goes_2 : decode cX24_goes 2 = .ok (.iload_n 2, 1) := dk_28 (dk_at dksX24_goes_0 2 rfl rfl)
theorem dX24_goes_3 : decode cX24_goes 3 = .ok (.aload_n 1, 1) := dk_43 (dk_at dksX24_goes_0 3 rfl rfl)
theorem dX24_goes_4 : decode cX24_goes 4 = .ok (.invokevirtual 284, 3) := dk_182 1 28 (dk_at dksX24_goes_0 4 rfl rfl)
theorem dX24_goes_7 : decode cX24_goes 7 = .ok (.if_icmp .ge 19, 3) := dk_162 0 19 (dk_at dksX24_goes_0 7 rfl rfl)
theorem dX24_goes_10 : decode cX24_goes 10 = .ok (.aload_n 0, 1) := dk_42 (dk_at dksX24_goes_0 10 rfl rfl)
theorem dX24_goes_11 : decode cX24_goes 11 = .ok (.aload_n 1, 1) := dk_43 (dk_at dksX24_goes_0 11 rfl rfl)
theorem dX24_goes_12 : decode cX24_goes 12 = .ok (.iload_n 2, 1) := dk_28 (dk_at dksX24_goes_0 12 rfl rfl)
theorem dX24_goes_13 : decode cX24_goes 13 = .ok (.invokevirtual 290, 3) := dk_182 1 34 (dk_at dksX24_goes_0 13 rfl rfl)
theorem dX24_goes_16 : decode cX24_goes 16 = .ok (.invokevirtual 294, 3) := dk_182 1 38 (dk_at dksX24_goes_0 16 rfl rfl)
theorem dX24_goes_19 : decode cX24_goes 19 = .ok (.pop, 1) := dk_87 (dk_at dksX24_goes_0 19 rfl rfl)
theorem dX24_goes_20 : decode cX24_goes 20 = .ok (.iinc 2 1, 3) := dk_132 2 1 (dk_at dksX24_goes_0 20 rfl rfl)
theorem dX24_goes_23 : decode cX24_goes 23 = .ok (.goto (-21), 3) := dk_167 255 235 (dk_at dksX24_goes_1 0 rfl rfl)
theorem dX24_goes_26 : decode cX24_goes 26 = .ok (.aload_n 0, 1) := dk_42 (dk_at dksX24_goes_1 3 rfl rfl)
theorem dX24_goes_27 : decode cX24_goes 27 = .ok (.getfield 16, 3) := dk_180 0 16 (dk_at dksX24_goes_1 4 rfl rfl)
theorem dX24_goes_30 : decode cX24_goes 30 = .ok (.iconst (-1), 1) := dk_2 (dk_at dksX24_goes_1 7 rfl rfl)
theorem dX24_goes_31 : decode cX24_goes 31 = .ok (.if_icmp .ne 7, 3) := dk_160 0 7 (dk_at dksX24_goes_1 8 rfl rfl)
theorem dX24_goes_34 : decode cX24_goes 34 = .ok (.iconst 1, 1) := dk_4 (dk_at dksX24_goes_1 11 rfl rfl)
theorem dX24_goes_35 : decode cX24_goes 35 = .ok (.goto 4, 3) := dk_167 0 4 (dk_at dksX24_goes_1 12 rfl rfl)
theorem dX24_goes_38 : decode cX24_goes 38 = .ok (.iconst 0, 1) := dk_3 (dk_at dksX24_goes_1 15 rfl rfl)
theorem dX24_goes_39 : decode cX24_goes 39 = .ok (.ireturn, 1) := dk_172 (dk_at dksX24_goes_1 16 rfl rfl)
abbrev cX24_goes_2 : ByteArray := prog_53_method_35_code
def yX24_goes_2 : MethodName := ⟨RX24, "goes", "(I)Z"⟩
def dkwX24_goes_2_2 : List UInt8 := [180, 1, 22, 4, 96, 181, 1, 22, 4, 172]
abbrev dktX24_goes_2_2 : List UInt8 := dkwX24_goes_2_2 ++ []
def dkwX24_goes_2_1 : List UInt8 := [180, 0, 181, 42, 180, 1, 22, 46, 27, 159, 0, 13, 42, 42, 180, 1, 22, 181, 0, 16, 3, 172, 42, 89]
abbrev dktX24_goes_2_1 : List UInt8 := dkwX24_goes_2_1 ++ dktX24_goes_2_2
def dkwX24_goes_2_0 : List UInt8 := [42, 180, 0, 16, 2, 159, 0, 5, 3, 172, 42, 180, 1, 22, 42, 180, 1, 25, 162, 0, 16, 42]
abbrev dktX24_goes_2_0 : List UInt8 := dkwX24_goes_2_0 ++ dktX24_goes_2_1
theorem dksX24_goes_2_0 : cX24_goes_2.data.toList.drop 0 = dktX24_goes_2_0 := by decide +kernel
theorem dksX24_goes_2_1 : cX24_goes_2.data.toList.drop 22 = dktX24_goes_2_1 := dk_seg dksX24_goes_2_0 22 rfl rfl
theorem dksX24_goes_2_2 : cX24_goes_2.data.toList.drop 46 = dktX24_goes_2_2 := dk_seg dksX24_goes_2_1 24 rfl rfl
theorem dX24_goes_2_0 : decode cX24_goes_2 0 = .ok (.aload_n 0, 1) := dk_42 (dk_at dksX24_goes_2_0 0 rfl rfl)
theorem dX24_goes_2_1 : decode cX24_goes_2 1 = .ok (.getfield 16, 3) := dk_180 0 16 (dk_at dksX24_goes_2_0 1 rfl rfl)
theorem dX24_goes_2_4 : decode cX24_goes_2 4 = .ok (.iconst (-1), 1) := dk_2 (dk_at dksX24_goes_2_0 4 rfl rfl)
theorem dX24_goes_2_5 : decode cX24_goes_2 5 = .ok (.if_icmp .eq 5, 3) := dk_159 0 5 (dk_at dksX24_goes_2_0 5 rfl rfl)
theorem dX24_goes_2_8 : decode cX24_goes_2 8 = .ok (.iconst 0, 1) := dk_3 (dk_at dksX24_goes_2_0 8 rfl rfl)
theorem dX24_goes_2_9 : decode cX24_goes_2 9 = .ok (.ireturn, 1) := dk_172 (dk_at dksX24_goes_2_0 9 rfl rfl)
theorem dX24_goes_2_10 : decode cX24_goes_2 10 = .ok (.aload_n 0, 1) := dk_42 (dk_at dksX24_goes_2_0 10 rfl rfl)
theorem dX24_goes_2_11 : decode cX24_goes_2 11 = .ok (.getfield 278, 3) := dk_180 1 22 (dk_at dksX24_goes_2_0 11 rfl rfl)
theorem dX24_goes_2_14 : decode cX24_goes_2 14 = .ok (.aload_n 0, 1) := dk_42 (dk_at dksX24_goes_2_0 14 rfl rfl)
theorem dX24_goes_2_15 : decode cX24_goes_2 15 = .ok (.getfield 281, 3) := dk_180 1 25 (dk_at dksX24_goes_2_0 15 rfl rfl)
theorem dX24_goes_2_18 : decode cX24_goes_2 18 = .ok (.if_icmp .ge 16, 3) := dk_162 0 16 (dk_at dksX24_goes_2_0 18 rfl rfl)
theorem dX24_goes_2_21 : decode cX24_goes_2 21 = .ok (.aload_n 0, 1) := dk_42 (dk_at dksX24_goes_2_0 21 rfl rfl)
theorem dX24_goes_2_22 : decode cX24_goes_2 22 = .ok (.getfield 181, 3) := dk_180 0 181 (dk_at dksX24_goes_2_1 0 rfl rfl)
theorem dX24_goes_2_25 : decode cX24_goes_2 25 = .ok (.aload_n 0, 1) := dk_42 (dk_at dksX24_goes_2_1 3 rfl rfl)
theorem dX24_goes_2_26 : decode cX24_goes_2 26 = .ok (.getfield 278, 3) := dk_180 1 22 (dk_at dksX24_goes_2_1 4 rfl rfl)
theorem dX24_goes_2_29 : decode cX24_goes_2 29 = .ok (.iaload, 1) := dk_46 (dk_at dksX24_goes_2_1 7 rfl rfl)
theorem dX24_goes_2_30 : decode cX24_goes_2 30 = .ok (.iload_n 1, 1) := dk_27 (dk_at dksX24_goes_2_1 8 rfl rfl)
theorem dX24_goes_2_31 : decode cX24_goes_2 31 = .ok (.if_icmp .eq 13, 3) := dk_159 0 13 (dk_at dksX24_goes_2_1 9 rfl rfl)
theorem dX24_goes_2_34 : decode cX24_goes_2 34 = .ok (.aload_n 0, 1) := dk_42 (dk_at dksX24_goes_2_1 12 rfl rfl)
theorem dX24_goes_2_35 : decode cX24_goes_2 35 = .ok (.aload_n 0, 1) := dk_42 (dk_at dksX24_goes_2_1 13 rfl rfl)
theorem dX24_goes_2_36 : decode cX24_goes_2 36 = .ok (.getfield 278, 3) := dk_180 1 22 (dk_at dksX24_goes_2_1 14 rfl rfl)
theorem dX24_goes_2_39 : decode cX24_goes_2 39 = .ok (.putfield 16, 3) := dk_181 0 16 (dk_at dksX24_goes_2_1 17 rfl rfl)
theorem dX24_goes_2_42 : decode cX24_goes_2 42 = .ok (.iconst 0, 1) := dk_3 (dk_at dksX24_goes_2_1 20 rfl rfl)
theorem dX24_goes_2_43 : decode cX24_goes_2 43 = .ok (.ireturn, 1) := dk_172 (dk_at dksX24_goes_2_1 21 rfl rfl)
theorem dX24_goes_2_44 : decode cX24_goes_2 44 = .ok (.aload_n 0, 1) := dk_42 (dk_at dksX24_goes_2_1 22 rfl rfl)
theorem dX24_goes_2_45 : decode cX24_goes_2 45 = .ok (.dup, 1) := dk_89 (dk_at dksX24_goes_2_1 23 rfl rfl)
theorem dX24_goes_2_46 : decode cX24_goes_2 46 = .ok (.getfield 278, 3) := dk_180 1 22 (dk_at dksX24_goes_2_2 0 rfl rfl)
theorem dX24_goes_2_49 : decode cX24_goes_2 49 = .ok (.iconst 1, 1) := dk_4 (dk_at dksX24_goes_2_2 3 rfl rfl)
theorem dX24_goes_2_50 : decode cX24_goes_2 50 = .ok (.iadd, 1) := dk_96 (dk_at dksX24_goes_2_2 4 rfl rfl)
theorem dX24_goes_2_51 : decode cX24_goes_2 51 = .ok (.putfield 278, 3) := dk_181 1 22 (dk_at dksX24_goes_2_2 5 rfl rfl)
theorem dX24_goes_2_54 : decode cX24_goes_2 54 = .ok (.iconst 1, 1) := dk_4 (dk_at dksX24_goes_2_2 8 rfl rfl)
theorem dX24_goes_2_55 : decode cX24_goes_2 55 = .ok (.ireturn, 1) := dk_172 (dk_at dksX24_goes_2_2 9 rfl rfl)
abbrev cX24_digit : ByteArray := prog_53_method_37_code
def yX24_digit : MethodName := ⟨RX24, "digit", "(I)I"⟩
def dkwX24_digit_3 : List UInt8 := [181, 1, 22, 42, 180, 0, 181, 42, 180, 1, 22, 4, 100, 46, 16, 48, 100, 172]
abbrev dktX24_digit_3 : List UInt8 := dkwX24_digit_3 ++ []
def dkwX24_digit_2 : List UInt8 := [27, 96, 161, 0, 13, 42, 42, 180, 1, 22, 181, 0, 16, 3, 172, 42, 89, 180, 1, 22, 4, 96]
abbrev dktX24_digit_2 : List UInt8 := dkwX24_digit_2 ++ dktX24_digit_3
def dkwX24_digit_1 : List UInt8 := [180, 0, 181, 42, 180, 1, 22, 46, 16, 48, 161, 0, 19, 42, 180, 0, 181, 42, 180, 1, 22, 46, 16, 48]
abbrev dktX24_digit_1 : List UInt8 := dkwX24_digit_1 ++ dktX24_digit_2
def dkwX24_digit_0 : List UInt8 := [42, 180, 0, 16, 2, 159, 0, 5, 3, 172, 42, 180, 1, 22, 42, 180, 1, 25, 162, 0, 33, 42]
abbrev dktX24_digit_0 : List UInt8 := dkwX24_digit_0 ++ dktX24_digit_1
theorem dksX24_digit_0 : cX24_digit.data.toList.drop 0 = dktX24_digit_0 := by decide +kernel
theorem dksX24_digit_1 : cX24_digit.data.toList.drop 22 = dktX24_digit_1 := dk_seg dksX24_digit_0 22 rfl rfl
theorem dksX24_digit_2 : cX24_digit.data.toList.drop 46 = dktX24_digit_2 := dk_seg dksX24_digit_1 24 rfl rfl
theorem dksX24_digit_3 : cX24_digit.data.toList.drop 68 = dktX24_digit_3 := dk_seg dksX24_digit_2 22 rfl rfl
theorem dX24_digit_0 : decode cX24_digit 0 = .ok (.aload_n 0, 1) := dk_42 (dk_at dksX24_digit_0 0 rfl rfl)
theorem dX24_digit_1 : decode cX24_digit 1 = .ok (.getfield 16, 3) := dk_180 0 16 (dk_at dksX24_digit_0 1 rfl rfl)
theorem dX24_digit_4 : decode cX24_digit 4 = .ok (.iconst (-1), 1) := dk_2 (dk_at dksX24_digit_0 4 rfl rfl)
theorem dX24_digit_5 : decode cX24_digit 5 = .ok (.if_icmp .eq 5, 3) := dk_159 0 5 (dk_at dksX24_digit_0 5 rfl rfl)
theorem dX24_digit_8 : decode cX24_digit 8 = .ok (.iconst 0, 1) := dk_3 (dk_at dksX24_digit_0 8 rfl rfl)
theorem dX24_digit_9 : decode cX24_digit 9 = .ok (.ireturn, 1) := dk_172 (dk_at dksX24_digit_0 9 rfl rfl)
theorem dX24_digit_10 : decode cX24_digit 10 = .ok (.aload_n 0, 1) := dk_42 (dk_at dksX24_digit_0 10 rfl rfl)
theorem dX24_digit_11 : decode cX24_digit 11 = .ok (.getfield 278, 3) := dk_180 1 22 (dk_at dksX24_digit_0 11 rfl rfl)
theorem dX24_digit_14 : decode cX24_digit 14 = .ok (.aload_n 0, 1) := dk_42 (dk_at dksX24_digit_0 14 rfl rfl)
theorem dX24_digit_15 : decode cX24_digit 15 = .ok (.getfield 281, 3) := dk_180 1 25 (dk_at dksX24_digit_0 15 rfl rfl)
theorem dX24_digit_18 : decode cX24_digit 18 = .ok (.if_icmp .ge 33, 3) := dk_162 0 33 (dk_at dksX24_digit_0 18 rfl rfl)
theorem dX24_digit_21 : decode cX24_digit 21 = .ok (.aload_n 0, 1) := dk_42 (dk_at dksX24_digit_0 21 rfl rfl)
theorem dX24_digit_22 : decode cX24_digit 22 = .ok (.getfield 181, 3) := dk_180 0 181 (dk_at dksX24_digit_1 0 rfl rfl)
theorem dX24_digit_25 : decode cX24_digit 25 = .ok (.aload_n 0, 1) := dk_42 (dk_at dksX24_digit_1 3 rfl rfl)
theorem dX24_digit_26 : decode cX24_digit 26 = .ok (.getfield 278, 3) := dk_180 1 22 (dk_at dksX24_digit_1 4 rfl rfl)
theorem dX24_digit_29 : decode cX24_digit 29 = .ok (.iaload, 1) := dk_46 (dk_at dksX24_digit_1 7 rfl rfl)
theorem dX24_digit_30 : decode cX24_digit 30 = .ok (.bipush 48, 2) := dk_16 48 (dk_at dksX24_digit_1 8 rfl rfl)
theorem dX24_digit_32 : decode cX24_digit 32 = .ok (.if_icmp .lt 19, 3) := dk_161 0 19 (dk_at dksX24_digit_1 10 rfl rfl)
theorem dX24_digit_35 : decode cX24_digit 35 = .ok (.aload_n 0, 1) := dk_42 (dk_at dksX24_digit_1 13 rfl rfl)
theorem dX24_digit_36 : decode cX24_digit 36 = .ok (.getfield 181, 3) := dk_180 0 181 (dk_at dksX24_digit_1 14 rfl rfl)
theorem dX24_digit_39 : decode cX24_digit 39 = .ok (.aload_n 0, 1) := dk_42 (dk_at dksX24_digit_1 17 rfl rfl)
theorem dX24_digit_40 : decode cX24_digit 40 = .ok (.getfield 278, 3) := dk_180 1 22 (dk_at dksX24_digit_1 18 rfl rfl)
theorem dX24_digit_43 : decode cX24_digit 43 = .ok (.iaload, 1) := dk_46 (dk_at dksX24_digit_1 21 rfl rfl)
theorem dX24_digit_44 : decode cX24_digit 44 = .ok (.bipush 48, 2) := dk_16 48 (dk_at dksX24_digit_1 22 rfl rfl)
theorem dX24_digit_46 : decode cX24_digit 46 = .ok (.iload_n 1, 1) := dk_27 (dk_at dksX24_digit_2 0 rfl rfl)
theorem dX24_digit_47 : decode cX24_digit 47 = .ok (.iadd, 1) := dk_96 (dk_at dksX24_digit_2 1 rfl rfl)
theorem dX24_digit_48 : decode cX24_digit 48 = .ok (.if_icmp .lt 13, 3) := dk_161 0 13 (dk_at dksX24_digit_2 2 rfl rfl)
theorem dX24_digit_51 : decode cX24_digit 51 = .ok (.aload_n 0, 1) := dk_42 (dk_at dksX24_digit_2 5 rfl rfl)
theorem dX24_digit_52 : decode cX24_digit 52 = .ok (.aload_n 0, 1) := dk_42 (dk_at dksX24_digit_2 6 rfl rfl)
theorem dX24_digit_53 : decode cX24_digit 53 = .ok (.getfield 278, 3) := dk_180 1 22 (dk_at dksX24_digit_2 7 rfl rfl)
theorem dX24_digit_56 : decode cX24_digit 56 = .ok (.putfield 16, 3) := dk_181 0 16 (dk_at dksX24_digit_2 10 rfl rfl)
theorem dX24_digit_59 : decode cX24_digit 59 = .ok (.iconst 0, 1) := dk_3 (dk_at dksX24_digit_2 13 rfl rfl)
theorem dX24_digit_60 : decode cX24_digit 60 = .ok (.ireturn, 1) := dk_172 (dk_at dksX24_digit_2 14 rfl rfl)
theorem dX24_digit_61 : decode cX24_digit 61 = .ok (.aload_n 0, 1) := dk_42 (dk_at dksX24_digit_2 15 rfl rfl)
theorem dX24_digit_62 : decode cX24_digit 62 = .ok (.dup, 1) := dk_89 (dk_at dksX24_digit_2 16 rfl rfl)
theorem dX24_digit_63 : decode cX24_digit 63 = .ok (.getfield 278, 3) := dk_180 1 22 (dk_at dksX24_digit_2 17 rfl rfl)
theorem dX24_digit_66 : decode cX24_digit 66 = .ok (.iconst 1, 1) := dk_4 (dk_at dksX24_digit_2 20 rfl rfl)
theorem dX24_digit_67 : decode cX24_digit 67 = .ok (.iadd, 1) := dk_96 (dk_at dksX24_digit_2 21 rfl rfl)
theorem dX24_digit_68 : decode cX24_digit 68 = .ok (.putfield 278, 3) := dk_181 1 22 (dk_at dksX24_digit_3 0 rfl rfl)
theorem dX24_digit_71 : decode cX24_digit 71 = .ok (.aload_n 0, 1) := dk_42 (dk_at dksX24_digit_3 3 rfl rfl)
theorem dX24_digit_72 : decode cX24_digit 72 = .ok (.getfield 181, 3) := dk_180 0 181 (dk_at dksX24_digit_3 4 rfl rfl)
theorem dX24_digit_75 : decode cX24_digit 75 = .ok (.aload_n 0, 1) := dk_42 (dk_at dksX24_digit_3 7 rfl rfl)
theorem dX24_digit_76 : decode cX24_digit 76 = .ok (.getfield 278, 3) := dk_180 1 22 (dk_at dksX24_digit_3 8 rfl rfl)
theorem dX24_digit_79 : decode cX24_digit 79 = .ok (.iconst 1, 1) := dk_4 (dk_at dksX24_digit_3 11 rfl rfl)
theorem dX24_digit_80 : decode cX24_digit 80 = .ok (.isub, 1) := dk_100 (dk_at dksX24_digit_3 12 rfl rfl)
theorem dX24_digit_81 : decode cX24_digit 81 = .ok (.iaload, 1) := dk_46 (dk_at dksX24_digit_3 13 rfl rfl)
theorem dX24_digit_82 : decode cX24_digit 82 = .ok (.bipush 48, 2) := dk_16 48 (dk_at dksX24_digit_3 14 rfl rfl)
theorem dX24_digit_84 : decode cX24_digit 84 = .ok (.isub, 1) := dk_100 (dk_at dksX24_digit_3 16 rfl rfl)
theorem dX24_digit_85 : decode cX24_digit 85 = .ok (.ireturn, 1) := dk_172 (dk_at dksX24_digit_3 17 rfl rfl)
abbrev cX24_fault : ByteArray := prog_53_method_40_code
def yX24_fault : MethodName := ⟨RX24, "fault", "()I"⟩
theorem dX24_fault_0 : decode cX24_fault 0 = .ok (.aload_n 0, 1) := by decide +kernel
theorem dX24_fault_1 : decode cX24_fault 1 = .ok (.getfield 16, 3) := by decide +kernel
theorem dX24_fault_4 : decode cX24_fault 4 = .ok (.ireturn, 1) := by decide +kernel
abbrev cX24_same : ByteArray := prog_53_method_41_code
def yX24_same : MethodName := ⟨RX24, "same", "(II)I"⟩
def dkwX24_same_2 : List UInt8 := [159, 0, 10, 42, 16, 250, 182, 0, 206, 172, 42, 27, 28, 182, 1, 60, 42, 27, 182, 0, 225, 172]
abbrev dktX24_same_2 : List UInt8 := dkwX24_same_2 ++ []
def dkwX24_same_1 : List UInt8 := [182, 1, 3, 42, 180, 0, 88, 42, 27, 182, 0, 225, 46, 42, 180, 0, 88, 42, 28, 182, 0, 225, 46]
abbrev dktX24_same_1 : List UInt8 := dkwX24_same_1 ++ dktX24_same_2
def dkwX24_same_0 : List UInt8 := [42, 27, 182, 1, 12, 153, 0, 11, 42, 28, 182, 1, 12, 154, 0, 9, 42, 2, 182, 0, 206, 172, 42]
abbrev dktX24_same_0 : List UInt8 := dkwX24_same_0 ++ dktX24_same_1
theorem dksX24_same_0 : cX24_same.data.toList.drop 0 = dktX24_same_0 := by decide +kernel
theorem dksX24_same_1 : cX24_same.data.toList.drop 23 = dktX24_same_1 := dk_seg dksX24_same_0 23 rfl rfl
theorem dksX24_same_2 : cX24_same.data.toList.drop 46 = dktX24_same_2 := dk_seg dksX24_same_1 23 rfl rfl
theorem dX24_same_0 : decode cX24_same 0 = .ok (.aload_n 0, 1) := dk_42 (dk_at dksX24_same_0 0 rfl rfl)
theorem dX24_same_1 : decode cX24_same 1 = .ok (.iload_n 1, 1) := dk_27 (dk_at dksX24_same_0 1 rfl rfl)
theorem dX24_same_2 : decode cX24_same 2 = .ok (.invokevirtual 268, 3) := dk_182 1 12 (dk_at dksX24_same_0 2 rfl rfl)
theorem dX24_same_5 : decode cX24_same 5 = .ok (.ifCond .eq 11, 3) := dk_153 0 11 (dk_at dksX24_same_0 5 rfl rfl)
theorem dX24_same_8 : decode cX24_same 8 = .ok (.aload_n 0, 1) := dk_42 (dk_at dksX24_same_0 8 rfl rfl)
theorem dX24_same_9 : decode cX24_same 9 = .ok (.iload_n 2, 1) := dk_28 (dk_at dksX24_same_0 9 rfl rfl)
theorem dX24_same_10 : decode cX24_same 10 = .ok (.invokevirtual 268, 3) := dk_182 1 12 (dk_at dksX24_same_0 10 rfl rfl)
theorem dX24_same_13 : decode cX24_same 13 = .ok (.ifCond .ne 9, 3) := dk_154 0 9 (dk_at dksX24_same_0 13 rfl rfl)
theorem dX24_same_16 : decode cX24_same 16 = .ok (.aload_n 0, 1) := dk_42 (dk_at dksX24_same_0 16 rfl rfl)
theorem dX24_same_17 : decode cX24_same 17 = .ok (.iconst (-1), 1) := dk_2 (dk_at dksX24_same_0 17 rfl rfl)
theorem dX24_same_18 : decode cX24_same 18 = .ok (.invokevirtual 206, 3) := dk_182 0 206 (dk_at dksX24_same_0 18 rfl rfl)
theorem dX24_same_21 : decode cX24_same 21 = .ok (.ireturn, 1) := dk_172 (dk_at dksX24_same_0 21 rfl rfl)
theorem dX24_same_22 : decode cX24_same 22 = .ok (.aload_n 0, 1) := dk_42 (dk_at dksX24_same_0 22 rfl rfl)
theorem dX24_same_23 : decode cX24_same 23 = .ok (.invokevirtual 259, 3) := dk_182 1 3 (dk_at dksX24_same_1 0 rfl rfl)
theorem dX24_same_26 : decode cX24_same 26 = .ok (.aload_n 0, 1) := dk_42 (dk_at dksX24_same_1 3 rfl rfl)
theorem dX24_same_27 : decode cX24_same 27 = .ok (.getfield 88, 3) := dk_180 0 88 (dk_at dksX24_same_1 4 rfl rfl)
theorem dX24_same_30 : decode cX24_same 30 = .ok (.aload_n 0, 1) := dk_42 (dk_at dksX24_same_1 7 rfl rfl)
theorem dX24_same_31 : decode cX24_same 31 = .ok (.iload_n 1, 1) := dk_27 (dk_at dksX24_same_1 8 rfl rfl)
theorem dX24_same_32 : decode cX24_same 32 = .ok (.invokevirtual 225, 3) := dk_182 0 225 (dk_at dksX24_same_1 9 rfl rfl)
theorem dX24_same_35 : decode cX24_same 35 = .ok (.iaload, 1) := dk_46 (dk_at dksX24_same_1 12 rfl rfl)
theorem dX24_same_36 : decode cX24_same 36 = .ok (.aload_n 0, 1) := dk_42 (dk_at dksX24_same_1 13 rfl rfl)
theorem dX24_same_37 : decode cX24_same 37 = .ok (.getfield 88, 3) := dk_180 0 88 (dk_at dksX24_same_1 14 rfl rfl)
theorem dX24_same_40 : decode cX24_same 40 = .ok (.aload_n 0, 1) := dk_42 (dk_at dksX24_same_1 17 rfl rfl)
theorem dX24_same_41 : decode cX24_same 41 = .ok (.iload_n 2, 1) := dk_28 (dk_at dksX24_same_1 18 rfl rfl)
theorem dX24_same_42 : decode cX24_same 42 = .ok (.invokevirtual 225, 3) := dk_182 0 225 (dk_at dksX24_same_1 19 rfl rfl)
theorem dX24_same_45 : decode cX24_same 45 = .ok (.iaload, 1) := dk_46 (dk_at dksX24_same_1 22 rfl rfl)
theorem dX24_same_46 : decode cX24_same 46 = .ok (.if_icmp .eq 10, 3) := dk_159 0 10 (dk_at dksX24_same_2 0 rfl rfl)
theorem dX24_same_49 : decode cX24_same 49 = .ok (.aload_n 0, 1) := dk_42 (dk_at dksX24_same_2 3 rfl rfl)
theorem dX24_same_50 : decode cX24_same 50 = .ok (.bipush (-6), 2) := dk_16 250 (dk_at dksX24_same_2 4 rfl rfl)
theorem dX24_same_52 : decode cX24_same 52 = .ok (.invokevirtual 206, 3) := dk_182 0 206 (dk_at dksX24_same_2 6 rfl rfl)
theorem dX24_same_55 : decode cX24_same 55 = .ok (.ireturn, 1) := dk_172 (dk_at dksX24_same_2 9 rfl rfl)
theorem dX24_same_56 : decode cX24_same 56 = .ok (.aload_n 0, 1) := dk_42 (dk_at dksX24_same_2 10 rfl rfl)
theorem dX24_same_57 : decode cX24_same 57 = .ok (.iload_n 1, 1) := dk_27 (dk_at dksX24_same_2 11 rfl rfl)
theorem dX24_same_58 : decode cX24_same 58 = .ok (.iload_n 2, 1) := dk_28 (dk_at dksX24_same_2 12 rfl rfl)
theorem dX24_same_59 : decode cX24_same 59 = .ok (.invokevirtual 316, 3) := dk_182 1 60 (dk_at dksX24_same_2 13 rfl rfl)
theorem dX24_same_62 : decode cX24_same 62 = .ok (.aload_n 0, 1) := dk_42 (dk_at dksX24_same_2 16 rfl rfl)
theorem dX24_same_63 : decode cX24_same 63 = .ok (.iload_n 1, 1) := dk_27 (dk_at dksX24_same_2 17 rfl rfl)
theorem dX24_same_64 : decode cX24_same 64 = .ok (.invokevirtual 225, 3) := dk_182 0 225 (dk_at dksX24_same_2 18 rfl rfl)
theorem dX24_same_67 : decode cX24_same 67 = .ok (.ireturn, 1) := dk_172 (dk_at dksX24_same_2 21 rfl rfl)
abbrev cX24_merges : ByteArray := prog_53_method_26_code
def yX24_merges : MethodName := ⟨RX24, "merges", "(II)V"⟩
def dkwX24_merges_7 : List UInt8 := [167, 255, 134, 167, 255, 120, 177]
abbrev dktX24_merges_7 : List UInt8 := dkwX24_merges_7 ++ []
def dkwX24_merges_6 : List UInt8 := [42, 180, 0, 53, 29, 21, 4, 184, 0, 249, 29, 21, 4, 184, 0, 246, 79, 4, 54, 5, 132, 6, 1]
abbrev dktX24_merges_6 : List UInt8 := dkwX24_merges_6 ++ dktX24_merges_7
def dkwX24_merges_5 : List UInt8 := [42, 180, 0, 50, 21, 7, 46, 182, 0, 225, 62, 42, 42, 180, 0, 50, 21, 6, 46, 182, 0, 225, 54, 4]
abbrev dktX24_merges_5 : List UInt8 := dkwX24_merges_5 ++ dktX24_merges_6
def dkwX24_merges_4 : List UInt8 := [182, 0, 251, 54, 7, 21, 7, 21, 6, 160, 0, 6, 167, 0, 56, 42, 180, 0, 56, 21, 6, 4, 84, 42]
abbrev dktX24_merges_4 : List UInt8 := dkwX24_merges_4 ++ dktX24_merges_5
def dkwX24_merges_3 : List UInt8 := [21, 6, 46, 42, 180, 0, 41, 21, 6, 46, 42, 180, 0, 44, 21, 6, 46, 42, 180, 0, 47, 21, 6, 46]
abbrev dktX24_merges_3 : List UInt8 := dkwX24_merges_3 ++ dktX24_merges_4
def dkwX24_merges_2 : List UInt8 := [180, 0, 199, 162, 0, 119, 42, 180, 0, 56, 21, 6, 51, 153, 0, 6, 167, 0, 100, 42, 42, 180, 0, 38]
abbrev dktX24_merges_2 : List UInt8 := dkwX24_merges_2 ++ dktX24_merges_3
def dkwX24_merges_1 : List UInt8 := [21, 4, 184, 0, 246, 79, 4, 54, 5, 21, 5, 153, 0, 137, 3, 54, 5, 3, 54, 6, 21, 6, 42]
abbrev dktX24_merges_1 : List UInt8 := dkwX24_merges_1 ++ dktX24_merges_2
def dkwX24_merges_0 : List UInt8 := [42, 27, 182, 0, 225, 62, 42, 28, 182, 0, 225, 54, 4, 42, 180, 0, 53, 29, 21, 4, 184, 0, 249, 29]
abbrev dktX24_merges_0 : List UInt8 := dkwX24_merges_0 ++ dktX24_merges_1
theorem dksX24_merges_0 : cX24_merges.data.toList.drop 0 = dktX24_merges_0 := by decide +kernel
theorem dksX24_merges_1 : cX24_merges.data.toList.drop 24 = dktX24_merges_1 := dk_seg dksX24_merges_0 24 rfl rfl
theorem dksX24_merges_2 : cX24_merges.data.toList.drop 47 = dktX24_merges_2 := dk_seg dksX24_merges_1 23 rfl rfl
theorem dksX24_merges_3 : cX24_merges.data.toList.drop 71 = dktX24_merges_3 := dk_seg dksX24_merges_2 24 rfl rfl
theorem dksX24_merges_4 : cX24_merges.data.toList.drop 95 = dktX24_merges_4 := dk_seg dksX24_merges_3 24 rfl rfl
theorem dksX24_merges_5 : cX24_merges.data.toList.drop 119 = dktX24_merges_5 := dk_seg dksX24_merges_4 24 rfl rfl
theorem dksX24_merges_6 : cX24_merges.data.toList.drop 143 = dktX24_merges_6 := dk_seg dksX24_merges_5 24 rfl rfl
theorem dksX24_merges_7 : cX24_merges.data.toList.drop 166 = dktX24_merges_7 := dk_seg dksX24_merges_6 23 rfl rfl
theorem dX24_merges_0 : decode cX24_merges 0 = .ok (.aload_n 0, 1) := dk_42 (dk_at dksX24_merges_0 0 rfl rfl)
theorem dX24_merges_1 : decode cX24_merges 1 = .ok (.iload_n 1, 1) := dk_27 (dk_at dksX24_merges_0 1 rfl rfl)
theorem dX24_merges_2 : decode cX24_merges 2 = .ok (.invokevirtual 225, 3) := dk_182 0 225 (dk_at dksX24_merges_0 2 rfl rfl)
theorem dX24_merges_5 : decode cX24_merges 5 = .ok (.istore_n 3, 1) := dk_62 (dk_at dksX24_merges_0 5 rfl rfl)
theorem dX24_merges_6 : decode cX24_merges 6 = .ok (.aload_n 0, 1) := dk_42 (dk_at dksX24_merges_0 6 rfl rfl)
theorem dX24_merges_7 : decode cX24_merges 7 = .ok (.iload_n 2, 1) := dk_28 (dk_at dksX24_merges_0 7 rfl rfl)
theorem dX24_merges_8 : decode cX24_merges 8 = .ok (.invokevirtual 225, 3) := dk_182 0 225 (dk_at dksX24_merges_0 8 rfl rfl)
theorem dX24_merges_11 : decode cX24_merges 11 = .ok (.istore 4, 2) := dk_54 4 (dk_at dksX24_merges_0 11 rfl rfl)
theorem dX24_merges_13 : decode cX24_merges 13 = .ok (.aload_n 0, 1) := dk_42 (dk_at dksX24_merges_0 13 rfl rfl)
theorem dX24_merges_14 : decode cX24_merges 14 = .ok (.getfield 53, 3) := dk_180 0 53 (dk_at dksX24_merges_0 14 rfl rfl)
theorem dX24_merges_17 : decode cX24_merges 17 = .ok (.iload_n 3, 1) := dk_29 (dk_at dksX24_merges_0 17 rfl rfl)
theorem dX24_merges_18 : decode cX24_merges 18 = .ok (.iload 4, 2) := dk_21 4 (dk_at dksX24_merges_0 18 rfl rfl)
theorem dX24_merges_20 : decode cX24_merges 20 = .ok (.invokestatic 249, 3) := dk_184 0 249 (dk_at dksX24_merges_0 20 rfl rfl)
theorem dX24_merges_23 : decode cX24_merges 23 = .ok (.iload_n 3, 1) := dk_29 (dk_at dksX24_merges_0 23 rfl rfl)
theorem dX24_merges_24 : decode cX24_merges 24 = .ok (.iload 4, 2) := dk_21 4 (dk_at dksX24_merges_1 0 rfl rfl)
theorem dX24_merges_26 : decode cX24_merges 26 = .ok (.invokestatic 246, 3) := dk_184 0 246 (dk_at dksX24_merges_1 2 rfl rfl)
theorem dX24_merges_29 : decode cX24_merges 29 = .ok (.iastore, 1) := dk_79 (dk_at dksX24_merges_1 5 rfl rfl)
theorem dX24_merges_30 : decode cX24_merges 30 = .ok (.iconst 1, 1) := dk_4 (dk_at dksX24_merges_1 6 rfl rfl)
theorem dX24_merges_31 : decode cX24_merges 31 = .ok (.istore 5, 2) := dk_54 5 (dk_at dksX24_merges_1 7 rfl rfl)
theorem dX24_merges_33 : decode cX24_merges 33 = .ok (.iload 5, 2) := dk_21 5 (dk_at dksX24_merges_1 9 rfl rfl)
theorem dX24_merges_35 : decode cX24_merges 35 = .ok (.ifCond .eq 137, 3) := dk_153 0 137 (dk_at dksX24_merges_1 11 rfl rfl)
theorem dX24_merges_38 : decode cX24_merges 38 = .ok (.iconst 0, 1) := dk_3 (dk_at dksX24_merges_1 14 rfl rfl)
theorem dX24_merges_39 : decode cX24_merges 39 = .ok (.istore 5, 2) := dk_54 5 (dk_at dksX24_merges_1 15 rfl rfl)
theorem dX24_merges_41 : decode cX24_merges 41 = .ok (.iconst 0, 1) := dk_3 (dk_at dksX24_merges_1 17 rfl rfl)
theorem dX24_merges_42 : decode cX24_merges 42 = .ok (.istore 6, 2) := dk_54 6 (dk_at dksX24_merges_1 18 rfl rfl)
theorem dX24_merges_44 : decode cX24_merges 44 = .ok (.iload 6, 2) := dk_21 6 (dk_at dksX24_merges_1 20 rfl rfl)
theorem dX24_merges_46 : decode cX24_merges 46 = .ok (.aload_n 0, 1) := dk_42 (dk_at dksX24_merges_1 22 rfl rfl)
theorem dX24_merges_47 : decode cX24_merges 47 = .ok (.getfield 199, 3) := dk_180 0 199 (dk_at dksX24_merges_2 0 rfl rfl)
theorem dX24_merges_50 : decode cX24_merges 50 = .ok (.if_icmp .ge 119, 3) := dk_162 0 119 (dk_at dksX24_merges_2 3 rfl rfl)
theorem dX24_merges_53 : decode cX24_merges 53 = .ok (.aload_n 0, 1) := dk_42 (dk_at dksX24_merges_2 6 rfl rfl)
theorem dX24_merges_54 : decode cX24_merges 54 = .ok (.getfield 56, 3) := dk_180 0 56 (dk_at dksX24_merges_2 7 rfl rfl)
theorem dX24_merges_57 : decode cX24_merges 57 = .ok (.iload 6, 2) := dk_21 6 (dk_at dksX24_merges_2 10 rfl rfl)
theorem dX24_merges_59 : decode cX24_merges 59 = .ok (.baload, 1) := dk_51 (dk_at dksX24_merges_2 12 rfl rfl)
theorem dX24_merges_60 : decode cX24_merges 60 = .ok (.ifCond .eq 6, 3) := dk_153 0 6 (dk_at dksX24_merges_2 13 rfl rfl)
theorem dX24_merges_63 : decode cX24_merges 63 = .ok (.goto 100, 3) := dk_167 0 100 (dk_at dksX24_merges_2 16 rfl rfl)
theorem dX24_merges_66 : decode cX24_merges 66 = .ok (.aload_n 0, 1) := dk_42 (dk_at dksX24_merges_2 19 rfl rfl)
theorem dX24_merges_67 : decode cX24_merges 67 = .ok (.aload_n 0, 1) := dk_42 (dk_at dksX24_merges_2 20 rfl rfl)
theorem dX24_merges_68 : decode cX24_merges 68 = .ok (.getfield 38, 3) := dk_180 0 38 (dk_at dksX24_merges_2 21 rfl rfl)
theorem dX24_merges_71 : decode cX24_merges 71 = .ok (.iload 6, 2) := dk_21 6 (dk_at dksX24_merges_3 0 rfl rfl)
theorem dX24_merges_73 : decode cX24_merges 73 = .ok (.iaload, 1) := dk_46 (dk_at dksX24_merges_3 2 rfl rfl)
theorem dX24_merges_74 : decode cX24_merges 74 = .ok (.aload_n 0, 1) := dk_42 (dk_at dksX24_merges_3 3 rfl rfl)
theorem dX24_merges_75 : decode cX24_merges 75 = .ok (.getfield 41, 3) := dk_180 0 41 (dk_at dksX24_merges_3 4 rfl rfl)
theorem dX24_merges_78 : decode cX24_merges 78 = .ok (.iload 6, 2) := dk_21 6 (dk_at dksX24_merges_3 7 rfl rfl)
theorem dX24_merges_80 : decode cX24_merges 80 = .ok (.iaload, 1) := dk_46 (dk_at dksX24_merges_3 9 rfl rfl)
theorem dX24_merges_81 : decode cX24_merges 81 = .ok (.aload_n 0, 1) := dk_42 (dk_at dksX24_merges_3 10 rfl rfl)
theorem dX24_merges_82 : decode cX24_merges 82 = .ok (.getfield 44, 3) := dk_180 0 44 (dk_at dksX24_merges_3 11 rfl rfl)
theorem dX24_merges_85 : decode cX24_merges 85 = .ok (.iload 6, 2) := dk_21 6 (dk_at dksX24_merges_3 14 rfl rfl)
theorem dX24_merges_87 : decode cX24_merges 87 = .ok (.iaload, 1) := dk_46 (dk_at dksX24_merges_3 16 rfl rfl)
theorem dX24_merges_88 : decode cX24_merges 88 = .ok (.aload_n 0, 1) := dk_42 (dk_at dksX24_merges_3 17 rfl rfl)
theorem dX24_merges_89 : decode cX24_merges 89 = .ok (.getfield 47, 3) := dk_180 0 47 (dk_at dksX24_merges_3 18 rfl rfl)
theorem dX24_merges_92 : decode cX24_merges 92 = .ok (.iload 6, 2) := dk_21 6 (dk_at dksX24_merges_3 21 rfl rfl)
theorem dX24_merges_94 : decode cX24_merges 94 = .ok (.iaload, 1) := dk_46 (dk_at dksX24_merges_3 23 rfl rfl)
theorem dX24_merges_95 : decode cX24_merges 95 = .ok (.invokevirtual 251, 3) := dk_182 0 251 (dk_at dksX24_merges_4 0 rfl rfl)
theorem dX24_merges_98 : decode cX24_merges 98 = .ok (.istore 7, 2) := dk_54 7 (dk_at dksX24_merges_4 3 rfl rfl)
theorem dX24_merges_100 : decode cX24_merges 100 = .ok (.iload 7, 2) := dk_21 7 (dk_at dksX24_merges_4 5 rfl rfl)
theorem dX24_merges_102 : decode cX24_merges 102 = .ok (.iload 6, 2) := dk_21 6 (dk_at dksX24_merges_4 7 rfl rfl)
theorem dX24_merges_104 : decode cX24_merges 104 = .ok (.if_icmp .ne 6, 3) := dk_160 0 6 (dk_at dksX24_merges_4 9 rfl rfl)
theorem dX24_merges_107 : decode cX24_merges 107 = .ok (.goto 56, 3) := dk_167 0 56 (dk_at dksX24_merges_4 12 rfl rfl)
theorem dX24_merges_110 : decode cX24_merges 110 = .ok (.aload_n 0, 1) := dk_42 (dk_at dksX24_merges_4 15 rfl rfl)
theorem dX24_merges_111 : decode cX24_merges 111 = .ok (.getfield 56, 3) := dk_180 0 56 (dk_at dksX24_merges_4 16 rfl rfl)
theorem dX24_merges_114 : decode cX24_merges 114 = .ok (.iload 6, 2) := dk_21 6 (dk_at dksX24_merges_4 19 rfl rfl)
theorem dX24_merges_116 : decode cX24_merges 116 = .ok (.iconst 1, 1) := dk_4 (dk_at dksX24_merges_4 21 rfl rfl)
theorem dX24_merges_117 : decode cX24_merges 117 = .ok (.bastore, 1) := dk_84 (dk_at dksX24_merges_4 22 rfl rfl)
theorem dX24_merges_118 : decode cX24_merges 118 = .ok (.aload_n 0, 1) := dk_42 (dk_at dksX24_merges_4 23 rfl rfl)
theorem dX24_merges_119 : decode cX24_merges 119 = .ok (.aload_n 0, 1) := dk_42 (dk_at dksX24_merges_5 0 rfl rfl)
theorem dX24_merges_120 : decode cX24_merges 120 = .ok (.getfield 50, 3) := dk_180 0 50 (dk_at dksX24_merges_5 1 rfl rfl)
theorem dX24_merges_123 : decode cX24_merges 123 = .ok (.iload 7, 2) := dk_21 7 (dk_at dksX24_merges_5 4 rfl rfl)
theorem dX24_merges_125 : decode cX24_merges 125 = .ok (.iaload, 1) := dk_46 (dk_at dksX24_merges_5 6 rfl rfl)
theorem dX24_merges_126 : decode cX24_merges 126 = .ok (.invokevirtual 225, 3) := dk_182 0 225 (dk_at dksX24_merges_5 7 rfl rfl)
theorem dX24_merges_129 : decode cX24_merges 129 = .ok (.istore_n 3, 1) := dk_62 (dk_at dksX24_merges_5 10 rfl rfl)
theorem dX24_merges_130 : decode cX24_merges 130 = .ok (.aload_n 0, 1) := dk_42 (dk_at dksX24_merges_5 11 rfl rfl)
theorem dX24_merges_131 : decode cX24_merges 131 = .ok (.aload_n 0, 1) := dk_42 (dk_at dksX24_merges_5 12 rfl rfl)
theorem dX24_merges_132 : decode cX24_merges 132 = .ok (.getfield 50, 3) := dk_180 0 50 (dk_at dksX24_merges_5 13 rfl rfl)
theorem dX24_merges_135 : decode cX24_merges 135 = .ok (.iload 6, 2) := dk_21 6 (dk_at dksX24_merges_5 16 rfl rfl)
theorem dX24_merges_137 : decode cX24_merges 137 = .ok (.iaload, 1) := dk_46 (dk_at dksX24_merges_5 18 rfl rfl)
theorem dX24_merges_138 : decode cX24_merges 138 = .ok (.invokevirtual 225, 3) := dk_182 0 225 (dk_at dksX24_merges_5 19 rfl rfl)
theorem dX24_merges_141 : decode cX24_merges 141 = .ok (.istore 4, 2) := dk_54 4 (dk_at dksX24_merges_5 22 rfl rfl)
theorem dX24_merges_143 : decode cX24_merges 143 = .ok (.aload_n 0, 1) := dk_42 (dk_at dksX24_merges_6 0 rfl rfl)
theorem dX24_merges_144 : decode cX24_merges 144 = .ok (.getfield 53, 3) := dk_180 0 53 (dk_at dksX24_merges_6 1 rfl rfl)
theorem dX24_merges_147 : decode cX24_merges 147 = .ok (.iload_n 3, 1) := dk_29 (dk_at dksX24_merges_6 4 rfl rfl)
theorem dX24_merges_148 : decode cX24_merges 148 = .ok (.iload 4, 2) := dk_21 4 (dk_at dksX24_merges_6 5 rfl rfl)
theorem dX24_merges_150 : decode cX24_merges 150 = .ok (.invokestatic 249, 3) := dk_184 0 249 (dk_at dksX24_merges_6 7 rfl rfl)
theorem dX24_merges_153 : decode cX24_merges 153 = .ok (.iload_n 3, 1) := dk_29 (dk_at dksX24_merges_6 10 rfl rfl)
theorem dX24_merges_154 : decode cX24_merges 154 = .ok (.iload 4, 2) := dk_21 4 (dk_at dksX24_merges_6 11 rfl rfl)
theorem dX24_merges_156 : decode cX24_merges 156 = .ok (.invokestatic 246, 3) := dk_184 0 246 (dk_at dksX24_merges_6 13 rfl rfl)
theorem dX24_merges_159 : decode cX24_merges 159 = .ok (.iastore, 1) := dk_79 (dk_at dksX24_merges_6 16 rfl rfl)
theorem dX24_merges_160 : decode cX24_merges 160 = .ok (.iconst 1, 1) := dk_4 (dk_at dksX24_merges_6 17 rfl rfl)
theorem dX24_merges_161 : decode cX24_merges 161 = .ok (.istore 5, 2) := dk_54 5 (dk_at dksX24_merges_6 18 rfl rfl)
theorem dX24_merges_163 : decode cX24_merges 163 = .ok (.iinc 6 1, 3) := dk_132 6 1 (dk_at dksX24_merges_6 20 rfl rfl)
theorem dX24_merges_166 : decode cX24_merges 166 = .ok (.goto (-122), 3) := dk_167 255 134 (dk_at dksX24_merges_7 0 rfl rfl)
theorem dX24_merges_169 : decode cX24_merges 169 = .ok (.goto (-136), 3) := dk_167 255 120 (dk_at dksX24_merges_7 3 rfl rfl)
theorem dX24_merges_172 : decode cX24_merges 172 = .ok (.return_, 1) := dk_177 (dk_at dksX24_merges_7 6 rfl rfl)
abbrev cX24_groupOf : ByteArray := prog_53_method_42_code
def yX24_groupOf : MethodName := ⟨RX24, "groupOf", "(I)I"⟩
def dkwX24_groupOf_0 : List UInt8 := [42, 27, 182, 1, 12, 153, 0, 11, 42, 27, 182, 0, 225, 167, 0, 8, 42, 2, 182, 0, 206, 172]
abbrev dktX24_groupOf_0 : List UInt8 := dkwX24_groupOf_0 ++ []
theorem dksX24_groupOf_0 : cX24_groupOf.data.toList.drop 0 = dktX24_groupOf_0 := by decide +kernel
theorem dX24_groupOf_0 : decode cX24_groupOf 0 = .ok (.aload_n 0, 1) := dk_42 (dk_at dksX24_groupOf_0 0 rfl rfl)
theorem dX24_groupOf_1 : decode cX24_groupOf 1 = .ok (.iload_n 1, 1) := dk_27 (dk_at dksX24_groupOf_0 1 rfl rfl)
theorem dX24_groupOf_2 : decode cX24_groupOf 2 = .ok (.invokevirtual 268, 3) := dk_182 1 12 (dk_at dksX24_groupOf_0 2 rfl rfl)
theorem dX24_groupOf_5 : decode cX24_groupOf 5 = .ok (.ifCond .eq 11, 3) := dk_153 0 11 (dk_at dksX24_groupOf_0 5 rfl rfl)
theorem dX24_groupOf_8 : decode cX24_groupOf 8 = .ok (.aload_n 0, 1) := dk_42 (dk_at dksX24_groupOf_0 8 rfl rfl)
theorem dX24_groupOf_9 : decode cX24_groupOf 9 = .ok (.iload_n 1, 1) := dk_27 (dk_at dksX24_groupOf_0 9 rfl rfl)
theorem dX24_groupOf_10 : decode cX24_groupOf 10 = .ok (.invokevirtual 225, 3) := dk_182 0 225 (dk_at dksX24_groupOf_0 10 rfl rfl)
theorem dX24_groupOf_13 : decode cX24_groupOf 13 = .ok (.goto 8, 3) := dk_167 0 8 (dk_at dksX24_groupOf_0 13 rfl rfl)
theorem dX24_groupOf_16 : decode cX24_groupOf 16 = .ok (.aload_n 0, 1) := dk_42 (dk_at dksX24_groupOf_0 16 rfl rfl)
theorem dX24_groupOf_17 : decode cX24_groupOf 17 = .ok (.iconst (-1), 1) := dk_2 (dk_at dksX24_groupOf_0 17 rfl rfl)
theorem dX24_groupOf_18 : decode cX24_groupOf 18 = .ok (.invokevirtual 206, 3) := dk_182 0 206 (dk_at dksX24_groupOf_0 18 rfl rfl)
theorem dX24_groupOf_21 : decode cX24_groupOf 21 = .ok (.ireturn, 1) := dk_172 (dk_at dksX24_groupOf_0 21 rfl rfl)
abbrev cX24_group : ByteArray := prog_53_method_43_code
def yX24_group : MethodName := ⟨RX24, "group", "(II)I"⟩
def dkwX24_group_8 : List UInt8 := [153, 0, 7, 4, 167, 0, 4, 3, 96, 54, 4, 132, 5, 1, 167, 255, 130, 21, 4, 172]
abbrev dktX24_group_8 : List UInt8 := dkwX24_group_8 ++ []
def dkwX24_group_7 : List UInt8 := [42, 180, 0, 50, 21, 5, 46, 182, 0, 225, 29, 160, 0, 7, 4, 167, 0, 17, 3, 167, 0, 13, 21, 6]
abbrev dktX24_group_7 : List UInt8 := dkwX24_group_7 ++ dktX24_group_8
def dkwX24_group_6 : List UInt8 := [21, 5, 46, 182, 0, 225, 29, 160, 0, 7, 4, 167, 0, 4, 3, 54, 6, 21, 4, 28, 154, 0, 26, 42]
abbrev dktX24_group_6 : List UInt8 := dkwX24_group_6 ++ dktX24_group_7
def dkwX24_group_5 : List UInt8 := [182, 0, 225, 29, 159, 0, 29, 42, 180, 0, 38, 21, 5, 46, 8, 161, 0, 22, 42, 42, 180, 0, 47]
abbrev dktX24_group_5 : List UInt8 := dkwX24_group_5 ++ dktX24_group_6
def dkwX24_group_4 : List UInt8 := [167, 0, 104, 42, 180, 0, 38, 21, 5, 46, 4, 159, 0, 18, 42, 42, 180, 0, 44, 21, 5, 46]
abbrev dktX24_group_4 : List UInt8 := dkwX24_group_4 ++ dktX24_group_5
def dkwX24_group_3 : List UInt8 := [54, 4, 3, 54, 5, 21, 5, 42, 180, 0, 199, 162, 0, 123, 42, 180, 0, 56, 21, 5, 51, 153, 0, 6]
abbrev dktX24_group_3 : List UInt8 := dkwX24_group_3 ++ dktX24_group_4
def dkwX24_group_2 : List UInt8 := [5, 160, 0, 10, 42, 180, 0, 88, 29, 46, 172, 28, 6, 160, 0, 10, 42, 180, 0, 91, 29, 46, 172, 3]
abbrev dktX24_group_2 : List UInt8 := dkwX24_group_2 ++ dktX24_group_3
def dkwX24_group_1 : List UInt8 := [172, 42, 182, 1, 3, 42, 27, 182, 0, 225, 62, 28, 4, 160, 0, 10, 42, 180, 0, 85, 29, 46, 172, 28]
abbrev dktX24_group_1 : List UInt8 := dkwX24_group_1 ++ dktX24_group_2
def dkwX24_group_0 : List UInt8 := [42, 27, 182, 1, 12, 153, 0, 13, 42, 28, 3, 7, 182, 0, 217, 154, 0, 10, 42, 16, 251, 182, 0, 206]
abbrev dktX24_group_0 : List UInt8 := dkwX24_group_0 ++ dktX24_group_1
theorem dksX24_group_0 : cX24_group.data.toList.drop 0 = dktX24_group_0 := by decide +kernel
theorem dksX24_group_1 : cX24_group.data.toList.drop 24 = dktX24_group_1 := dk_seg dksX24_group_0 24 rfl rfl
theorem dksX24_group_2 : cX24_group.data.toList.drop 48 = dktX24_group_2 := dk_seg dksX24_group_1 24 rfl rfl
theorem dksX24_group_3 : cX24_group.data.toList.drop 72 = dktX24_group_3 := dk_seg dksX24_group_2 24 rfl rfl
theorem dksX24_group_4 : cX24_group.data.toList.drop 96 = dktX24_group_4 := dk_seg dksX24_group_3 24 rfl rfl
theorem dksX24_group_5 : cX24_group.data.toList.drop 118 = dktX24_group_5 := dk_seg dksX24_group_4 22 rfl rfl
theorem dksX24_group_6 : cX24_group.data.toList.drop 141 = dktX24_group_6 := dk_seg dksX24_group_5 23 rfl rfl
theorem dksX24_group_7 : cX24_group.data.toList.drop 165 = dktX24_group_7 := dk_seg dksX24_group_6 24 rfl rfl
theorem dksX24_group_8 : cX24_group.data.toList.drop 189 = dktX24_group_8 := dk_seg dksX24_group_7 24 rfl rfl
theorem dX24_group_0 : decode cX24_group 0 = .ok (.aload_n 0, 1) := dk_42 (dk_at dksX24_group_0 0 rfl rfl)
theorem dX24_group_1 : decode cX24_group 1 = .ok (.iload_n 1, 1) := dk_27 (dk_at dksX24_group_0 1 rfl rfl)
theorem dX24_group_2 : decode cX24_group 2 = .ok (.invokevirtual 268, 3) := dk_182 1 12 (dk_at dksX24_group_0 2 rfl rfl)
theorem dX24_group_5 : decode cX24_group 5 = .ok (.ifCond .eq 13, 3) := dk_153 0 13 (dk_at dksX24_group_0 5 rfl rfl)
theorem dX24_group_8 : decode cX24_group 8 = .ok (.aload_n 0, 1) := dk_42 (dk_at dksX24_group_0 8 rfl rfl)
theorem dX24_group_9 : decode cX24_group 9 = .ok (.iload_n 2, 1) := dk_28 (dk_at dksX24_group_0 9 rfl rfl)
theorem dX24_group_10 : decode cX24_group 10 = .ok (.iconst 0, 1) := dk_3 (dk_at dksX24_group_0 10 rfl rfl)
theorem dX24_group_11 : decode cX24_group 11 = .ok (.iconst 4, 1) := dk_7 (dk_at dksX24_group_0 11 rfl rfl)
theorem dX24_group_12 : decode cX24_group 12 = .ok (.invokevirtual 217, 3) := dk_182 0 217 (dk_at dksX24_group_0 12 rfl rfl)
theorem dX24_group_15 : decode cX24_group 15 = .ok (.ifCond .ne 10, 3) := dk_154 0 10 (dk_at dksX24_group_0 15 rfl rfl)
theorem dX24_group_18 : decode cX24_group 18 = .ok (.aload_n 0, 1) := dk_42 (dk_at dksX24_group_0 18 rfl rfl)
theorem dX24_group_19 : decode cX24_group 19 = .ok (.bipush (-5), 2) := dk_16 251 (dk_at dksX24_group_0 19 rfl rfl)
theorem dX24_group_21 : decode cX24_group 21 = .ok (.invokevirtual 206, 3) := dk_182 0 206 (dk_at dksX24_group_0 21 rfl rfl)
theorem dX24_group_24 : decode cX24_group 24 = .ok (.ireturn, 1) := dk_172 (dk_at dksX24_group_1 0 rfl rfl)
theorem dX24_group_25 : decode cX24_group 25 = .ok (.aload_n 0, 1) := dk_42 (dk_at dksX24_group_1 1 rfl rfl)
theorem dX24_group_26 : decode cX24_group 26 = .ok (.invokevirtual 259, 3) := dk_182 1 3 (dk_at dksX24_group_1 2 rfl rfl)
theorem dX24_group_29 : decode cX24_group 29 = .ok (.aload_n 0, 1) := dk_42 (dk_at dksX24_group_1 5 rfl rfl)
theorem dX24_group_30 : decode cX24_group 30 = .ok (.iload_n 1, 1) := dk_27 (dk_at dksX24_group_1 6 rfl rfl)
theorem dX24_group_31 : decode cX24_group 31 = .ok (.invokevirtual 225, 3) := dk_182 0 225 (dk_at dksX24_group_1 7 rfl rfl)
theorem dX24_group_34 : decode cX24_group 34 = .ok (.istore_n 3, 1) := dk_62 (dk_at dksX24_group_1 10 rfl rfl)
theorem dX24_group_35 : decode cX24_group 35 = .ok (.iload_n 2, 1) := dk_28 (dk_at dksX24_group_1 11 rfl rfl)
theorem dX24_group_36 : decode cX24_group 36 = .ok (.iconst 1, 1) := dk_4 (dk_at dksX24_group_1 12 rfl rfl)
theorem dX24_group_37 : decode cX24_group 37 = .ok (.if_icmp .ne 10, 3) := dk_160 0 10 (dk_at dksX24_group_1 13 rfl rfl)
theorem dX24_group_40 : decode cX24_group 40 = .ok (.aload_n 0, 1) := dk_42 (dk_at dksX24_group_1 16 rfl rfl)
theorem dX24_group_41 : decode cX24_group 41 = .ok (.getfield 85, 3) := dk_180 0 85 (dk_at dksX24_group_1 17 rfl rfl)
theorem dX24_group_44 : decode cX24_group 44 = .ok (.iload_n 3, 1) := dk_29 (dk_at dksX24_group_1 20 rfl rfl)
theorem dX24_group_45 : decode cX24_group 45 = .ok (.iaload, 1) := dk_46 (dk_at dksX24_group_1 21 rfl rfl)
theorem dX24_group_46 : decode cX24_group 46 = .ok (.ireturn, 1) := dk_172 (dk_at dksX24_group_1 22 rfl rfl)
theorem dX24_group_47 : decode cX24_group 47 = .ok (.iload_n 2, 1) := dk_28 (dk_at dksX24_group_1 23 rfl rfl)
theorem dX24_group_48 : decode cX24_group 48 = .ok (.iconst 2, 1) := dk_5 (dk_at dksX24_group_2 0 rfl rfl)
theorem dX24_group_49 : decode cX24_group 49 = .ok (.if_icmp .ne 10, 3) := dk_160 0 10 (dk_at dksX24_group_2 1 rfl rfl)
theorem dX24_group_52 : decode cX24_group 52 = .ok (.aload_n 0, 1) := dk_42 (dk_at dksX24_group_2 4 rfl rfl)
theorem dX24_group_53 : decode cX24_group 53 = .ok (.getfield 88, 3) := dk_180 0 88 (dk_at dksX24_group_2 5 rfl rfl)
theorem dX24_group_56 : decode cX24_group 56 = .ok (.iload_n 3, 1) := dk_29 (dk_at dksX24_group_2 8 rfl rfl)
theorem dX24_group_57 : decode cX24_group 57 = .ok (.iaload, 1) := dk_46 (dk_at dksX24_group_2 9 rfl rfl)
theorem dX24_group_58 : decode cX24_group 58 = .ok (.ireturn, 1) := dk_172 (dk_at dksX24_group_2 10 rfl rfl)
theorem dX24_group_59 : decode cX24_group 59 = .ok (.iload_n 2, 1) := dk_28 (dk_at dksX24_group_2 11 rfl rfl)
theorem dX24_group_60 : decode cX24_group 60 = .ok (.iconst 3, 1) := dk_6 (dk_at dksX24_group_2 12 rfl rfl)
theorem dX24_group_61 : decode cX24_group 61 = .ok (.if_icmp .ne 10, 3) := dk_160 0 10 (dk_at dksX24_group_2 13 rfl rfl)
theorem dX24_group_64 : decode cX24_group 64 = .ok (.aload_n 0, 1) := dk_42 (dk_at dksX24_group_2 16 rfl rfl)
theorem dX24_group_65 : decode cX24_group 65 = .ok (.getfield 91, 3) := dk_180 0 91 (dk_at dksX24_group_2 17 rfl rfl)
theorem dX24_group_68 : decode cX24_group 68 = .ok (.iload_n 3, 1) := dk_29 (dk_at dksX24_group_2 20 rfl rfl)
theorem dX24_group_69 : decode cX24_group 69 = .ok (.iaload, 1) := dk_46 (dk_at dksX24_group_2 21 rfl rfl)
theorem dX24_group_70 : decode cX24_group 70 = .ok (.ireturn, 1) := dk_172 (dk_at dksX24_group_2 22 rfl rfl)
theorem dX24_group_71 : decode cX24_group 71 = .ok (.iconst 0, 1) := dk_3 (dk_at dksX24_group_2 23 rfl rfl)
theorem dX24_group_72 : decode cX24_group 72 = .ok (.istore 4, 2) := dk_54 4 (dk_at dksX24_group_3 0 rfl rfl)
theorem dX24_group_74 : decode cX24_group 74 = .ok (.iconst 0, 1) := dk_3 (dk_at dksX24_group_3 2 rfl rfl)
theorem dX24_group_75 : decode cX24_group 75 = .ok (.istore 5, 2) := dk_54 5 (dk_at dksX24_group_3 3 rfl rfl)
theorem dX24_group_77 : decode cX24_group 77 = .ok (.iload 5, 2) := dk_21 5 (dk_at dksX24_group_3 5 rfl rfl)
theorem dX24_group_79 : decode cX24_group 79 = .ok (.aload_n 0, 1) := dk_42 (dk_at dksX24_group_3 7 rfl rfl)
theorem dX24_group_80 : decode cX24_group 80 = .ok (.getfield 199, 3) := dk_180 0 199 (dk_at dksX24_group_3 8 rfl rfl)
theorem dX24_group_83 : decode cX24_group 83 = .ok (.if_icmp .ge 123, 3) := dk_162 0 123 (dk_at dksX24_group_3 11 rfl rfl)
theorem dX24_group_86 : decode cX24_group 86 = .ok (.aload_n 0, 1) := dk_42 (dk_at dksX24_group_3 14 rfl rfl)
theorem dX24_group_87 : decode cX24_group 87 = .ok (.getfield 56, 3) := dk_180 0 56 (dk_at dksX24_group_3 15 rfl rfl)
theorem dX24_group_90 : decode cX24_group 90 = .ok (.iload 5, 2) := dk_21 5 (dk_at dksX24_group_3 18 rfl rfl)
theorem dX24_group_92 : decode cX24_group 92 = .ok (.baload, 1) := dk_51 (dk_at dksX24_group_3 20 rfl rfl)
theorem dX24_group_93 : decode cX24_group 93 = .ok (.ifCond .eq 6, 3) := dk_153 0 6 (dk_at dksX24_group_3 21 rfl rfl)
theorem dX24_group_96 : decode cX24_group 96 = .ok (.goto 104, 3) := dk_167 0 104 (dk_at dksX24_group_4 0 rfl rfl)
theorem dX24_group_99 : decode cX24_group 99 = .ok (.aload_n 0, 1) := dk_42 (dk_at dksX24_group_4 3 rfl rfl)
theorem dX24_group_100 : decode cX24_group 100 = .ok (.getfield 38, 3) := dk_180 0 38 (dk_at dksX24_group_4 4 rfl rfl)
theorem dX24_group_103 : decode cX24_group 103 = .ok (.iload 5, 2) := dk_21 5 (dk_at dksX24_group_4 7 rfl rfl)
theorem dX24_group_105 : decode cX24_group 105 = .ok (.iaload, 1) := dk_46 (dk_at dksX24_group_4 9 rfl rfl)
theorem dX24_group_106 : decode cX24_group 106 = .ok (.iconst 1, 1) := dk_4 (dk_at dksX24_group_4 10 rfl rfl)
theorem dX24_group_107 : decode cX24_group 107 = .ok (.if_icmp .eq 18, 3) := dk_159 0 18 (dk_at dksX24_group_4 11 rfl rfl)
theorem dX24_group_110 : decode cX24_group 110 = .ok (.aload_n 0, 1) := dk_42 (dk_at dksX24_group_4 14 rfl rfl)
theorem dX24_group_111 : decode cX24_group 111 = .ok (.aload_n 0, 1) := dk_42 (dk_at dksX24_group_4 15 rfl rfl)
theorem dX24_group_112 : decode cX24_group 112 = .ok (.getfield 44, 3) := dk_180 0 44 (dk_at dksX24_group_4 16 rfl rfl)
theorem dX24_group_115 : decode cX24_group 115 = .ok (.iload 5, 2) := dk_21 5 (dk_at dksX24_group_4 19 rfl rfl)
theorem dX24_group_117 : decode cX24_group 117 = .ok (.iaload, 1) := dk_46 (dk_at dksX24_group_4 21 rfl rfl)
theorem dX24_group_118 : decode cX24_group 118 = .ok (.invokevirtual 225, 3) := dk_182 0 225 (dk_at dksX24_group_5 0 rfl rfl)
theorem dX24_group_121 : decode cX24_group 121 = .ok (.iload_n 3, 1) := dk_29 (dk_at dksX24_group_5 3 rfl rfl)
theorem dX24_group_122 : decode cX24_group 122 = .ok (.if_icmp .eq 29, 3) := dk_159 0 29 (dk_at dksX24_group_5 4 rfl rfl)
theorem dX24_group_125 : decode cX24_group 125 = .ok (.aload_n 0, 1) := dk_42 (dk_at dksX24_group_5 7 rfl rfl)
theorem dX24_group_126 : decode cX24_group 126 = .ok (.getfield 38, 3) := dk_180 0 38 (dk_at dksX24_group_5 8 rfl rfl)
theorem dX24_group_129 : decode cX24_group 129 = .ok (.iload 5, 2) := dk_21 5 (dk_at dksX24_group_5 11 rfl rfl)
theorem dX24_group_131 : decode cX24_group 131 = .ok (.iaload, 1) := dk_46 (dk_at dksX24_group_5 13 rfl rfl)
theorem dX24_group_132 : decode cX24_group 132 = .ok (.iconst 5, 1) := dk_8 (dk_at dksX24_group_5 14 rfl rfl)
theorem dX24_group_133 : decode cX24_group 133 = .ok (.if_icmp .lt 22, 3) := dk_161 0 22 (dk_at dksX24_group_5 15 rfl rfl)
theorem dX24_group_136 : decode cX24_group 136 = .ok (.aload_n 0, 1) := dk_42 (dk_at dksX24_group_5 18 rfl rfl)
theorem dX24_group_137 : decode cX24_group 137 = .ok (.aload_n 0, 1) := dk_42 (dk_at dksX24_group_5 19 rfl rfl)
theorem dX24_group_138 : decode cX24_group 138 = .ok (.getfield 47, 3) := dk_180 0 47 (dk_at dksX24_group_5 20 rfl rfl)
theorem dX24_group_141 : decode cX24_group 141 = .ok (.iload 5, 2) := dk_21 5 (dk_at dksX24_group_6 0 rfl rfl)
theorem dX24_group_143 : decode cX24_group 143 = .ok (.iaload, 1) := dk_46 (dk_at dksX24_group_6 2 rfl rfl)
theorem dX24_group_144 : decode cX24_group 144 = .ok (.invokevirtual 225, 3) := dk_182 0 225 (dk_at dksX24_group_6 3 rfl rfl)
theorem dX24_group_147 : decode cX24_group 147 = .ok (.iload_n 3, 1) := dk_29 (dk_at dksX24_group_6 6 rfl rfl)
theorem dX24_group_148 : decode cX24_group 148 = .ok (.if_icmp .ne 7, 3) := dk_160 0 7 (dk_at dksX24_group_6 7 rfl rfl)
theorem dX24_group_151 : decode cX24_group 151 = .ok (.iconst 1, 1) := dk_4 (dk_at dksX24_group_6 10 rfl rfl)
theorem dX24_group_152 : decode cX24_group 152 = .ok (.goto 4, 3) := dk_167 0 4 (dk_at dksX24_group_6 11 rfl rfl)
theorem dX24_group_155 : decode cX24_group 155 = .ok (.iconst 0, 1) := dk_3 (dk_at dksX24_group_6 14 rfl rfl)
theorem dX24_group_156 : decode cX24_group 156 = .ok (.istore 6, 2) := dk_54 6 (dk_at dksX24_group_6 15 rfl rfl)
theorem dX24_group_158 : decode cX24_group 158 = .ok (.iload 4, 2) := dk_21 4 (dk_at dksX24_group_6 17 rfl rfl)
theorem dX24_group_160 : decode cX24_group 160 = .ok (.iload_n 2, 1) := dk_28 (dk_at dksX24_group_6 19 rfl rfl)
theorem dX24_group_161 : decode cX24_group 161 = .ok (.ifCond .ne 26, 3) := dk_154 0 26 (dk_at dksX24_group_6 20 rfl rfl)
theorem dX24_group_164 : decode cX24_group 164 = .ok (.aload_n 0, 1) := dk_42 (dk_at dksX24_group_6 23 rfl rfl)
theorem dX24_group_165 : decode cX24_group 165 = .ok (.aload_n 0, 1) := dk_42 (dk_at dksX24_group_7 0 rfl rfl)
theorem dX24_group_166 : decode cX24_group 166 = .ok (.getfield 50, 3) := dk_180 0 50 (dk_at dksX24_group_7 1 rfl rfl)
theorem dX24_group_169 : decode cX24_group 169 = .ok (.iload 5, 2) := dk_21 5 (dk_at dksX24_group_7 4 rfl rfl)
theorem dX24_group_171 : decode cX24_group 171 = .ok (.iaload, 1) := dk_46 (dk_at dksX24_group_7 6 rfl rfl)
theorem dX24_group_172 : decode cX24_group 172 = .ok (.invokevirtual 225, 3) := dk_182 0 225 (dk_at dksX24_group_7 7 rfl rfl)
theorem dX24_group_175 : decode cX24_group 175 = .ok (.iload_n 3, 1) := dk_29 (dk_at dksX24_group_7 10 rfl rfl)
theorem dX24_group_176 : decode cX24_group 176 = .ok (.if_icmp .ne 7, 3) := dk_160 0 7 (dk_at dksX24_group_7 11 rfl rfl)
theorem dX24_group_179 : decode cX24_group 179 = .ok (.iconst 1, 1) := dk_4 (dk_at dksX24_group_7 14 rfl rfl)
theorem dX24_group_180 : decode cX24_group 180 = .ok (.goto 17, 3) := dk_167 0 17 (dk_at dksX24_group_7 15 rfl rfl)
theorem dX24_group_183 : decode cX24_group 183 = .ok (.iconst 0, 1) := dk_3 (dk_at dksX24_group_7 18 rfl rfl)
theorem dX24_group_184 : decode cX24_group 184 = .ok (.goto 13, 3) := dk_167 0 13 (dk_at dksX24_group_7 19 rfl rfl)
theorem dX24_group_187 : decode cX24_group 187 = .ok (.iload 6, 2) := dk_21 6 (dk_at dksX24_group_7 22 rfl rfl)
theorem dX24_group_189 : decode cX24_group 189 = .ok (.ifCond .eq 7, 3) := dk_153 0 7 (dk_at dksX24_group_8 0 rfl rfl)
theorem dX24_group_192 : decode cX24_group 192 = .ok (.iconst 1, 1) := dk_4 (dk_at dksX24_group_8 3 rfl rfl)
theorem dX24_group_193 : decode cX24_group 193 = .ok (.goto 4, 3) := dk_167 0 4 (dk_at dksX24_group_8 4 rfl rfl)
theorem dX24_group_196 : decode cX24_group 196 = .ok (.iconst 0, 1) := dk_3 (dk_at dksX24_group_8 7 rfl rfl)
theorem dX24_group_197 : decode cX24_group 197 = .ok (.iadd, 1) := dk_96 (dk_at dksX24_group_8 8 rfl rfl)
theorem dX24_group_198 : decode cX24_group 198 = .ok (.istore 4, 2) := dk_54 4 (dk_at dksX24_group_8 9 rfl rfl)
theorem dX24_group_200 : decode cX24_group 200 = .ok (.iinc 5 1, 3) := dk_132 5 1 (dk_at dksX24_group_8 11 rfl rfl)
theorem dX24_group_203 : decode cX24_group 203 = .ok (.goto (-126), 3) := dk_167 255 130 (dk_at dksX24_group_8 14 rfl rfl)
theorem dX24_group_206 : decode cX24_group 206 = .ok (.iload 4, 2) := dk_21 4 (dk_at dksX24_group_8 17 rfl rfl)
theorem dX24_group_208 : decode cX24_group 208 = .ok (.ireturn, 1) := dk_172 (dk_at dksX24_group_8 19 rfl rfl)
abbrev cX24_expression : ByteArray := prog_53_method_44_code
def yX24_expression : MethodName := ⟨RX24, "expression", "(II)I"⟩
def dkwX24_expression_6 : List UInt8 := [180, 0, 50, 27, 46, 182, 0, 225, 172]
abbrev dktX24_expression_6 : List UInt8 := dkwX24_expression_6 ++ []
def dkwX24_expression_5 : List UInt8 := [180, 0, 44, 27, 46, 167, 0, 23, 28, 6, 160, 0, 12, 42, 180, 0, 47, 27, 46, 167, 0, 9, 42]
abbrev dktX24_expression_5 : List UInt8 := dkwX24_expression_5 ++ dktX24_expression_6
def dkwX24_expression_4 : List UInt8 := [160, 0, 15, 42, 180, 0, 38, 27, 46, 8, 162, 0, 5, 2, 172, 42, 28, 5, 160, 0, 12, 42]
abbrev dktX24_expression_4 : List UInt8 := dkwX24_expression_4 ++ dktX24_expression_5
def dkwX24_expression_3 : List UInt8 := [27, 51, 154, 0, 33, 28, 5, 160, 0, 13, 42, 180, 0, 38, 27, 46, 4, 159, 0, 18, 28, 6]
abbrev dktX24_expression_3 : List UInt8 := dkwX24_expression_3 ++ dktX24_expression_4
def dkwX24_expression_2 : List UInt8 := [28, 8, 160, 0, 18, 42, 180, 0, 56, 27, 51, 153, 0, 7, 4, 167, 0, 4, 3, 172, 42, 180, 0, 56]
abbrev dktX24_expression_2 : List UInt8 := dkwX24_expression_2 ++ dktX24_expression_3
def dkwX24_expression_1 : List UInt8 := [172, 28, 154, 0, 10, 42, 180, 0, 38, 27, 46, 172, 28, 4, 160, 0, 10, 42, 180, 0, 41, 27, 46, 172]
abbrev dktX24_expression_1 : List UInt8 := dkwX24_expression_1 ++ dktX24_expression_2
def dkwX24_expression_0 : List UInt8 := [42, 27, 182, 0, 214, 153, 0, 13, 42, 28, 3, 8, 182, 0, 217, 154, 0, 10, 42, 16, 251, 182, 0, 206]
abbrev dktX24_expression_0 : List UInt8 := dkwX24_expression_0 ++ dktX24_expression_1
theorem dksX24_expression_0 : cX24_expression.data.toList.drop 0 = dktX24_expression_0 := by decide +kernel
theorem dksX24_expression_1 : cX24_expression.data.toList.drop 24 = dktX24_expression_1 := dk_seg dksX24_expression_0 24 rfl rfl
theorem dksX24_expression_2 : cX24_expression.data.toList.drop 48 = dktX24_expression_2 := dk_seg dksX24_expression_1 24 rfl rfl
theorem dksX24_expression_3 : cX24_expression.data.toList.drop 72 = dktX24_expression_3 := dk_seg dksX24_expression_2 24 rfl rfl
theorem dksX24_expression_4 : cX24_expression.data.toList.drop 94 = dktX24_expression_4 := dk_seg dksX24_expression_3 22 rfl rfl
theorem dksX24_expression_5 : cX24_expression.data.toList.drop 116 = dktX24_expression_5 := dk_seg dksX24_expression_4 22 rfl rfl
theorem dksX24_expression_6 : cX24_expression.data.toList.drop 139 = dktX24_expression_6 := dk_seg dksX24_expression_5 23 rfl rfl
theorem dX24_expression_0 : decode cX24_expression 0 = .ok (.aload_n 0, 1) := dk_42 (dk_at dksX24_expression_0 0 rfl rfl)
theorem dX24_expression_1 : decode cX24_expression 1 = .ok (.iload_n 1, 1) := dk_27 (dk_at dksX24_expression_0 1 rfl rfl)
theorem dX24_expression_2 : decode cX24_expression 2 = .ok (.invokevirtual 214, 3) := dk_182 0 214 (dk_at dksX24_expression_0 2 rfl rfl)
theorem dX24_expression_5 : decode cX24_expression 5 = .ok (.ifCond .eq 13, 3) := dk_153 0 13 (dk_at dksX24_expression_0 5 rfl rfl)
theorem dX24_expression_8 : decode cX24_expression 8 = .ok (.aload_n 0, 1) := dk_42 (dk_at dksX24_expression_0 8 rfl rfl)
theorem dX24_expression_9 : decode cX24_expression 9 = .ok (.iload_n 2, 1) := dk_28 (dk_at dksX24_expression_0 9 rfl rfl)
theorem dX24_expression_10 : decode cX24_expression 10 = .ok (.iconst 0, 1) := dk_3 (dk_at dksX24_expression_0 10 rfl rfl)
theorem dX24_expression_11 : decode cX24_expression 11 = .ok (.iconst 5, 1) := dk_8 (dk_at dksX24_expression_0 11 rfl rfl)
theorem dX24_expression_12 : decode cX24_expression 12 = .ok (.invokevirtual 217, 3) := dk_182 0 217 (dk_at dksX24_expression_0 12 rfl rfl)
theorem dX24_expression_15 : decode cX24_expression 15 = .ok (.ifCond .ne 10, 3) := dk_154 0 10 (dk_at dksX24_expression_0 15 rfl rfl)
theorem dX24_expression_18 : decode cX24_expression 18 = .ok (.aload_n 0, 1) := dk_42 (dk_at dksX24_expression_0 18 rfl rfl)
theorem dX24_expression_19 : decode cX24_expression 19 = .ok (.bipush (-5), 2) := dk_16 251 (dk_at dksX24_expression_0 19 rfl rfl)
theorem dX24_expression_21 : decode cX24_expression 21 = .ok (.invokevirtual 206, 3) := dk_182 0 206 (dk_at dksX24_expression_0 21 rfl rfl)
theorem dX24_expression_24 : decode cX24_expression 24 = .ok (.ireturn, 1) := dk_172 (dk_at dksX24_expression_1 0 rfl rfl)
theorem dX24_expression_25 : decode cX24_expression 25 = .ok (.iload_n 2, 1) := dk_28 (dk_at dksX24_expression_1 1 rfl rfl)
theorem dX24_expression_26 : decode cX24_expression 26 = .ok (.ifCond .ne 10, 3) := dk_154 0 10 (dk_at dksX24_expression_1 2 rfl rfl)
theorem dX24_expression_29 : decode cX24_expression 29 = .ok (.aload_n 0, 1) := dk_42 (dk_at dksX24_expression_1 5 rfl rfl)
theorem dX24_expression_30 : decode cX24_expression 30 = .ok (.getfield 38, 3) := dk_180 0 38 (dk_at dksX24_expression_1 6 rfl rfl)
theorem dX24_expression_33 : decode cX24_expression 33 = .ok (.iload_n 1, 1) := dk_27 (dk_at dksX24_expression_1 9 rfl rfl)
theorem dX24_expression_34 : decode cX24_expression 34 = .ok (.iaload, 1) := dk_46 (dk_at dksX24_expression_1 10 rfl rfl)
theorem dX24_expression_35 : decode cX24_expression 35 = .ok (.ireturn, 1) := dk_172 (dk_at dksX24_expression_1 11 rfl rfl)
theorem dX24_expression_36 : decode cX24_expression 36 = .ok (.iload_n 2, 1) := dk_28 (dk_at dksX24_expression_1 12 rfl rfl)
theorem dX24_expression_37 : decode cX24_expression 37 = .ok (.iconst 1, 1) := dk_4 (dk_at dksX24_expression_1 13 rfl rfl)
theorem dX24_expression_38 : decode cX24_expression 38 = .ok (.if_icmp .ne 10, 3) := dk_160 0 10 (dk_at dksX24_expression_1 14 rfl rfl)
theorem dX24_expression_41 : decode cX24_expression 41 = .ok (.aload_n 0, 1) := dk_42 (dk_at dksX24_expression_1 17 rfl rfl)
theorem dX24_expression_42 : decode cX24_expression 42 = .ok (.getfield 41, 3) := dk_180 0 41 (dk_at dksX24_expression_1 18 rfl rfl)
theorem dX24_expression_45 : decode cX24_expression 45 = .ok (.iload_n 1, 1) := dk_27 (dk_at dksX24_expression_1 21 rfl rfl)
theorem dX24_expression_46 : decode cX24_expression 46 = .ok (.iaload, 1) := dk_46 (dk_at dksX24_expression_1 22 rfl rfl)
theorem dX24_expression_47 : decode cX24_expression 47 = .ok (.ireturn, 1) := dk_172 (dk_at dksX24_expression_1 23 rfl rfl)
theorem dX24_expression_48 : decode cX24_expression 48 = .ok (.iload_n 2, 1) := dk_28 (dk_at dksX24_expression_2 0 rfl rfl)
theorem dX24_expression_49 : decode cX24_expression 49 = .ok (.iconst 5, 1) := dk_8 (dk_at dksX24_expression_2 1 rfl rfl)
theorem dX24_expression_50 : decode cX24_expression 50 = .ok (.if_icmp .ne 18, 3) := dk_160 0 18 (dk_at dksX24_expression_2 2 rfl rfl)
theorem dX24_expression_53 : decode cX24_expression 53 = .ok (.aload_n 0, 1) := dk_42 (dk_at dksX24_expression_2 5 rfl rfl)
theorem dX24_expression_54 : decode cX24_expression 54 = .ok (.getfield 56, 3) := dk_180 0 56 (dk_at dksX24_expression_2 6 rfl rfl)
theorem dX24_expression_57 : decode cX24_expression 57 = .ok (.iload_n 1, 1) := dk_27 (dk_at dksX24_expression_2 9 rfl rfl)
theorem dX24_expression_58 : decode cX24_expression 58 = .ok (.baload, 1) := dk_51 (dk_at dksX24_expression_2 10 rfl rfl)
theorem dX24_expression_59 : decode cX24_expression 59 = .ok (.ifCond .eq 7, 3) := dk_153 0 7 (dk_at dksX24_expression_2 11 rfl rfl)
theorem dX24_expression_62 : decode cX24_expression 62 = .ok (.iconst 1, 1) := dk_4 (dk_at dksX24_expression_2 14 rfl rfl)
theorem dX24_expression_63 : decode cX24_expression 63 = .ok (.goto 4, 3) := dk_167 0 4 (dk_at dksX24_expression_2 15 rfl rfl)
theorem dX24_expression_66 : decode cX24_expression 66 = .ok (.iconst 0, 1) := dk_3 (dk_at dksX24_expression_2 18 rfl rfl)
theorem dX24_expression_67 : decode cX24_expression 67 = .ok (.ireturn, 1) := dk_172 (dk_at dksX24_expression_2 19 rfl rfl)
theorem dX24_expression_68 : decode cX24_expression 68 = .ok (.aload_n 0, 1) := dk_42 (dk_at dksX24_expression_2 20 rfl rfl)
theorem dX24_expression_69 : decode cX24_expression 69 = .ok (.getfield 56, 3) := dk_180 0 56 (dk_at dksX24_expression_2 21 rfl rfl)
theorem dX24_expression_72 : decode cX24_expression 72 = .ok (.iload_n 1, 1) := dk_27 (dk_at dksX24_expression_3 0 rfl rfl)
theorem dX24_expression_73 : decode cX24_expression 73 = .ok (.baload, 1) := dk_51 (dk_at dksX24_expression_3 1 rfl rfl)
theorem dX24_expression_74 : decode cX24_expression 74 = .ok (.ifCond .ne 33, 3) := dk_154 0 33 (dk_at dksX24_expression_3 2 rfl rfl)
theorem dX24_expression_77 : decode cX24_expression 77 = .ok (.iload_n 2, 1) := dk_28 (dk_at dksX24_expression_3 5 rfl rfl)
theorem dX24_expression_78 : decode cX24_expression 78 = .ok (.iconst 2, 1) := dk_5 (dk_at dksX24_expression_3 6 rfl rfl)
theorem dX24_expression_79 : decode cX24_expression 79 = .ok (.if_icmp .ne 13, 3) := dk_160 0 13 (dk_at dksX24_expression_3 7 rfl rfl)
theorem dX24_expression_82 : decode cX24_expression 82 = .ok (.aload_n 0, 1) := dk_42 (dk_at dksX24_expression_3 10 rfl rfl)
theorem dX24_expression_83 : decode cX24_expression 83 = .ok (.getfield 38, 3) := dk_180 0 38 (dk_at dksX24_expression_3 11 rfl rfl)
theorem dX24_expression_86 : decode cX24_expression 86 = .ok (.iload_n 1, 1) := dk_27 (dk_at dksX24_expression_3 14 rfl rfl)
theorem dX24_expression_87 : decode cX24_expression 87 = .ok (.iaload, 1) := dk_46 (dk_at dksX24_expression_3 15 rfl rfl)
theorem dX24_expression_88 : decode cX24_expression 88 = .ok (.iconst 1, 1) := dk_4 (dk_at dksX24_expression_3 16 rfl rfl)
theorem dX24_expression_89 : decode cX24_expression 89 = .ok (.if_icmp .eq 18, 3) := dk_159 0 18 (dk_at dksX24_expression_3 17 rfl rfl)
theorem dX24_expression_92 : decode cX24_expression 92 = .ok (.iload_n 2, 1) := dk_28 (dk_at dksX24_expression_3 20 rfl rfl)
theorem dX24_expression_93 : decode cX24_expression 93 = .ok (.iconst 3, 1) := dk_6 (dk_at dksX24_expression_3 21 rfl rfl)
theorem dX24_expression_94 : decode cX24_expression 94 = .ok (.if_icmp .ne 15, 3) := dk_160 0 15 (dk_at dksX24_expression_4 0 rfl rfl)
theorem dX24_expression_97 : decode cX24_expression 97 = .ok (.aload_n 0, 1) := dk_42 (dk_at dksX24_expression_4 3 rfl rfl)
theorem dX24_expression_98 : decode cX24_expression 98 = .ok (.getfield 38, 3) := dk_180 0 38 (dk_at dksX24_expression_4 4 rfl rfl)
theorem dX24_expression_101 : decode cX24_expression 101 = .ok (.iload_n 1, 1) := dk_27 (dk_at dksX24_expression_4 7 rfl rfl)
theorem dX24_expression_102 : decode cX24_expression 102 = .ok (.iaload, 1) := dk_46 (dk_at dksX24_expression_4 8 rfl rfl)
theorem dX24_expression_103 : decode cX24_expression 103 = .ok (.iconst 5, 1) := dk_8 (dk_at dksX24_expression_4 9 rfl rfl)
theorem dX24_expression_104 : decode cX24_expression 104 = .ok (.if_icmp .ge 5, 3) := dk_162 0 5 (dk_at dksX24_expression_4 10 rfl rfl)
theorem dX24_expression_107 : decode cX24_expression 107 = .ok (.iconst (-1), 1) := dk_2 (dk_at dksX24_expression_4 13 rfl rfl)
theorem dX24_expression_108 : decode cX24_expression 108 = .ok (.ireturn, 1) := dk_172 (dk_at dksX24_expression_4 14 rfl rfl)
theorem dX24_expression_109 : decode cX24_expression 109 = .ok (.aload_n 0, 1) := dk_42 (dk_at dksX24_expression_4 15 rfl rfl)
theorem dX24_expression_110 : decode cX24_expression 110 = .ok (.iload_n 2, 1) := dk_28 (dk_at dksX24_expression_4 16 rfl rfl)
theorem dX24_expression_111 : decode cX24_expression 111 = .ok (.iconst 2, 1) := dk_5 (dk_at dksX24_expression_4 17 rfl rfl)
theorem dX24_expression_112 : decode cX24_expression 112 = .ok (.if_icmp .ne 12, 3) := dk_160 0 12 (dk_at dksX24_expression_4 18 rfl rfl)
theorem dX24_expression_115 : decode cX24_expression 115 = .ok (.aload_n 0, 1) := dk_42 (dk_at dksX24_expression_4 21 rfl rfl)
theorem dX24_expression_116 : decode cX24_expression 116 = .ok (.getfield 44, 3) := dk_180 0 44 (dk_at dksX24_expression_5 0 rfl rfl)
theorem dX24_expression_119 : decode cX24_expression 119 = .ok (.iload_n 1, 1) := dk_27 (dk_at dksX24_expression_5 3 rfl rfl)
theorem dX24_expression_120 : decode cX24_expression 120 = .ok (.iaload, 1) := dk_46 (dk_at dksX24_expression_5 4 rfl rfl)
theorem dX24_expression_121 : decode cX24_expression 121 = .ok (.goto 23, 3) := dk_167 0 23 (dk_at dksX24_expression_5 5 rfl rfl)
theorem dX24_expression_124 : decode cX24_expression 124 = .ok (.iload_n 2, 1) := dk_28 (dk_at dksX24_expression_5 8 rfl rfl)
theorem dX24_expression_125 : decode cX24_expression 125 = .ok (.iconst 3, 1) := dk_6 (dk_at dksX24_expression_5 9 rfl rfl)
theorem dX24_expression_126 : decode cX24_expression 126 = .ok (.if_icmp .ne 12, 3) := dk_160 0 12 (dk_at dksX24_expression_5 10 rfl rfl)
theorem dX24_expression_129 : decode cX24_expression 129 = .ok (.aload_n 0, 1) := dk_42 (dk_at dksX24_expression_5 13 rfl rfl)
theorem dX24_expression_130 : decode cX24_expression 130 = .ok (.getfield 47, 3) := dk_180 0 47 (dk_at dksX24_expression_5 14 rfl rfl)
theorem dX24_expression_133 : decode cX24_expression 133 = .ok (.iload_n 1, 1) := dk_27 (dk_at dksX24_expression_5 17 rfl rfl)
theorem dX24_expression_134 : decode cX24_expression 134 = .ok (.iaload, 1) := dk_46 (dk_at dksX24_expression_5 18 rfl rfl)
theorem dX24_expression_135 : decode cX24_expression 135 = .ok (.goto 9, 3) := dk_167 0 9 (dk_at dksX24_expression_5 19 rfl rfl)
theorem dX24_expression_138 : decode cX24_expression 138 = .ok (.aload_n 0, 1) := dk_42 (dk_at dksX24_expression_5 22 rfl rfl)
theorem dX24_expression_139 : decode cX24_expression 139 = .ok (.getfield 50, 3) := dk_180 0 50 (dk_at dksX24_expression_6 0 rfl rfl)
theorem dX24_expression_142 : decode cX24_expression 142 = .ok (.iload_n 1, 1) := dk_27 (dk_at dksX24_expression_6 3 rfl rfl)
theorem dX24_expression_143 : decode cX24_expression 143 = .ok (.iaload, 1) := dk_46 (dk_at dksX24_expression_6 4 rfl rfl)
theorem dX24_expression_144 : decode cX24_expression 144 = .ok (.invokevirtual 225, 3) := dk_182 0 225 (dk_at dksX24_expression_6 5 rfl rfl)
theorem dX24_expression_147 : decode cX24_expression 147 = .ok (.ireturn, 1) := dk_172 (dk_at dksX24_expression_6 8 rfl rfl)
abbrev cX24_explore : ByteArray := prog_53_method_52_code
def yX24_explore : MethodName := ⟨RX24, "explore", "(I)I"⟩
def dkwX24_explore_2 : List UInt8 := [42, 182, 1, 97, 132, 2, 1, 167, 255, 223, 28, 172]
abbrev dktX24_explore_2 : List UInt8 := dkwX24_explore_2 ++ []
def dkwX24_explore_1 : List UInt8 := [162, 0, 34, 42, 182, 1, 90, 153, 0, 27, 42, 180, 0, 199, 42, 182, 1, 94, 96, 16, 64, 163, 0, 13]
abbrev dktX24_explore_1 : List UInt8 := dkwX24_explore_1 ++ dktX24_explore_2
def dkwX24_explore_0 : List UInt8 := [42, 27, 4, 17, 0, 200, 182, 0, 217, 154, 0, 10, 42, 16, 250, 182, 0, 206, 172, 3, 61, 28, 27]
abbrev dktX24_explore_0 : List UInt8 := dkwX24_explore_0 ++ dktX24_explore_1
theorem dksX24_explore_0 : cX24_explore.data.toList.drop 0 = dktX24_explore_0 := by decide +kernel
theorem dksX24_explore_1 : cX24_explore.data.toList.drop 23 = dktX24_explore_1 := dk_seg dksX24_explore_0 23 rfl rfl
theorem dksX24_explore_2 : cX24_explore.data.toList.drop 47 = dktX24_explore_2 := dk_seg dksX24_explore_1 24 rfl rfl
theorem dX24_explore_0 : decode cX24_explore 0 = .ok (.aload_n 0, 1) := dk_42 (dk_at dksX24_explore_0 0 rfl rfl)
theorem dX24_explore_1 : decode cX24_explore 1 = .ok (.iload_n 1, 1) := dk_27 (dk_at dksX24_explore_0 1 rfl rfl)
theorem dX24_explore_2 : decode cX24_explore 2 = .ok (.iconst 1, 1) := dk_4 (dk_at dksX24_explore_0 2 rfl rfl)
theorem dX24_explore_3 : decode cX24_explore 3 = .ok (.sipush 200, 3) := dk_17 0 200 (dk_at dksX24_explore_0 3 rfl rfl)
theorem dX24_explore_6 : decode cX24_explore 6 = .ok (.invokevirtual 217, 3) := dk_182 0 217 (dk_at dksX24_explore_0 6 rfl rfl)
theorem dX24_explore_9 : decode cX24_explore 9 = .ok (.ifCond .ne 10, 3) := dk_154 0 10 (dk_at dksX24_explore_0 9 rfl rfl)
theorem dX24_explore_12 : decode cX24_explore 12 = .ok (.aload_n 0, 1) := dk_42 (dk_at dksX24_explore_0 12 rfl rfl)
theorem dX24_explore_13 : decode cX24_explore 13 = .ok (.bipush (-6), 2) := dk_16 250 (dk_at dksX24_explore_0 13 rfl rfl)
theorem dX24_explore_15 : decode cX24_explore 15 = .ok (.invokevirtual 206, 3) := dk_182 0 206 (dk_at dksX24_explore_0 15 rfl rfl)
theorem dX24_explore_18 : decode cX24_explore 18 = .ok (.ireturn, 1) := dk_172 (dk_at dksX24_explore_0 18 rfl rfl)
theorem dX24_explore_19 : decode cX24_explore 19 = .ok (.iconst 0, 1) := dk_3 (dk_at dksX24_explore_0 19 rfl rfl)
theorem dX24_explore_20 : decode cX24_explore 20 = .ok (.istore_n 2, 1) := dk_61 (dk_at dksX24_explore_0 20 rfl rfl)
theorem dX24_explore_21 : decode cX24_explore 21 = .ok (.iload_n 2, 1) := dk_28 (dk_at dksX24_explore_0 21 rfl rfl)
theorem dX24_explore_22 : decode cX24_explore 22 = .ok (.iload_n 1, 1) := dk_27 (dk_at dksX24_explore_0 22 rfl rfl)
theorem dX24_explore_23 : decode cX24_explore 23 = .ok (.if_icmp .ge 34, 3) := dk_162 0 34 (dk_at dksX24_explore_1 0 rfl rfl)
theorem dX24_explore_26 : decode cX24_explore 26 = .ok (.aload_n 0, 1) := dk_42 (dk_at dksX24_explore_1 3 rfl rfl)
theorem dX24_explore_27 : decode cX24_explore 27 = .ok (.invokevirtual 346, 3) := dk_182 1 90 (dk_at dksX24_explore_1 4 rfl rfl)
theorem dX24_explore_30 : decode cX24_explore 30 = .ok (.ifCond .eq 27, 3) := dk_153 0 27 (dk_at dksX24_explore_1 7 rfl rfl)
theorem dX24_explore_33 : decode cX24_explore 33 = .ok (.aload_n 0, 1) := dk_42 (dk_at dksX24_explore_1 10 rfl rfl)
theorem dX24_explore_34 : decode cX24_explore 34 = .ok (.getfield 199, 3) := dk_180 0 199 (dk_at dksX24_explore_1 11 rfl rfl)
theorem dX24_explore_37 : decode cX24_explore 37 = .ok (.aload_n 0, 1) := dk_42 (dk_at dksX24_explore_1 14 rfl rfl)
theorem dX24_explore_38 : decode cX24_explore 38 = .ok (.invokevirtual 350, 3) := dk_182 1 94 (dk_at dksX24_explore_1 15 rfl rfl)
theorem dX24_explore_41 : decode cX24_explore 41 = .ok (.iadd, 1) := dk_96 (dk_at dksX24_explore_1 18 rfl rfl)
theorem dX24_explore_42 : decode cX24_explore 42 = .ok (.bipush 64, 2) := dk_16 64 (dk_at dksX24_explore_1 19 rfl rfl)
theorem dX24_explore_44 : decode cX24_explore 44 = .ok (.if_icmp .gt 13, 3) := dk_163 0 13 (dk_at dksX24_explore_1 21 rfl rfl)
theorem dX24_explore_47 : decode cX24_explore 47 = .ok (.aload_n 0, 1) := dk_42 (dk_at dksX24_explore_2 0 rfl rfl)
theorem dX24_explore_48 : decode cX24_explore 48 = .ok (.invokevirtual 353, 3) := dk_182 1 97 (dk_at dksX24_explore_2 1 rfl rfl)
theorem dX24_explore_51 : decode cX24_explore 51 = .ok (.iinc 2 1, 3) := dk_132 2 1 (dk_at dksX24_explore_2 4 rfl rfl)
theorem dX24_explore_54 : decode cX24_explore 54 = .ok (.goto (-33), 3) := dk_167 255 223 (dk_at dksX24_explore_2 7 rfl rfl)
theorem dX24_explore_57 : decode cX24_explore 57 = .ok (.iload_n 2, 1) := dk_28 (dk_at dksX24_explore_2 10 rfl rfl)
theorem dX24_explore_58 : decode cX24_explore 58 = .ok (.ireturn, 1) := dk_172 (dk_at dksX24_explore_2 11 rfl rfl)
abbrev cX24_finds : ByteArray := prog_53_method_46_code
def yX24_finds : MethodName := ⟨RX24, "finds", "()Z"⟩
def dkwX24_finds_8 : List UInt8 := [132, 3, 1, 167, 255, 154, 132, 2, 1, 167, 255, 91, 132, 1, 1, 167, 255, 63, 3, 172]
abbrev dktX24_finds_8 : List UInt8 := dkwX24_finds_8 ++ []
def dkwX24_finds_7 : List UInt8 := [153, 0, 6, 167, 0, 20, 42, 27, 181, 1, 64, 42, 28, 181, 1, 67, 42, 29, 181, 1, 70, 4, 172]
abbrev dktX24_finds_7 : List UInt8 := dkwX24_finds_7 ++ dktX24_finds_8
def dkwX24_finds_6 : List UInt8 := [29, 182, 1, 73, 153, 0, 42, 42, 180, 0, 60, 27, 16, 7, 104, 28, 96, 16, 65, 104, 29, 96, 51]
abbrev dktX24_finds_6 : List UInt8 := dkwX24_finds_6 ++ dktX24_finds_7
def dkwX24_finds_5 : List UInt8 := [180, 0, 50, 29, 46, 182, 0, 225, 42, 42, 180, 0, 44, 27, 46, 182, 0, 225, 160, 0, 52, 42, 27, 28]
abbrev dktX24_finds_5 : List UInt8 := dkwX24_finds_5 ++ dktX24_finds_6
def dkwX24_finds_4 : List UInt8 := [162, 0, 100, 42, 180, 0, 38, 27, 46, 4, 159, 0, 90, 42, 180, 0, 56, 29, 51, 154, 0, 75, 42, 42]
abbrev dktX24_finds_4 : List UInt8 := dkwX24_finds_4 ++ dktX24_finds_5
def dkwX24_finds_3 : List UInt8 := [181, 1, 64, 42, 3, 181, 1, 67, 42, 2, 181, 1, 70, 4, 172, 3, 62, 29, 42, 180, 0, 199]
abbrev dktX24_finds_3 : List UInt8 := dkwX24_finds_3 ++ dktX24_finds_4
def dkwX24_finds_2 : List UInt8 := [160, 0, 145, 42, 180, 0, 60, 27, 16, 7, 104, 16, 65, 104, 16, 64, 96, 51, 154, 0, 127, 42, 27]
abbrev dktX24_finds_2 : List UInt8 := dkwX24_finds_2 ++ dktX24_finds_3
def dkwX24_finds_1 : List UInt8 := [167, 0, 173, 3, 61, 28, 16, 7, 162, 0, 165, 28, 154, 0, 48, 42, 180, 0, 38, 27, 46, 8]
abbrev dktX24_finds_1 : List UInt8 := dkwX24_finds_1 ++ dktX24_finds_2
def dkwX24_finds_0 : List UInt8 := [42, 182, 1, 3, 3, 60, 27, 42, 180, 0, 199, 162, 0, 191, 42, 180, 0, 56, 27, 51, 153, 0, 6]
abbrev dktX24_finds_0 : List UInt8 := dkwX24_finds_0 ++ dktX24_finds_1
theorem dksX24_finds_0 : cX24_finds.data.toList.drop 0 = dktX24_finds_0 := by decide +kernel
theorem dksX24_finds_1 : cX24_finds.data.toList.drop 23 = dktX24_finds_1 := dk_seg dksX24_finds_0 23 rfl rfl
theorem dksX24_finds_2 : cX24_finds.data.toList.drop 45 = dktX24_finds_2 := dk_seg dksX24_finds_1 22 rfl rfl
theorem dksX24_finds_3 : cX24_finds.data.toList.drop 68 = dktX24_finds_3 := dk_seg dksX24_finds_2 23 rfl rfl
theorem dksX24_finds_4 : cX24_finds.data.toList.drop 90 = dktX24_finds_4 := dk_seg dksX24_finds_3 22 rfl rfl
theorem dksX24_finds_5 : cX24_finds.data.toList.drop 114 = dktX24_finds_5 := dk_seg dksX24_finds_4 24 rfl rfl
theorem dksX24_finds_6 : cX24_finds.data.toList.drop 138 = dktX24_finds_6 := dk_seg dksX24_finds_5 24 rfl rfl
theorem dksX24_finds_7 : cX24_finds.data.toList.drop 161 = dktX24_finds_7 := dk_seg dksX24_finds_6 23 rfl rfl
theorem dksX24_finds_8 : cX24_finds.data.toList.drop 184 = dktX24_finds_8 := dk_seg dksX24_finds_7 23 rfl rfl
theorem dX24_finds_0 : decode cX24_finds 0 = .ok (.aload_n 0, 1) := dk_42 (dk_at dksX24_finds_0 0 rfl rfl)
theorem dX24_finds_1 : decode cX24_finds 1 = .ok (.invokevirtual 259, 3) := dk_182 1 3 (dk_at dksX24_finds_0 1 rfl rfl)
theorem dX24_finds_4 : decode cX24_finds 4 = .ok (.iconst 0, 1) := dk_3 (dk_at dksX24_finds_0 4 rfl rfl)
theorem dX24_finds_5 : decode cX24_finds 5 = .ok (.istore_n 1, 1) := dk_60 (dk_at dksX24_finds_0 5 rfl rfl)
theorem dX24_finds_6 : decode cX24_finds 6 = .ok (.iload_n 1, 1) := dk_27 (dk_at dksX24_finds_0 6 rfl rfl)
theorem dX24_finds_7 : decode cX24_finds 7 = .ok (.aload_n 0, 1) := dk_42 (dk_at dksX24_finds_0 7 rfl rfl)
theorem dX24_finds_8 : decode cX24_finds 8 = .ok (.getfield 199, 3) := dk_180 0 199 (dk_at dksX24_finds_0 8 rfl rfl)
theorem dX24_finds_11 : decode cX24_finds 11 = .ok (.if_icmp .ge 191, 3) := dk_162 0 191 (dk_at dksX24_finds_0 11 rfl rfl)
theorem dX24_finds_14 : decode cX24_finds 14 = .ok (.aload_n 0, 1) := dk_42 (dk_at dksX24_finds_0 14 rfl rfl)
theorem dX24_finds_15 : decode cX24_finds 15 = .ok (.getfield 56, 3) := dk_180 0 56 (dk_at dksX24_finds_0 15 rfl rfl)
theorem dX24_finds_18 : decode cX24_finds 18 = .ok (.iload_n 1, 1) := dk_27 (dk_at dksX24_finds_0 18 rfl rfl)
theorem dX24_finds_19 : decode cX24_finds 19 = .ok (.baload, 1) := dk_51 (dk_at dksX24_finds_0 19 rfl rfl)
theorem dX24_finds_20 : decode cX24_finds 20 = .ok (.ifCond .eq 6, 3) := dk_153 0 6 (dk_at dksX24_finds_0 20 rfl rfl)
theorem dX24_finds_23 : decode cX24_finds 23 = .ok (.goto 173, 3) := dk_167 0 173 (dk_at dksX24_finds_1 0 rfl rfl)
theorem dX24_finds_26 : decode cX24_finds 26 = .ok (.iconst 0, 1) := dk_3 (dk_at dksX24_finds_1 3 rfl rfl)
theorem dX24_finds_27 : decode cX24_finds 27 = .ok (.istore_n 2, 1) := dk_61 (dk_at dksX24_finds_1 4 rfl rfl)
theorem dX24_finds_28 : decode cX24_finds 28 = .ok (.iload_n 2, 1) := dk_28 (dk_at dksX24_finds_1 5 rfl rfl)
theorem dX24_finds_29 : decode cX24_finds 29 = .ok (.bipush 7, 2) := dk_16 7 (dk_at dksX24_finds_1 6 rfl rfl)
theorem dX24_finds_31 : decode cX24_finds 31 = .ok (.if_icmp .ge 165, 3) := dk_162 0 165 (dk_at dksX24_finds_1 8 rfl rfl)
theorem dX24_finds_34 : decode cX24_finds 34 = .ok (.iload_n 2, 1) := dk_28 (dk_at dksX24_finds_1 11 rfl rfl)
theorem dX24_finds_35 : decode cX24_finds 35 = .ok (.ifCond .ne 48, 3) := dk_154 0 48 (dk_at dksX24_finds_1 12 rfl rfl)
theorem dX24_finds_38 : decode cX24_finds 38 = .ok (.aload_n 0, 1) := dk_42 (dk_at dksX24_finds_1 15 rfl rfl)
theorem dX24_finds_39 : decode cX24_finds 39 = .ok (.getfield 38, 3) := dk_180 0 38 (dk_at dksX24_finds_1 16 rfl rfl)
theorem dX24_finds_42 : decode cX24_finds 42 = .ok (.iload_n 1, 1) := dk_27 (dk_at dksX24_finds_1 19 rfl rfl)
theorem dX24_finds_43 : decode cX24_finds 43 = .ok (.iaload, 1) := dk_46 (dk_at dksX24_finds_1 20 rfl rfl)
theorem dX24_finds_44 : decode cX24_finds 44 = .ok (.iconst 5, 1) := dk_8 (dk_at dksX24_finds_1 21 rfl rfl)
theorem dX24_finds_45 : decode cX24_finds 45 = .ok (.if_icmp .ne 145, 3) := dk_160 0 145 (dk_at dksX24_finds_2 0 rfl rfl)
theorem dX24_finds_48 : decode cX24_finds 48 = .ok (.aload_n 0, 1) := dk_42 (dk_at dksX24_finds_2 3 rfl rfl)
theorem dX24_finds_49 : decode cX24_finds 49 = .ok (.getfield 60, 3) := dk_180 0 60 (dk_at dksX24_finds_2 4 rfl rfl)
theorem dX24_finds_52 : decode cX24_finds 52 = .ok (.iload_n 1, 1) := dk_27 (dk_at dksX24_finds_2 7 rfl rfl)
theorem dX24_finds_53 : decode cX24_finds 53 = .ok (.bipush 7, 2) := dk_16 7 (dk_at dksX24_finds_2 8 rfl rfl)
theorem dX24_finds_55 : decode cX24_finds 55 = .ok (.imul, 1) := dk_104 (dk_at dksX24_finds_2 10 rfl rfl)
theorem dX24_finds_56 : decode cX24_finds 56 = .ok (.bipush 65, 2) := dk_16 65 (dk_at dksX24_finds_2 11 rfl rfl)
theorem dX24_finds_58 : decode cX24_finds 58 = .ok (.imul, 1) := dk_104 (dk_at dksX24_finds_2 13 rfl rfl)
theorem dX24_finds_59 : decode cX24_finds 59 = .ok (.bipush 64, 2) := dk_16 64 (dk_at dksX24_finds_2 14 rfl rfl)
theorem dX24_finds_61 : decode cX24_finds 61 = .ok (.iadd, 1) := dk_96 (dk_at dksX24_finds_2 16 rfl rfl)
theorem dX24_finds_62 : decode cX24_finds 62 = .ok (.baload, 1) := dk_51 (dk_at dksX24_finds_2 17 rfl rfl)
theorem dX24_finds_63 : decode cX24_finds 63 = .ok (.ifCond .ne 127, 3) := dk_154 0 127 (dk_at dksX24_finds_2 18 rfl rfl)
theorem dX24_finds_66 : decode cX24_finds 66 = .ok (.aload_n 0, 1) := dk_42 (dk_at dksX24_finds_2 21 rfl rfl)
theorem dX24_finds_67 : decode cX24_finds 67 = .ok (.iload_n 1, 1) := dk_27 (dk_at dksX24_finds_2 22 rfl rfl)
theorem dX24_finds_68 : decode cX24_finds 68 = .ok (.putfield 320, 3) := dk_181 1 64 (dk_at dksX24_finds_3 0 rfl rfl)
theorem dX24_finds_71 : decode cX24_finds 71 = .ok (.aload_n 0, 1) := dk_42 (dk_at dksX24_finds_3 3 rfl rfl)
theorem dX24_finds_72 : decode cX24_finds 72 = .ok (.iconst 0, 1) := dk_3 (dk_at dksX24_finds_3 4 rfl rfl)
theorem dX24_finds_73 : decode cX24_finds 73 = .ok (.putfield 323, 3) := dk_181 1 67 (dk_at dksX24_finds_3 5 rfl rfl)
theorem dX24_finds_76 : decode cX24_finds 76 = .ok (.aload_n 0, 1) := dk_42 (dk_at dksX24_finds_3 8 rfl rfl)
theorem dX24_finds_77 : decode cX24_finds 77 = .ok (.iconst (-1), 1) := dk_2 (dk_at dksX24_finds_3 9 rfl rfl)
theorem dX24_finds_78 : decode cX24_finds 78 = .ok (.putfield 326, 3) := dk_181 1 70 (dk_at dksX24_finds_3 10 rfl rfl)
theorem dX24_finds_81 : decode cX24_finds 81 = .ok (.iconst 1, 1) := dk_4 (dk_at dksX24_finds_3 13 rfl rfl)
theorem dX24_finds_82 : decode cX24_finds 82 = .ok (.ireturn, 1) := dk_172 (dk_at dksX24_finds_3 14 rfl rfl)
theorem dX24_finds_83 : decode cX24_finds 83 = .ok (.iconst 0, 1) := dk_3 (dk_at dksX24_finds_3 15 rfl rfl)
theorem dX24_finds_84 : decode cX24_finds 84 = .ok (.istore_n 3, 1) := dk_62 (dk_at dksX24_finds_3 16 rfl rfl)
theorem dX24_finds_85 : decode cX24_finds 85 = .ok (.iload_n 3, 1) := dk_29 (dk_at dksX24_finds_3 17 rfl rfl)
theorem dX24_finds_86 : decode cX24_finds 86 = .ok (.aload_n 0, 1) := dk_42 (dk_at dksX24_finds_3 18 rfl rfl)
theorem dX24_finds_87 : decode cX24_finds 87 = .ok (.getfield 199, 3) := dk_180 0 199 (dk_at dksX24_finds_3 19 rfl rfl)
theorem dX24_finds_90 : decode cX24_finds 90 = .ok (.if_icmp .ge 100, 3) := dk_162 0 100 (dk_at dksX24_finds_4 0 rfl rfl)
theorem dX24_finds_93 : decode cX24_finds 93 = .ok (.aload_n 0, 1) := dk_42 (dk_at dksX24_finds_4 3 rfl rfl)
theorem dX24_finds_94 : decode cX24_finds 94 = .ok (.getfield 38, 3) := dk_180 0 38 (dk_at dksX24_finds_4 4 rfl rfl)
theorem dX24_finds_97 : decode cX24_finds 97 = .ok (.iload_n 1, 1) := dk_27 (dk_at dksX24_finds_4 7 rfl rfl)
theorem dX24_finds_98 : decode cX24_finds 98 = .ok (.iaload, 1) := dk_46 (dk_at dksX24_finds_4 8 rfl rfl)
theorem dX24_finds_99 : decode cX24_finds 99 = .ok (.iconst 1, 1) := dk_4 (dk_at dksX24_finds_4 9 rfl rfl)
theorem dX24_finds_100 : decode cX24_finds 100 = .ok (.if_icmp .eq 90, 3) := dk_159 0 90 (dk_at dksX24_finds_4 10 rfl rfl)
theorem dX24_finds_103 : decode cX24_finds 103 = .ok (.aload_n 0, 1) := dk_42 (dk_at dksX24_finds_4 13 rfl rfl)
theorem dX24_finds_104 : decode cX24_finds 104 = .ok (.getfield 56, 3) := dk_180 0 56 (dk_at dksX24_finds_4 14 rfl rfl)
theorem dX24_finds_107 : decode cX24_finds 107 = .ok (.iload_n 3, 1) := dk_29 (dk_at dksX24_finds_4 17 rfl rfl)
theorem dX24_finds_108 : decode cX24_finds 108 = .ok (.baload, 1) := dk_51 (dk_at dksX24_finds_4 18 rfl rfl)
theorem dX24_finds_109 : decode cX24_finds 109 = .ok (.ifCond .ne 75, 3) := dk_154 0 75 (dk_at dksX24_finds_4 19 rfl rfl)
theorem dX24_finds_112 : decode cX24_finds 112 = .ok (.aload_n 0, 1) := dk_42 (dk_at dksX24_finds_4 22 rfl rfl)
theorem dX24_finds_113 : decode cX24_finds 113 = .ok (.aload_n 0, 1) := dk_42 (dk_at dksX24_finds_4 23 rfl rfl)
theorem dX24_finds_114 : decode cX24_finds 114 = .ok (.getfield 50, 3) := dk_180 0 50 (dk_at dksX24_finds_5 0 rfl rfl)
theorem dX24_finds_117 : decode cX24_finds 117 = .ok (.iload_n 3, 1) := dk_29 (dk_at dksX24_finds_5 3 rfl rfl)
theorem dX24_finds_118 : decode cX24_finds 118 = .ok (.iaload, 1) := dk_46 (dk_at dksX24_finds_5 4 rfl rfl)
theorem dX24_finds_119 : decode cX24_finds 119 = .ok (.invokevirtual 225, 3) := dk_182 0 225 (dk_at dksX24_finds_5 5 rfl rfl)
theorem dX24_finds_122 : decode cX24_finds 122 = .ok (.aload_n 0, 1) := dk_42 (dk_at dksX24_finds_5 8 rfl rfl)
theorem dX24_finds_123 : decode cX24_finds 123 = .ok (.aload_n 0, 1) := dk_42 (dk_at dksX24_finds_5 9 rfl rfl)
theorem dX24_finds_124 : decode cX24_finds 124 = .ok (.getfield 44, 3) := dk_180 0 44 (dk_at dksX24_finds_5 10 rfl rfl)
theorem dX24_finds_127 : decode cX24_finds 127 = .ok (.iload_n 1, 1) := dk_27 (dk_at dksX24_finds_5 13 rfl rfl)
theorem dX24_finds_128 : decode cX24_finds 128 = .ok (.iaload, 1) := dk_46 (dk_at dksX24_finds_5 14 rfl rfl)
theorem dX24_finds_129 : decode cX24_finds 129 = .ok (.invokevirtual 225, 3) := dk_182 0 225 (dk_at dksX24_finds_5 15 rfl rfl)
theorem dX24_finds_132 : decode cX24_finds 132 = .ok (.if_icmp .ne 52, 3) := dk_160 0 52 (dk_at dksX24_finds_5 18 rfl rfl)
theorem dX24_finds_135 : decode cX24_finds 135 = .ok (.aload_n 0, 1) := dk_42 (dk_at dksX24_finds_5 21 rfl rfl)
theorem dX24_finds_136 : decode cX24_finds 136 = .ok (.iload_n 1, 1) := dk_27 (dk_at dksX24_finds_5 22 rfl rfl)
theorem dX24_finds_137 : decode cX24_finds 137 = .ok (.iload_n 2, 1) := dk_28 (dk_at dksX24_finds_5 23 rfl rfl)
theorem dX24_finds_138 : decode cX24_finds 138 = .ok (.iload_n 3, 1) := dk_29 (dk_at dksX24_finds_6 0 rfl rfl)
theorem dX24_finds_139 : decode cX24_finds 139 = .ok (.invokevirtual 329, 3) := dk_182 1 73 (dk_at dksX24_finds_6 1 rfl rfl)
theorem dX24_finds_142 : decode cX24_finds 142 = .ok (.ifCond .eq 42, 3) := dk_153 0 42 (dk_at dksX24_finds_6 4 rfl rfl)
theorem dX24_finds_145 : decode cX24_finds 145 = .ok (.aload_n 0, 1) := dk_42 (dk_at dksX24_finds_6 7 rfl rfl)
theorem dX24_finds_146 : decode cX24_finds 146 = .ok (.getfield 60, 3) := dk_180 0 60 (dk_at dksX24_finds_6 8 rfl rfl)
theorem dX24_finds_149 : decode cX24_finds 149 = .ok (.iload_n 1, 1) := dk_27 (dk_at dksX24_finds_6 11 rfl rfl)
theorem dX24_finds_150 : decode cX24_finds 150 = .ok (.bipush 7, 2) := dk_16 7 (dk_at dksX24_finds_6 12 rfl rfl)
theorem dX24_finds_152 : decode cX24_finds 152 = .ok (.imul, 1) := dk_104 (dk_at dksX24_finds_6 14 rfl rfl)
theorem dX24_finds_153 : decode cX24_finds 153 = .ok (.iload_n 2, 1) := dk_28 (dk_at dksX24_finds_6 15 rfl rfl)
theorem dX24_finds_154 : decode cX24_finds 154 = .ok (.iadd, 1) := dk_96 (dk_at dksX24_finds_6 16 rfl rfl)
theorem dX24_finds_155 : decode cX24_finds 155 = .ok (.bipush 65, 2) := dk_16 65 (dk_at dksX24_finds_6 17 rfl rfl)
theorem dX24_finds_157 : decode cX24_finds 157 = .ok (.imul, 1) := dk_104 (dk_at dksX24_finds_6 19 rfl rfl)
theorem dX24_finds_158 : decode cX24_finds 158 = .ok (.iload_n 3, 1) := dk_29 (dk_at dksX24_finds_6 20 rfl rfl)
theorem dX24_finds_159 : decode cX24_finds 159 = .ok (.iadd, 1) := dk_96 (dk_at dksX24_finds_6 21 rfl rfl)
theorem dX24_finds_160 : decode cX24_finds 160 = .ok (.baload, 1) := dk_51 (dk_at dksX24_finds_6 22 rfl rfl)
theorem dX24_finds_161 : decode cX24_finds 161 = .ok (.ifCond .eq 6, 3) := dk_153 0 6 (dk_at dksX24_finds_7 0 rfl rfl)
theorem dX24_finds_164 : decode cX24_finds 164 = .ok (.goto 20, 3) := dk_167 0 20 (dk_at dksX24_finds_7 3 rfl rfl)
theorem dX24_finds_167 : decode cX24_finds 167 = .ok (.aload_n 0, 1) := dk_42 (dk_at dksX24_finds_7 6 rfl rfl)
theorem dX24_finds_168 : decode cX24_finds 168 = .ok (.iload_n 1, 1) := dk_27 (dk_at dksX24_finds_7 7 rfl rfl)
theorem dX24_finds_169 : decode cX24_finds 169 = .ok (.putfield 320, 3) := dk_181 1 64 (dk_at dksX24_finds_7 8 rfl rfl)
theorem dX24_finds_172 : decode cX24_finds 172 = .ok (.aload_n 0, 1) := dk_42 (dk_at dksX24_finds_7 11 rfl rfl)
theorem dX24_finds_173 : decode cX24_finds 173 = .ok (.iload_n 2, 1) := dk_28 (dk_at dksX24_finds_7 12 rfl rfl)
theorem dX24_finds_174 : decode cX24_finds 174 = .ok (.putfield 323, 3) := dk_181 1 67 (dk_at dksX24_finds_7 13 rfl rfl)
theorem dX24_finds_177 : decode cX24_finds 177 = .ok (.aload_n 0, 1) := dk_42 (dk_at dksX24_finds_7 16 rfl rfl)
theorem dX24_finds_178 : decode cX24_finds 178 = .ok (.iload_n 3, 1) := dk_29 (dk_at dksX24_finds_7 17 rfl rfl)
theorem dX24_finds_179 : decode cX24_finds 179 = .ok (.putfield 326, 3) := dk_181 1 70 (dk_at dksX24_finds_7 18 rfl rfl)
theorem dX24_finds_182 : decode cX24_finds 182 = .ok (.iconst 1, 1) := dk_4 (dk_at dksX24_finds_7 21 rfl rfl)
theorem dX24_finds_183 : decode cX24_finds 183 = .ok (.ireturn, 1) := dk_172 (dk_at dksX24_finds_7 22 rfl rfl)
theorem dX24_finds_184 : decode cX24_finds 184 = .ok (.iinc 3 1, 3) := dk_132 3 1 (dk_at dksX24_finds_8 0 rfl rfl)
theorem dX24_finds_187 : decode cX24_finds 187 = .ok (.goto (-102), 3) := dk_167 255 154 (dk_at dksX24_finds_8 3 rfl rfl)
theorem dX24_finds_190 : decode cX24_finds 190 = .ok (.iinc 2 1, 3) := dk_132 2 1 (dk_at dksX24_finds_8 6 rfl rfl)
theorem dX24_finds_193 : decode cX24_finds 193 = .ok (.goto (-165), 3) := dk_167 255 91 (dk_at dksX24_finds_8 9 rfl rfl)
theorem dX24_finds_196 : decode cX24_finds 196 = .ok (.iinc 1 1, 3) := dk_132 1 1 (dk_at dksX24_finds_8 12 rfl rfl)
theorem dX24_finds_199 : decode cX24_finds 199 = .ok (.goto (-193), 3) := dk_167 255 63 (dk_at dksX24_finds_8 15 rfl rfl)
theorem dX24_finds_202 : decode cX24_finds 202 = .ok (.iconst 0, 1) := dk_3 (dk_at dksX24_finds_8 18 rfl rfl)
theorem dX24_finds_203 : decode cX24_finds 203 = .ok (.ireturn, 1) := dk_172 (dk_at dksX24_finds_8 19 rfl rfl)
abbrev cX24_fits : ByteArray := prog_53_method_45_code
def yX24_fits : MethodName := ⟨RX24, "fits", "(III)Z"⟩
def dkwX24_fits_11 : List UInt8 := [16, 6, 160, 0, 7, 4, 167, 0, 4, 3, 172]
abbrev dktX24_fits_11 : List UInt8 := dkwX24_fits_11 ++ []
def dkwX24_fits_10 : List UInt8 := [180, 0, 41, 27, 46, 160, 0, 7, 4, 167, 0, 4, 3, 172, 21, 4, 16, 6, 160, 0, 14, 21, 5]
abbrev dktX24_fits_10 : List UInt8 := dkwX24_fits_10 ++ dktX24_fits_11
def dkwX24_fits_9 : List UInt8 := [172, 21, 4, 7, 160, 0, 30, 21, 5, 6, 160, 0, 24, 42, 180, 0, 41, 29, 46, 5, 108, 42]
abbrev dktX24_fits_9 : List UInt8 := dkwX24_fits_9 ++ dktX24_fits_10
def dkwX24_fits_8 : List UInt8 := [7, 160, 0, 22, 42, 180, 0, 41, 27, 46, 42, 180, 0, 41, 29, 46, 160, 0, 7, 4, 167, 0, 4, 3]
abbrev dktX24_fits_8 : List UInt8 := dkwX24_fits_8 ++ dktX24_fits_9
def dkwX24_fits_7 : List UInt8 := [159, 0, 7, 4, 167, 0, 4, 3, 172, 21, 4, 21, 5, 160, 0, 34, 21, 4, 6, 159, 0, 9, 21, 4]
abbrev dktX24_fits_7 : List UInt8 := dkwX24_fits_7 ++ dktX24_fits_8
def dkwX24_fits_6 : List UInt8 := [21, 4, 6, 160, 0, 28, 21, 5, 6, 160, 0, 22, 42, 180, 0, 41, 27, 46, 42, 180, 0, 41, 29, 46]
abbrev dktX24_fits_6 : List UInt8 := dkwX24_fits_6 ++ dktX24_fits_7
def dkwX24_fits_5 : List UInt8 := [182, 0, 225, 46, 42, 180, 0, 41, 27, 46, 5, 108, 182, 0, 229, 153, 0, 7, 4, 167, 0, 4, 3, 172]
abbrev dktX24_fits_5 : List UInt8 := dkwX24_fits_5 ++ dktX24_fits_6
def dkwX24_fits_4 : List UInt8 := [6, 160, 0, 43, 21, 5, 8, 161, 0, 37, 42, 42, 180, 0, 88, 42, 42, 180, 0, 44, 29, 46]
abbrev dktX24_fits_4 : List UInt8 := dkwX24_fits_4 ++ dktX24_fits_5
def dkwX24_fits_3 : List UInt8 := [182, 0, 225, 46, 42, 180, 0, 41, 27, 46, 182, 0, 229, 153, 0, 7, 4, 167, 0, 4, 3, 172, 21, 4]
abbrev dktX24_fits_3 : List UInt8 := dkwX24_fits_3 ++ dktX24_fits_4
def dkwX24_fits_2 : List UInt8 := [21, 4, 8, 160, 0, 41, 21, 5, 8, 160, 0, 35, 42, 42, 180, 0, 88, 42, 42, 180, 0, 47, 29, 46]
abbrev dktX24_fits_2 : List UInt8 := dkwX24_fits_2 ++ dktX24_fits_3
def dkwX24_fits_1 : List UInt8 := [170, 0, 0, 0, 0, 0, 237, 0, 0, 0, 1, 0, 0, 0, 5, 0, 0, 0, 35, 0, 0, 0, 81, 0, 0, 0, 129, 0, 0, 0, 162, 0, 0, 0, 202]
abbrev dktX24_fits_1 : List UInt8 := dkwX24_fits_1 ++ dktX24_fits_2
def dkwX24_fits_0 : List UInt8 := [42, 180, 0, 38, 27, 46, 54, 4, 42, 180, 0, 38, 29, 46, 54, 5, 28]
abbrev dktX24_fits_0 : List UInt8 := dkwX24_fits_0 ++ dktX24_fits_1
theorem dksX24_fits_0 : cX24_fits.data.toList.drop 0 = dktX24_fits_0 := by decide +kernel
theorem dksX24_fits_1 : cX24_fits.data.toList.drop 17 = dktX24_fits_1 := dk_seg dksX24_fits_0 17 rfl rfl
theorem dksX24_fits_2 : cX24_fits.data.toList.drop 52 = dktX24_fits_2 := dk_seg dksX24_fits_1 35 rfl rfl
theorem dksX24_fits_3 : cX24_fits.data.toList.drop 76 = dktX24_fits_3 := dk_seg dksX24_fits_2 24 rfl rfl
theorem dksX24_fits_4 : cX24_fits.data.toList.drop 100 = dktX24_fits_4 := dk_seg dksX24_fits_3 24 rfl rfl
theorem dksX24_fits_5 : cX24_fits.data.toList.drop 122 = dktX24_fits_5 := dk_seg dksX24_fits_4 22 rfl rfl
theorem dksX24_fits_6 : cX24_fits.data.toList.drop 146 = dktX24_fits_6 := dk_seg dksX24_fits_5 24 rfl rfl
theorem dksX24_fits_7 : cX24_fits.data.toList.drop 170 = dktX24_fits_7 := dk_seg dksX24_fits_6 24 rfl rfl
theorem dksX24_fits_8 : cX24_fits.data.toList.drop 194 = dktX24_fits_8 := dk_seg dksX24_fits_7 24 rfl rfl
theorem dksX24_fits_9 : cX24_fits.data.toList.drop 218 = dktX24_fits_9 := dk_seg dksX24_fits_8 24 rfl rfl
theorem dksX24_fits_10 : cX24_fits.data.toList.drop 240 = dktX24_fits_10 := dk_seg dksX24_fits_9 22 rfl rfl
theorem dksX24_fits_11 : cX24_fits.data.toList.drop 263 = dktX24_fits_11 := dk_seg dksX24_fits_10 23 rfl rfl
theorem dX24_fits_0 : decode cX24_fits 0 = .ok (.aload_n 0, 1) := dk_42 (dk_at dksX24_fits_0 0 rfl rfl)
theorem dX24_fits_1 : decode cX24_fits 1 = .ok (.getfield 38, 3) := dk_180 0 38 (dk_at dksX24_fits_0 1 rfl rfl)
theorem dX24_fits_4 : decode cX24_fits 4 = .ok (.iload_n 1, 1) := dk_27 (dk_at dksX24_fits_0 4 rfl rfl)
theorem dX24_fits_5 : decode cX24_fits 5 = .ok (.iaload, 1) := dk_46 (dk_at dksX24_fits_0 5 rfl rfl)
theorem dX24_fits_6 : decode cX24_fits 6 = .ok (.istore 4, 2) := dk_54 4 (dk_at dksX24_fits_0 6 rfl rfl)
theorem dX24_fits_8 : decode cX24_fits 8 = .ok (.aload_n 0, 1) := dk_42 (dk_at dksX24_fits_0 8 rfl rfl)
theorem dX24_fits_9 : decode cX24_fits 9 = .ok (.getfield 38, 3) := dk_180 0 38 (dk_at dksX24_fits_0 9 rfl rfl)
theorem dX24_fits_12 : decode cX24_fits 12 = .ok (.iload_n 3, 1) := dk_29 (dk_at dksX24_fits_0 12 rfl rfl)
theorem dX24_fits_13 : decode cX24_fits 13 = .ok (.iaload, 1) := dk_46 (dk_at dksX24_fits_0 13 rfl rfl)
theorem dX24_fits_14 : decode cX24_fits 14 = .ok (.istore 5, 2) := dk_54 5 (dk_at dksX24_fits_0 14 rfl rfl)
theorem dX24_fits_16 : decode cX24_fits 16 = .ok (.iload_n 2, 1) := dk_28 (dk_at dksX24_fits_0 16 rfl rfl)
theorem dX24_fits_17 : decode cX24_fits 17 = .ok (.tableswitch 237 1 5 #[35, 81, 129, 162, 202], 35) := by decide +kernel
theorem dX24_fits_52 : decode cX24_fits 52 = .ok (.iload 4, 2) := dk_21 4 (dk_at dksX24_fits_2 0 rfl rfl)
theorem dX24_fits_54 : decode cX24_fits 54 = .ok (.iconst 5, 1) := dk_8 (dk_at dksX24_fits_2 2 rfl rfl)
theorem dX24_fits_55 : decode cX24_fits 55 = .ok (.if_icmp .ne 41, 3) := dk_160 0 41 (dk_at dksX24_fits_2 3 rfl rfl)
theorem dX24_fits_58 : decode cX24_fits 58 = .ok (.iload 5, 2) := dk_21 5 (dk_at dksX24_fits_2 6 rfl rfl)
theorem dX24_fits_60 : decode cX24_fits 60 = .ok (.iconst 5, 1) := dk_8 (dk_at dksX24_fits_2 8 rfl rfl)
theorem dX24_fits_61 : decode cX24_fits 61 = .ok (.if_icmp .ne 35, 3) := dk_160 0 35 (dk_at dksX24_fits_2 9 rfl rfl)
theorem dX24_fits_64 : decode cX24_fits 64 = .ok (.aload_n 0, 1) := dk_42 (dk_at dksX24_fits_2 12 rfl rfl)
theorem dX24_fits_65 : decode cX24_fits 65 = .ok (.aload_n 0, 1) := dk_42 (dk_at dksX24_fits_2 13 rfl rfl)
theorem dX24_fits_66 : decode cX24_fits 66 = .ok (.getfield 88, 3) := dk_180 0 88 (dk_at dksX24_fits_2 14 rfl rfl)
theorem dX24_fits_69 : decode cX24_fits 69 = .ok (.aload_n 0, 1) := dk_42 (dk_at dksX24_fits_2 17 rfl rfl)
theorem dX24_fits_70 : decode cX24_fits 70 = .ok (.aload_n 0, 1) := dk_42 (dk_at dksX24_fits_2 18 rfl rfl)
theorem dX24_fits_71 : decode cX24_fits 71 = .ok (.getfield 47, 3) := dk_180 0 47 (dk_at dksX24_fits_2 19 rfl rfl)
theorem dX24_fits_74 : decode cX24_fits 74 = .ok (.iload_n 3, 1) := dk_29 (dk_at dksX24_fits_2 22 rfl rfl)
theorem dX24_fits_75 : decode cX24_fits 75 = .ok (.iaload, 1) := dk_46 (dk_at dksX24_fits_2 23 rfl rfl)
theorem dX24_fits_76 : decode cX24_fits 76 = .ok (.invokevirtual 225, 3) := dk_182 0 225 (dk_at dksX24_fits_3 0 rfl rfl)
theorem dX24_fits_79 : decode cX24_fits 79 = .ok (.iaload, 1) := dk_46 (dk_at dksX24_fits_3 3 rfl rfl)
theorem dX24_fits_80 : decode cX24_fits 80 = .ok (.aload_n 0, 1) := dk_42 (dk_at dksX24_fits_3 4 rfl rfl)
theorem dX24_fits_81 : decode cX24_fits 81 = .ok (.getfield 41, 3) := dk_180 0 41 (dk_at dksX24_fits_3 5 rfl rfl)
theorem dX24_fits_84 : decode cX24_fits 84 = .ok (.iload_n 1, 1) := dk_27 (dk_at dksX24_fits_3 8 rfl rfl)
theorem dX24_fits_85 : decode cX24_fits 85 = .ok (.iaload, 1) := dk_46 (dk_at dksX24_fits_3 9 rfl rfl)
theorem dX24_fits_86 : decode cX24_fits 86 = .ok (.invokevirtual 229, 3) := dk_182 0 229 (dk_at dksX24_fits_3 10 rfl rfl)
theorem dX24_fits_89 : decode cX24_fits 89 = .ok (.ifCond .eq 7, 3) := dk_153 0 7 (dk_at dksX24_fits_3 13 rfl rfl)
theorem dX24_fits_92 : decode cX24_fits 92 = .ok (.iconst 1, 1) := dk_4 (dk_at dksX24_fits_3 16 rfl rfl)
theorem dX24_fits_93 : decode cX24_fits 93 = .ok (.goto 4, 3) := dk_167 0 4 (dk_at dksX24_fits_3 17 rfl rfl)
theorem dX24_fits_96 : decode cX24_fits 96 = .ok (.iconst 0, 1) := dk_3 (dk_at dksX24_fits_3 20 rfl rfl)
theorem dX24_fits_97 : decode cX24_fits 97 = .ok (.ireturn, 1) := dk_172 (dk_at dksX24_fits_3 21 rfl rfl)
theorem dX24_fits_98 : decode cX24_fits 98 = .ok (.iload 4, 2) := dk_21 4 (dk_at dksX24_fits_3 22 rfl rfl)
theorem dX24_fits_100 : decode cX24_fits 100 = .ok (.iconst 3, 1) := dk_6 (dk_at dksX24_fits_4 0 rfl rfl)
theorem dX24_fits_101 : decode cX24_fits 101 = .ok (.if_icmp .ne 43, 3) := dk_160 0 43 (dk_at dksX24_fits_4 1 rfl rfl)
theorem dX24_fits_104 : decode cX24_fits 104 = .ok (.iload 5, 2) := dk_21 5 (dk_at dksX24_fits_4 4 rfl rfl)
theorem dX24_fits_106 : decode cX24_fits 106 = .ok (.iconst 5, 1) := dk_8 (dk_at dksX24_fits_4 6 rfl rfl)
theorem dX24_fits_107 : decode cX24_fits 107 = .ok (.if_icmp .lt 37, 3) := dk_161 0 37 (dk_at dksX24_fits_4 7 rfl rfl)
theorem dX24_fits_110 : decode cX24_fits 110 = .ok (.aload_n 0, 1) := dk_42 (dk_at dksX24_fits_4 10 rfl rfl)
theorem dX24_fits_111 : decode cX24_fits 111 = .ok (.aload_n 0, 1) := dk_42 (dk_at dksX24_fits_4 11 rfl rfl)
theorem dX24_fits_112 : decode cX24_fits 112 = .ok (.getfield 88, 3) := dk_180 0 88 (dk_at dksX24_fits_4 12 rfl rfl)
theorem dX24_fits_115 : decode cX24_fits 115 = .ok (.aload_n 0, 1) := dk_42 (dk_at dksX24_fits_4 15 rfl rfl)
theorem dX24_fits_116 : decode cX24_fits 116 = .ok (.aload_n 0, 1) := dk_42 (dk_at dksX24_fits_4 16 rfl rfl)
theorem dX24_fits_117 : decode cX24_fits 117 = .ok (.getfield 44, 3) := dk_180 0 44 (dk_at dksX24_fits_4 17 rfl rfl)
theorem dX24_fits_120 : decode cX24_fits 120 = .ok (.iload_n 3, 1) := dk_29 (dk_at dksX24_fits_4 20 rfl rfl)
theorem dX24_fits_121 : decode cX24_fits 121 = .ok (.iaload, 1) := dk_46 (dk_at dksX24_fits_4 21 rfl rfl)
theorem dX24_fits_122 : decode cX24_fits 122 = .ok (.invokevirtual 225, 3) := dk_182 0 225 (dk_at dksX24_fits_5 0 rfl rfl)
theorem dX24_fits_125 : decode cX24_fits 125 = .ok (.iaload, 1) := dk_46 (dk_at dksX24_fits_5 3 rfl rfl)
theorem dX24_fits_126 : decode cX24_fits 126 = .ok (.aload_n 0, 1) := dk_42 (dk_at dksX24_fits_5 4 rfl rfl)
theorem dX24_fits_127 : decode cX24_fits 127 = .ok (.getfield 41, 3) := dk_180 0 41 (dk_at dksX24_fits_5 5 rfl rfl)
theorem dX24_fits_130 : decode cX24_fits 130 = .ok (.iload_n 1, 1) := dk_27 (dk_at dksX24_fits_5 8 rfl rfl)
theorem dX24_fits_131 : decode cX24_fits 131 = .ok (.iaload, 1) := dk_46 (dk_at dksX24_fits_5 9 rfl rfl)
theorem dX24_fits_132 : decode cX24_fits 132 = .ok (.iconst 2, 1) := dk_5 (dk_at dksX24_fits_5 10 rfl rfl)
theorem dX24_fits_133 : decode cX24_fits 133 = .ok (.idiv, 1) := dk_108 (dk_at dksX24_fits_5 11 rfl rfl)
theorem dX24_fits_134 : decode cX24_fits 134 = .ok (.invokevirtual 229, 3) := dk_182 0 229 (dk_at dksX24_fits_5 12 rfl rfl)
theorem dX24_fits_137 : decode cX24_fits 137 = .ok (.ifCond .eq 7, 3) := dk_153 0 7 (dk_at dksX24_fits_5 15 rfl rfl)
theorem dX24_fits_140 : decode cX24_fits 140 = .ok (.iconst 1, 1) := dk_4 (dk_at dksX24_fits_5 18 rfl rfl)
theorem dX24_fits_141 : decode cX24_fits 141 = .ok (.goto 4, 3) := dk_167 0 4 (dk_at dksX24_fits_5 19 rfl rfl)
theorem dX24_fits_144 : decode cX24_fits 144 = .ok (.iconst 0, 1) := dk_3 (dk_at dksX24_fits_5 22 rfl rfl)
theorem dX24_fits_145 : decode cX24_fits 145 = .ok (.ireturn, 1) := dk_172 (dk_at dksX24_fits_5 23 rfl rfl)
theorem dX24_fits_146 : decode cX24_fits 146 = .ok (.iload 4, 2) := dk_21 4 (dk_at dksX24_fits_6 0 rfl rfl)
theorem dX24_fits_148 : decode cX24_fits 148 = .ok (.iconst 3, 1) := dk_6 (dk_at dksX24_fits_6 2 rfl rfl)
theorem dX24_fits_149 : decode cX24_fits 149 = .ok (.if_icmp .ne 28, 3) := dk_160 0 28 (dk_at dksX24_fits_6 3 rfl rfl)
theorem dX24_fits_152 : decode cX24_fits 152 = .ok (.iload 5, 2) := dk_21 5 (dk_at dksX24_fits_6 6 rfl rfl)
theorem dX24_fits_154 : decode cX24_fits 154 = .ok (.iconst 3, 1) := dk_6 (dk_at dksX24_fits_6 8 rfl rfl)
theorem dX24_fits_155 : decode cX24_fits 155 = .ok (.if_icmp .ne 22, 3) := dk_160 0 22 (dk_at dksX24_fits_6 9 rfl rfl)
theorem dX24_fits_158 : decode cX24_fits 158 = .ok (.aload_n 0, 1) := dk_42 (dk_at dksX24_fits_6 12 rfl rfl)
theorem dX24_fits_159 : decode cX24_fits 159 = .ok (.getfield 41, 3) := dk_180 0 41 (dk_at dksX24_fits_6 13 rfl rfl)
theorem dX24_fits_162 : decode cX24_fits 162 = .ok (.iload_n 1, 1) := dk_27 (dk_at dksX24_fits_6 16 rfl rfl)
theorem dX24_fits_163 : decode cX24_fits 163 = .ok (.iaload, 1) := dk_46 (dk_at dksX24_fits_6 17 rfl rfl)
theorem dX24_fits_164 : decode cX24_fits 164 = .ok (.aload_n 0, 1) := dk_42 (dk_at dksX24_fits_6 18 rfl rfl)
theorem dX24_fits_165 : decode cX24_fits 165 = .ok (.getfield 41, 3) := dk_180 0 41 (dk_at dksX24_fits_6 19 rfl rfl)
theorem dX24_fits_168 : decode cX24_fits 168 = .ok (.iload_n 3, 1) := dk_29 (dk_at dksX24_fits_6 22 rfl rfl)
theorem dX24_fits_169 : decode cX24_fits 169 = .ok (.iaload, 1) := dk_46 (dk_at dksX24_fits_6 23 rfl rfl)
theorem dX24_fits_170 : decode cX24_fits 170 = .ok (.if_icmp .eq 7, 3) := dk_159 0 7 (dk_at dksX24_fits_7 0 rfl rfl)
theorem dX24_fits_173 : decode cX24_fits 173 = .ok (.iconst 1, 1) := dk_4 (dk_at dksX24_fits_7 3 rfl rfl)
theorem dX24_fits_174 : decode cX24_fits 174 = .ok (.goto 4, 3) := dk_167 0 4 (dk_at dksX24_fits_7 4 rfl rfl)
theorem dX24_fits_177 : decode cX24_fits 177 = .ok (.iconst 0, 1) := dk_3 (dk_at dksX24_fits_7 7 rfl rfl)
theorem dX24_fits_178 : decode cX24_fits 178 = .ok (.ireturn, 1) := dk_172 (dk_at dksX24_fits_7 8 rfl rfl)
theorem dX24_fits_179 : decode cX24_fits 179 = .ok (.iload 4, 2) := dk_21 4 (dk_at dksX24_fits_7 9 rfl rfl)
theorem dX24_fits_181 : decode cX24_fits 181 = .ok (.iload 5, 2) := dk_21 5 (dk_at dksX24_fits_7 11 rfl rfl)
theorem dX24_fits_183 : decode cX24_fits 183 = .ok (.if_icmp .ne 34, 3) := dk_160 0 34 (dk_at dksX24_fits_7 13 rfl rfl)
theorem dX24_fits_186 : decode cX24_fits 186 = .ok (.iload 4, 2) := dk_21 4 (dk_at dksX24_fits_7 16 rfl rfl)
theorem dX24_fits_188 : decode cX24_fits 188 = .ok (.iconst 3, 1) := dk_6 (dk_at dksX24_fits_7 18 rfl rfl)
theorem dX24_fits_189 : decode cX24_fits 189 = .ok (.if_icmp .eq 9, 3) := dk_159 0 9 (dk_at dksX24_fits_7 19 rfl rfl)
theorem dX24_fits_192 : decode cX24_fits 192 = .ok (.iload 4, 2) := dk_21 4 (dk_at dksX24_fits_7 22 rfl rfl)
theorem dX24_fits_194 : decode cX24_fits 194 = .ok (.iconst 4, 1) := dk_7 (dk_at dksX24_fits_8 0 rfl rfl)
theorem dX24_fits_195 : decode cX24_fits 195 = .ok (.if_icmp .ne 22, 3) := dk_160 0 22 (dk_at dksX24_fits_8 1 rfl rfl)
theorem dX24_fits_198 : decode cX24_fits 198 = .ok (.aload_n 0, 1) := dk_42 (dk_at dksX24_fits_8 4 rfl rfl)
theorem dX24_fits_199 : decode cX24_fits 199 = .ok (.getfield 41, 3) := dk_180 0 41 (dk_at dksX24_fits_8 5 rfl rfl)
theorem dX24_fits_202 : decode cX24_fits 202 = .ok (.iload_n 1, 1) := dk_27 (dk_at dksX24_fits_8 8 rfl rfl)
theorem dX24_fits_203 : decode cX24_fits 203 = .ok (.iaload, 1) := dk_46 (dk_at dksX24_fits_8 9 rfl rfl)
theorem dX24_fits_204 : decode cX24_fits 204 = .ok (.aload_n 0, 1) := dk_42 (dk_at dksX24_fits_8 10 rfl rfl)
theorem dX24_fits_205 : decode cX24_fits 205 = .ok (.getfield 41, 3) := dk_180 0 41 (dk_at dksX24_fits_8 11 rfl rfl)
theorem dX24_fits_208 : decode cX24_fits 208 = .ok (.iload_n 3, 1) := dk_29 (dk_at dksX24_fits_8 14 rfl rfl)
theorem dX24_fits_209 : decode cX24_fits 209 = .ok (.iaload, 1) := dk_46 (dk_at dksX24_fits_8 15 rfl rfl)
theorem dX24_fits_210 : decode cX24_fits 210 = .ok (.if_icmp .ne 7, 3) := dk_160 0 7 (dk_at dksX24_fits_8 16 rfl rfl)
theorem dX24_fits_213 : decode cX24_fits 213 = .ok (.iconst 1, 1) := dk_4 (dk_at dksX24_fits_8 19 rfl rfl)
theorem dX24_fits_214 : decode cX24_fits 214 = .ok (.goto 4, 3) := dk_167 0 4 (dk_at dksX24_fits_8 20 rfl rfl)
theorem dX24_fits_217 : decode cX24_fits 217 = .ok (.iconst 0, 1) := dk_3 (dk_at dksX24_fits_8 23 rfl rfl)
theorem dX24_fits_218 : decode cX24_fits 218 = .ok (.ireturn, 1) := dk_172 (dk_at dksX24_fits_9 0 rfl rfl)
theorem dX24_fits_219 : decode cX24_fits 219 = .ok (.iload 4, 2) := dk_21 4 (dk_at dksX24_fits_9 1 rfl rfl)
theorem dX24_fits_221 : decode cX24_fits 221 = .ok (.iconst 4, 1) := dk_7 (dk_at dksX24_fits_9 3 rfl rfl)
theorem dX24_fits_222 : decode cX24_fits 222 = .ok (.if_icmp .ne 30, 3) := dk_160 0 30 (dk_at dksX24_fits_9 4 rfl rfl)
theorem dX24_fits_225 : decode cX24_fits 225 = .ok (.iload 5, 2) := dk_21 5 (dk_at dksX24_fits_9 7 rfl rfl)
theorem dX24_fits_227 : decode cX24_fits 227 = .ok (.iconst 3, 1) := dk_6 (dk_at dksX24_fits_9 9 rfl rfl)
theorem dX24_fits_228 : decode cX24_fits 228 = .ok (.if_icmp .ne 24, 3) := dk_160 0 24 (dk_at dksX24_fits_9 10 rfl rfl)
theorem dX24_fits_231 : decode cX24_fits 231 = .ok (.aload_n 0, 1) := dk_42 (dk_at dksX24_fits_9 13 rfl rfl)
theorem dX24_fits_232 : decode cX24_fits 232 = .ok (.getfield 41, 3) := dk_180 0 41 (dk_at dksX24_fits_9 14 rfl rfl)
theorem dX24_fits_235 : decode cX24_fits 235 = .ok (.iload_n 3, 1) := dk_29 (dk_at dksX24_fits_9 17 rfl rfl)
theorem dX24_fits_236 : decode cX24_fits 236 = .ok (.iaload, 1) := dk_46 (dk_at dksX24_fits_9 18 rfl rfl)
theorem dX24_fits_237 : decode cX24_fits 237 = .ok (.iconst 2, 1) := dk_5 (dk_at dksX24_fits_9 19 rfl rfl)
theorem dX24_fits_238 : decode cX24_fits 238 = .ok (.idiv, 1) := dk_108 (dk_at dksX24_fits_9 20 rfl rfl)
theorem dX24_fits_239 : decode cX24_fits 239 = .ok (.aload_n 0, 1) := dk_42 (dk_at dksX24_fits_9 21 rfl rfl)
theorem dX24_fits_240 : decode cX24_fits 240 = .ok (.getfield 41, 3) := dk_180 0 41 (dk_at dksX24_fits_10 0 rfl rfl)
theorem dX24_fits_243 : decode cX24_fits 243 = .ok (.iload_n 1, 1) := dk_27 (dk_at dksX24_fits_10 3 rfl rfl)
theorem dX24_fits_244 : decode cX24_fits 244 = .ok (.iaload, 1) := dk_46 (dk_at dksX24_fits_10 4 rfl rfl)
theorem dX24_fits_245 : decode cX24_fits 245 = .ok (.if_icmp .ne 7, 3) := dk_160 0 7 (dk_at dksX24_fits_10 5 rfl rfl)
theorem dX24_fits_248 : decode cX24_fits 248 = .ok (.iconst 1, 1) := dk_4 (dk_at dksX24_fits_10 8 rfl rfl)
theorem dX24_fits_249 : decode cX24_fits 249 = .ok (.goto 4, 3) := dk_167 0 4 (dk_at dksX24_fits_10 9 rfl rfl)
theorem dX24_fits_252 : decode cX24_fits 252 = .ok (.iconst 0, 1) := dk_3 (dk_at dksX24_fits_10 12 rfl rfl)
theorem dX24_fits_253 : decode cX24_fits 253 = .ok (.ireturn, 1) := dk_172 (dk_at dksX24_fits_10 13 rfl rfl)
theorem dX24_fits_254 : decode cX24_fits 254 = .ok (.iload 4, 2) := dk_21 4 (dk_at dksX24_fits_10 14 rfl rfl)
theorem dX24_fits_256 : decode cX24_fits 256 = .ok (.bipush 6, 2) := dk_16 6 (dk_at dksX24_fits_10 16 rfl rfl)
theorem dX24_fits_258 : decode cX24_fits 258 = .ok (.if_icmp .ne 14, 3) := dk_160 0 14 (dk_at dksX24_fits_10 18 rfl rfl)
theorem dX24_fits_261 : decode cX24_fits 261 = .ok (.iload 5, 2) := dk_21 5 (dk_at dksX24_fits_10 21 rfl rfl)
theorem dX24_fits_263 : decode cX24_fits 263 = .ok (.bipush 6, 2) := dk_16 6 (dk_at dksX24_fits_11 0 rfl rfl)
theorem dX24_fits_265 : decode cX24_fits 265 = .ok (.if_icmp .ne 7, 3) := dk_160 0 7 (dk_at dksX24_fits_11 2 rfl rfl)
theorem dX24_fits_268 : decode cX24_fits 268 = .ok (.iconst 1, 1) := dk_4 (dk_at dksX24_fits_11 5 rfl rfl)
theorem dX24_fits_269 : decode cX24_fits 269 = .ok (.goto 4, 3) := dk_167 0 4 (dk_at dksX24_fits_11 6 rfl rfl)
theorem dX24_fits_272 : decode cX24_fits 272 = .ok (.iconst 0, 1) := dk_3 (dk_at dksX24_fits_11 9 rfl rfl)
theorem dX24_fits_273 : decode cX24_fits 273 = .ok (.ireturn, 1) := dk_172 (dk_at dksX24_fits_11 10 rfl rfl)
abbrev cX24_news : ByteArray := prog_53_method_50_code
def yX24_news : MethodName := ⟨RX24, "news", "()I"⟩
def dkwX24_news_5 : List UInt8 := [172]
abbrev dktX24_news_5 : List UInt8 := dkwX24_news_5 ++ []
def dkwX24_news_4 : List UInt8 := [42, 180, 0, 184, 5, 46, 42, 180, 0, 184, 6, 46, 182, 0, 251, 2, 160, 0, 7, 4, 167, 0, 4, 3]
abbrev dktX24_news_4 : List UInt8 := dkwX24_news_4 ++ dktX24_news_5
def dkwX24_news_3 : List UInt8 := [180, 0, 50, 27, 46, 182, 0, 225, 182, 1, 83, 42, 42, 180, 0, 184, 3, 46, 42, 180, 0, 184, 4, 46]
abbrev dktX24_news_3 : List UInt8 := dkwX24_news_3 ++ dktX24_news_4
def dkwX24_news_2 : List UInt8 := [182, 0, 251, 60, 27, 2, 160, 0, 5, 5, 172, 42, 27, 2, 160, 0, 7, 3, 167, 0, 13, 42, 42]
abbrev dktX24_news_2 : List UInt8 := dkwX24_news_2 ++ dktX24_news_3
def dkwX24_news_1 : List UInt8 := [42, 180, 0, 184, 3, 46, 42, 180, 0, 184, 4, 46, 42, 180, 0, 184, 5, 46, 42, 180, 0, 184, 6, 46]
abbrev dktX24_news_1 : List UInt8 := dkwX24_news_1 ++ dktX24_news_2
def dkwX24_news_0 : List UInt8 := [42, 180, 1, 67, 7, 160, 0, 5, 3, 172, 2, 60, 42, 180, 1, 67, 158, 0, 43, 42, 182, 1, 80, 42]
abbrev dktX24_news_0 : List UInt8 := dkwX24_news_0 ++ dktX24_news_1
theorem dksX24_news_0 : cX24_news.data.toList.drop 0 = dktX24_news_0 := by decide +kernel
theorem dksX24_news_1 : cX24_news.data.toList.drop 24 = dktX24_news_1 := dk_seg dksX24_news_0 24 rfl rfl
theorem dksX24_news_2 : cX24_news.data.toList.drop 48 = dktX24_news_2 := dk_seg dksX24_news_1 24 rfl rfl
theorem dksX24_news_3 : cX24_news.data.toList.drop 71 = dktX24_news_3 := dk_seg dksX24_news_2 23 rfl rfl
theorem dksX24_news_4 : cX24_news.data.toList.drop 95 = dktX24_news_4 := dk_seg dksX24_news_3 24 rfl rfl
theorem dksX24_news_5 : cX24_news.data.toList.drop 119 = dktX24_news_5 := dk_seg dksX24_news_4 24 rfl rfl
theorem dX24_news_0 : decode cX24_news 0 = .ok (.aload_n 0, 1) := dk_42 (dk_at dksX24_news_0 0 rfl rfl)
theorem dX24_news_1 : decode cX24_news 1 = .ok (.getfield 323, 3) := dk_180 1 67 (dk_at dksX24_news_0 1 rfl rfl)
theorem dX24_news_4 : decode cX24_news 4 = .ok (.iconst 4, 1) := dk_7 (dk_at dksX24_news_0 4 rfl rfl)
theorem dX24_news_5 : decode cX24_news 5 = .ok (.if_icmp .ne 5, 3) := dk_160 0 5 (dk_at dksX24_news_0 5 rfl rfl)
theorem dX24_news_8 : decode cX24_news 8 = .ok (.iconst 0, 1) := dk_3 (dk_at dksX24_news_0 8 rfl rfl)
theorem dX24_news_9 : decode cX24_news 9 = .ok (.ireturn, 1) := dk_172 (dk_at dksX24_news_0 9 rfl rfl)
theorem dX24_news_10 : decode cX24_news 10 = .ok (.iconst (-1), 1) := dk_2 (dk_at dksX24_news_0 10 rfl rfl)
theorem dX24_news_11 : decode cX24_news 11 = .ok (.istore_n 1, 1) := dk_60 (dk_at dksX24_news_0 11 rfl rfl)
theorem dX24_news_12 : decode cX24_news 12 = .ok (.aload_n 0, 1) := dk_42 (dk_at dksX24_news_0 12 rfl rfl)
theorem dX24_news_13 : decode cX24_news 13 = .ok (.getfield 323, 3) := dk_180 1 67 (dk_at dksX24_news_0 13 rfl rfl)
theorem dX24_news_16 : decode cX24_news 16 = .ok (.ifCond .le 43, 3) := dk_158 0 43 (dk_at dksX24_news_0 16 rfl rfl)
theorem dX24_news_19 : decode cX24_news 19 = .ok (.aload_n 0, 1) := dk_42 (dk_at dksX24_news_0 19 rfl rfl)
theorem dX24_news_20 : decode cX24_news 20 = .ok (.invokevirtual 336, 3) := dk_182 1 80 (dk_at dksX24_news_0 20 rfl rfl)
theorem dX24_news_23 : decode cX24_news 23 = .ok (.aload_n 0, 1) := dk_42 (dk_at dksX24_news_0 23 rfl rfl)
theorem dX24_news_24 : decode cX24_news 24 = .ok (.aload_n 0, 1) := dk_42 (dk_at dksX24_news_1 0 rfl rfl)
theorem dX24_news_25 : decode cX24_news 25 = .ok (.getfield 184, 3) := dk_180 0 184 (dk_at dksX24_news_1 1 rfl rfl)
theorem dX24_news_28 : decode cX24_news 28 = .ok (.iconst 0, 1) := dk_3 (dk_at dksX24_news_1 4 rfl rfl)
theorem dX24_news_29 : decode cX24_news 29 = .ok (.iaload, 1) := dk_46 (dk_at dksX24_news_1 5 rfl rfl)
theorem dX24_news_30 : decode cX24_news 30 = .ok (.aload_n 0, 1) := dk_42 (dk_at dksX24_news_1 6 rfl rfl)
theorem dX24_news_31 : decode cX24_news 31 = .ok (.getfield 184, 3) := dk_180 0 184 (dk_at dksX24_news_1 7 rfl rfl)
theorem dX24_news_34 : decode cX24_news 34 = .ok (.iconst 1, 1) := dk_4 (dk_at dksX24_news_1 10 rfl rfl)
theorem dX24_news_35 : decode cX24_news 35 = .ok (.iaload, 1) := dk_46 (dk_at dksX24_news_1 11 rfl rfl)
theorem dX24_news_36 : decode cX24_news 36 = .ok (.aload_n 0, 1) := dk_42 (dk_at dksX24_news_1 12 rfl rfl)
theorem dX24_news_37 : decode cX24_news 37 = .ok (.getfield 184, 3) := dk_180 0 184 (dk_at dksX24_news_1 13 rfl rfl)
theorem dX24_news_40 : decode cX24_news 40 = .ok (.iconst 2, 1) := dk_5 (dk_at dksX24_news_1 16 rfl rfl)
theorem dX24_news_41 : decode cX24_news 41 = .ok (.iaload, 1) := dk_46 (dk_at dksX24_news_1 17 rfl rfl)
theorem dX24_news_42 : decode cX24_news 42 = .ok (.aload_n 0, 1) := dk_42 (dk_at dksX24_news_1 18 rfl rfl)
theorem dX24_news_43 : decode cX24_news 43 = .ok (.getfield 184, 3) := dk_180 0 184 (dk_at dksX24_news_1 19 rfl rfl)
theorem dX24_news_46 : decode cX24_news 46 = .ok (.iconst 3, 1) := dk_6 (dk_at dksX24_news_1 22 rfl rfl)
theorem dX24_news_47 : decode cX24_news 47 = .ok (.iaload, 1) := dk_46 (dk_at dksX24_news_1 23 rfl rfl)
theorem dX24_news_48 : decode cX24_news 48 = .ok (.invokevirtual 251, 3) := dk_182 0 251 (dk_at dksX24_news_2 0 rfl rfl)
theorem dX24_news_51 : decode cX24_news 51 = .ok (.istore_n 1, 1) := dk_60 (dk_at dksX24_news_2 3 rfl rfl)
theorem dX24_news_52 : decode cX24_news 52 = .ok (.iload_n 1, 1) := dk_27 (dk_at dksX24_news_2 4 rfl rfl)
theorem dX24_news_53 : decode cX24_news 53 = .ok (.iconst (-1), 1) := dk_2 (dk_at dksX24_news_2 5 rfl rfl)
theorem dX24_news_54 : decode cX24_news 54 = .ok (.if_icmp .ne 5, 3) := dk_160 0 5 (dk_at dksX24_news_2 6 rfl rfl)
theorem dX24_news_57 : decode cX24_news 57 = .ok (.iconst 2, 1) := dk_5 (dk_at dksX24_news_2 9 rfl rfl)
theorem dX24_news_58 : decode cX24_news 58 = .ok (.ireturn, 1) := dk_172 (dk_at dksX24_news_2 10 rfl rfl)
theorem dX24_news_59 : decode cX24_news 59 = .ok (.aload_n 0, 1) := dk_42 (dk_at dksX24_news_2 11 rfl rfl)
theorem dX24_news_60 : decode cX24_news 60 = .ok (.iload_n 1, 1) := dk_27 (dk_at dksX24_news_2 12 rfl rfl)
theorem dX24_news_61 : decode cX24_news 61 = .ok (.iconst (-1), 1) := dk_2 (dk_at dksX24_news_2 13 rfl rfl)
theorem dX24_news_62 : decode cX24_news 62 = .ok (.if_icmp .ne 7, 3) := dk_160 0 7 (dk_at dksX24_news_2 14 rfl rfl)
theorem dX24_news_65 : decode cX24_news 65 = .ok (.iconst 0, 1) := dk_3 (dk_at dksX24_news_2 17 rfl rfl)
theorem dX24_news_66 : decode cX24_news 66 = .ok (.goto 13, 3) := dk_167 0 13 (dk_at dksX24_news_2 18 rfl rfl)
theorem dX24_news_69 : decode cX24_news 69 = .ok (.aload_n 0, 1) := dk_42 (dk_at dksX24_news_2 21 rfl rfl)
theorem dX24_news_70 : decode cX24_news 70 = .ok (.aload_n 0, 1) := dk_42 (dk_at dksX24_news_2 22 rfl rfl)
theorem dX24_news_71 : decode cX24_news 71 = .ok (.getfield 50, 3) := dk_180 0 50 (dk_at dksX24_news_3 0 rfl rfl)
theorem dX24_news_74 : decode cX24_news 74 = .ok (.iload_n 1, 1) := dk_27 (dk_at dksX24_news_3 3 rfl rfl)
theorem dX24_news_75 : decode cX24_news 75 = .ok (.iaload, 1) := dk_46 (dk_at dksX24_news_3 4 rfl rfl)
theorem dX24_news_76 : decode cX24_news 76 = .ok (.invokevirtual 225, 3) := dk_182 0 225 (dk_at dksX24_news_3 5 rfl rfl)
theorem dX24_news_79 : decode cX24_news 79 = .ok (.invokevirtual 339, 3) := dk_182 1 83 (dk_at dksX24_news_3 8 rfl rfl)
theorem dX24_news_82 : decode cX24_news 82 = .ok (.aload_n 0, 1) := dk_42 (dk_at dksX24_news_3 11 rfl rfl)
theorem dX24_news_83 : decode cX24_news 83 = .ok (.aload_n 0, 1) := dk_42 (dk_at dksX24_news_3 12 rfl rfl)
theorem dX24_news_84 : decode cX24_news 84 = .ok (.getfield 184, 3) := dk_180 0 184 (dk_at dksX24_news_3 13 rfl rfl)
theorem dX24_news_87 : decode cX24_news 87 = .ok (.iconst 0, 1) := dk_3 (dk_at dksX24_news_3 16 rfl rfl)
theorem dX24_news_88 : decode cX24_news 88 = .ok (.iaload, 1) := dk_46 (dk_at dksX24_news_3 17 rfl rfl)
theorem dX24_news_89 : decode cX24_news 89 = .ok (.aload_n 0, 1) := dk_42 (dk_at dksX24_news_3 18 rfl rfl)
theorem dX24_news_90 : decode cX24_news 90 = .ok (.getfield 184, 3) := dk_180 0 184 (dk_at dksX24_news_3 19 rfl rfl)
theorem dX24_news_93 : decode cX24_news 93 = .ok (.iconst 1, 1) := dk_4 (dk_at dksX24_news_3 22 rfl rfl)
theorem dX24_news_94 : decode cX24_news 94 = .ok (.iaload, 1) := dk_46 (dk_at dksX24_news_3 23 rfl rfl)
theorem dX24_news_95 : decode cX24_news 95 = .ok (.aload_n 0, 1) := dk_42 (dk_at dksX24_news_4 0 rfl rfl)
theorem dX24_news_96 : decode cX24_news 96 = .ok (.getfield 184, 3) := dk_180 0 184 (dk_at dksX24_news_4 1 rfl rfl)
theorem dX24_news_99 : decode cX24_news 99 = .ok (.iconst 2, 1) := dk_5 (dk_at dksX24_news_4 4 rfl rfl)
theorem dX24_news_100 : decode cX24_news 100 = .ok (.iaload, 1) := dk_46 (dk_at dksX24_news_4 5 rfl rfl)
theorem dX24_news_101 : decode cX24_news 101 = .ok (.aload_n 0, 1) := dk_42 (dk_at dksX24_news_4 6 rfl rfl)
theorem dX24_news_102 : decode cX24_news 102 = .ok (.getfield 184, 3) := dk_180 0 184 (dk_at dksX24_news_4 7 rfl rfl)
theorem dX24_news_105 : decode cX24_news 105 = .ok (.iconst 3, 1) := dk_6 (dk_at dksX24_news_4 10 rfl rfl)
theorem dX24_news_106 : decode cX24_news 106 = .ok (.iaload, 1) := dk_46 (dk_at dksX24_news_4 11 rfl rfl)
theorem dX24_news_107 : decode cX24_news 107 = .ok (.invokevirtual 251, 3) := dk_182 0 251 (dk_at dksX24_news_4 12 rfl rfl)
theorem dX24_news_110 : decode cX24_news 110 = .ok (.iconst (-1), 1) := dk_2 (dk_at dksX24_news_4 15 rfl rfl)
theorem dX24_news_111 : decode cX24_news 111 = .ok (.if_icmp .ne 7, 3) := dk_160 0 7 (dk_at dksX24_news_4 16 rfl rfl)
theorem dX24_news_114 : decode cX24_news 114 = .ok (.iconst 1, 1) := dk_4 (dk_at dksX24_news_4 19 rfl rfl)
theorem dX24_news_115 : decode cX24_news 115 = .ok (.goto 4, 3) := dk_167 0 4 (dk_at dksX24_news_4 20 rfl rfl)
theorem dX24_news_118 : decode cX24_news 118 = .ok (.iconst 0, 1) := dk_3 (dk_at dksX24_news_4 23 rfl rfl)
theorem dX24_news_119 : decode cX24_news 119 = .ok (.ireturn, 1) := dk_172 (dk_at dksX24_news_5 0 rfl rfl)
abbrev cX24_bracket : ByteArray := prog_53_method_48_code
def yX24_bracket : MethodName := ⟨RX24, "bracket", "()V"⟩
def dkwX24_bracket_6 : List UInt8 := [180, 0, 47, 27, 46, 182, 1, 76, 177]
abbrev dktX24_bracket_6 : List UInt8 := dkwX24_bracket_6 ++ []
def dkwX24_bracket_5 : List UInt8 := [28, 46, 182, 1, 76, 167, 0, 27, 42, 16, 6, 42, 180, 0, 41, 27, 46, 42, 180, 0, 44, 28, 46, 42]
abbrev dktX24_bracket_5 : List UInt8 := dkwX24_bracket_5 ++ dktX24_bracket_6
def dkwX24_bracket_4 : List UInt8 := [182, 1, 76, 167, 0, 53, 42, 7, 42, 180, 0, 41, 27, 46, 42, 180, 0, 44, 28, 46, 42, 180, 0, 44]
abbrev dktX24_bracket_4 : List UInt8 := dkwX24_bracket_4 ++ dktX24_bracket_5
def dkwX24_bracket_3 : List UInt8 := [167, 0, 79, 42, 6, 42, 180, 0, 41, 27, 46, 42, 180, 0, 44, 28, 46, 42, 180, 0, 44, 28, 46]
abbrev dktX24_bracket_3 : List UInt8 := dkwX24_bracket_3 ++ dktX24_bracket_4
def dkwX24_bracket_2 : List UInt8 := [42, 8, 42, 180, 0, 41, 27, 46, 42, 180, 0, 47, 28, 46, 42, 180, 0, 47, 27, 46, 182, 1, 76]
abbrev dktX24_bracket_2 : List UInt8 := dkwX24_bracket_2 ++ dktX24_bracket_3
def dkwX24_bracket_1 : List UInt8 := [170, 0, 0, 0, 0, 112, 0, 0, 0, 1, 0, 0, 0, 5, 0, 0, 0, 34, 0, 0, 0, 60, 0, 0, 0, 60, 0, 0, 0, 112, 0, 0, 0, 86]
abbrev dktX24_bracket_1 : List UInt8 := dkwX24_bracket_1 ++ dktX24_bracket_2
def dkwX24_bracket_0 : List UInt8 := [42, 180, 1, 64, 60, 42, 180, 1, 70, 61, 42, 180, 1, 67]
abbrev dktX24_bracket_0 : List UInt8 := dkwX24_bracket_0 ++ dktX24_bracket_1
theorem dksX24_bracket_0 : cX24_bracket.data.toList.drop 0 = dktX24_bracket_0 := by decide +kernel
theorem dksX24_bracket_1 : cX24_bracket.data.toList.drop 14 = dktX24_bracket_1 := dk_seg dksX24_bracket_0 14 rfl rfl
theorem dksX24_bracket_2 : cX24_bracket.data.toList.drop 48 = dktX24_bracket_2 := dk_seg dksX24_bracket_1 34 rfl rfl
theorem dksX24_bracket_3 : cX24_bracket.data.toList.drop 71 = dktX24_bracket_3 := dk_seg dksX24_bracket_2 23 rfl rfl
theorem dksX24_bracket_4 : cX24_bracket.data.toList.drop 94 = dktX24_bracket_4 := dk_seg dksX24_bracket_3 23 rfl rfl
theorem dksX24_bracket_5 : cX24_bracket.data.toList.drop 118 = dktX24_bracket_5 := dk_seg dksX24_bracket_4 24 rfl rfl
theorem dksX24_bracket_6 : cX24_bracket.data.toList.drop 142 = dktX24_bracket_6 := dk_seg dksX24_bracket_5 24 rfl rfl
theorem dX24_bracket_0 : decode cX24_bracket 0 = .ok (.aload_n 0, 1) := dk_42 (dk_at dksX24_bracket_0 0 rfl rfl)
theorem dX24_bracket_1 : decode cX24_bracket 1 = .ok (.getfield 320, 3) := dk_180 1 64 (dk_at dksX24_bracket_0 1 rfl rfl)
theorem dX24_bracket_4 : decode cX24_bracket 4 = .ok (.istore_n 1, 1) := dk_60 (dk_at dksX24_bracket_0 4 rfl rfl)
theorem dX24_bracket_5 : decode cX24_bracket 5 = .ok (.aload_n 0, 1) := dk_42 (dk_at dksX24_bracket_0 5 rfl rfl)
theorem dX24_bracket_6 : decode cX24_bracket 6 = .ok (.getfield 326, 3) := dk_180 1 70 (dk_at dksX24_bracket_0 6 rfl rfl)
theorem dX24_bracket_9 : decode cX24_bracket 9 = .ok (.istore_n 2, 1) := dk_61 (dk_at dksX24_bracket_0 9 rfl rfl)
theorem dX24_bracket_10 : decode cX24_bracket 10 = .ok (.aload_n 0, 1) := dk_42 (dk_at dksX24_bracket_0 10 rfl rfl)
theorem dX24_bracket_11 : decode cX24_bracket 11 = .ok (.getfield 323, 3) := dk_180 1 67 (dk_at dksX24_bracket_0 11 rfl rfl)
theorem dX24_bracket_14 : decode cX24_bracket 14 = .ok (.tableswitch 112 1 5 #[34, 60, 60, 112, 86], 34) := by decide +kernel
theorem dX24_bracket_48 : decode cX24_bracket 48 = .ok (.aload_n 0, 1) := dk_42 (dk_at dksX24_bracket_2 0 rfl rfl)
theorem dX24_bracket_49 : decode cX24_bracket 49 = .ok (.iconst 5, 1) := dk_8 (dk_at dksX24_bracket_2 1 rfl rfl)
theorem dX24_bracket_50 : decode cX24_bracket 50 = .ok (.aload_n 0, 1) := dk_42 (dk_at dksX24_bracket_2 2 rfl rfl)
theorem dX24_bracket_51 : decode cX24_bracket 51 = .ok (.getfield 41, 3) := dk_180 0 41 (dk_at dksX24_bracket_2 3 rfl rfl)
theorem dX24_bracket_54 : decode cX24_bracket 54 = .ok (.iload_n 1, 1) := dk_27 (dk_at dksX24_bracket_2 6 rfl rfl)
theorem dX24_bracket_55 : decode cX24_bracket 55 = .ok (.iaload, 1) := dk_46 (dk_at dksX24_bracket_2 7 rfl rfl)
theorem dX24_bracket_56 : decode cX24_bracket 56 = .ok (.aload_n 0, 1) := dk_42 (dk_at dksX24_bracket_2 8 rfl rfl)
theorem dX24_bracket_57 : decode cX24_bracket 57 = .ok (.getfield 47, 3) := dk_180 0 47 (dk_at dksX24_bracket_2 9 rfl rfl)
theorem dX24_bracket_60 : decode cX24_bracket 60 = .ok (.iload_n 2, 1) := dk_28 (dk_at dksX24_bracket_2 12 rfl rfl)
theorem dX24_bracket_61 : decode cX24_bracket 61 = .ok (.iaload, 1) := dk_46 (dk_at dksX24_bracket_2 13 rfl rfl)
theorem dX24_bracket_62 : decode cX24_bracket 62 = .ok (.aload_n 0, 1) := dk_42 (dk_at dksX24_bracket_2 14 rfl rfl)
theorem dX24_bracket_63 : decode cX24_bracket 63 = .ok (.getfield 47, 3) := dk_180 0 47 (dk_at dksX24_bracket_2 15 rfl rfl)
theorem dX24_bracket_66 : decode cX24_bracket 66 = .ok (.iload_n 1, 1) := dk_27 (dk_at dksX24_bracket_2 18 rfl rfl)
theorem dX24_bracket_67 : decode cX24_bracket 67 = .ok (.iaload, 1) := dk_46 (dk_at dksX24_bracket_2 19 rfl rfl)
theorem dX24_bracket_68 : decode cX24_bracket 68 = .ok (.invokevirtual 332, 3) := dk_182 1 76 (dk_at dksX24_bracket_2 20 rfl rfl)
theorem dX24_bracket_71 : decode cX24_bracket 71 = .ok (.goto 79, 3) := dk_167 0 79 (dk_at dksX24_bracket_3 0 rfl rfl)
theorem dX24_bracket_74 : decode cX24_bracket 74 = .ok (.aload_n 0, 1) := dk_42 (dk_at dksX24_bracket_3 3 rfl rfl)
theorem dX24_bracket_75 : decode cX24_bracket 75 = .ok (.iconst 3, 1) := dk_6 (dk_at dksX24_bracket_3 4 rfl rfl)
theorem dX24_bracket_76 : decode cX24_bracket 76 = .ok (.aload_n 0, 1) := dk_42 (dk_at dksX24_bracket_3 5 rfl rfl)
theorem dX24_bracket_77 : decode cX24_bracket 77 = .ok (.getfield 41, 3) := dk_180 0 41 (dk_at dksX24_bracket_3 6 rfl rfl)
theorem dX24_bracket_80 : decode cX24_bracket 80 = .ok (.iload_n 1, 1) := dk_27 (dk_at dksX24_bracket_3 9 rfl rfl)
theorem dX24_bracket_81 : decode cX24_bracket 81 = .ok (.iaload, 1) := dk_46 (dk_at dksX24_bracket_3 10 rfl rfl)
theorem dX24_bracket_82 : decode cX24_bracket 82 = .ok (.aload_n 0, 1) := dk_42 (dk_at dksX24_bracket_3 11 rfl rfl)
theorem dX24_bracket_83 : decode cX24_bracket 83 = .ok (.getfield 44, 3) := dk_180 0 44 (dk_at dksX24_bracket_3 12 rfl rfl)
theorem dX24_bracket_86 : decode cX24_bracket 86 = .ok (.iload_n 2, 1) := dk_28 (dk_at dksX24_bracket_3 15 rfl rfl)
theorem dX24_bracket_87 : decode cX24_bracket 87 = .ok (.iaload, 1) := dk_46 (dk_at dksX24_bracket_3 16 rfl rfl)
theorem dX24_bracket_88 : decode cX24_bracket 88 = .ok (.aload_n 0, 1) := dk_42 (dk_at dksX24_bracket_3 17 rfl rfl)
theorem dX24_bracket_89 : decode cX24_bracket 89 = .ok (.getfield 44, 3) := dk_180 0 44 (dk_at dksX24_bracket_3 18 rfl rfl)
theorem dX24_bracket_92 : decode cX24_bracket 92 = .ok (.iload_n 2, 1) := dk_28 (dk_at dksX24_bracket_3 21 rfl rfl)
theorem dX24_bracket_93 : decode cX24_bracket 93 = .ok (.iaload, 1) := dk_46 (dk_at dksX24_bracket_3 22 rfl rfl)
theorem dX24_bracket_94 : decode cX24_bracket 94 = .ok (.invokevirtual 332, 3) := dk_182 1 76 (dk_at dksX24_bracket_4 0 rfl rfl)
theorem dX24_bracket_97 : decode cX24_bracket 97 = .ok (.goto 53, 3) := dk_167 0 53 (dk_at dksX24_bracket_4 3 rfl rfl)
theorem dX24_bracket_100 : decode cX24_bracket 100 = .ok (.aload_n 0, 1) := dk_42 (dk_at dksX24_bracket_4 6 rfl rfl)
theorem dX24_bracket_101 : decode cX24_bracket 101 = .ok (.iconst 4, 1) := dk_7 (dk_at dksX24_bracket_4 7 rfl rfl)
theorem dX24_bracket_102 : decode cX24_bracket 102 = .ok (.aload_n 0, 1) := dk_42 (dk_at dksX24_bracket_4 8 rfl rfl)
theorem dX24_bracket_103 : decode cX24_bracket 103 = .ok (.getfield 41, 3) := dk_180 0 41 (dk_at dksX24_bracket_4 9 rfl rfl)
theorem dX24_bracket_106 : decode cX24_bracket 106 = .ok (.iload_n 1, 1) := dk_27 (dk_at dksX24_bracket_4 12 rfl rfl)
theorem dX24_bracket_107 : decode cX24_bracket 107 = .ok (.iaload, 1) := dk_46 (dk_at dksX24_bracket_4 13 rfl rfl)
theorem dX24_bracket_108 : decode cX24_bracket 108 = .ok (.aload_n 0, 1) := dk_42 (dk_at dksX24_bracket_4 14 rfl rfl)
theorem dX24_bracket_109 : decode cX24_bracket 109 = .ok (.getfield 44, 3) := dk_180 0 44 (dk_at dksX24_bracket_4 15 rfl rfl)
theorem dX24_bracket_112 : decode cX24_bracket 112 = .ok (.iload_n 2, 1) := dk_28 (dk_at dksX24_bracket_4 18 rfl rfl)
theorem dX24_bracket_113 : decode cX24_bracket 113 = .ok (.iaload, 1) := dk_46 (dk_at dksX24_bracket_4 19 rfl rfl)
theorem dX24_bracket_114 : decode cX24_bracket 114 = .ok (.aload_n 0, 1) := dk_42 (dk_at dksX24_bracket_4 20 rfl rfl)
theorem dX24_bracket_115 : decode cX24_bracket 115 = .ok (.getfield 44, 3) := dk_180 0 44 (dk_at dksX24_bracket_4 21 rfl rfl)
theorem dX24_bracket_118 : decode cX24_bracket 118 = .ok (.iload_n 2, 1) := dk_28 (dk_at dksX24_bracket_5 0 rfl rfl)
theorem dX24_bracket_119 : decode cX24_bracket 119 = .ok (.iaload, 1) := dk_46 (dk_at dksX24_bracket_5 1 rfl rfl)
theorem dX24_bracket_120 : decode cX24_bracket 120 = .ok (.invokevirtual 332, 3) := dk_182 1 76 (dk_at dksX24_bracket_5 2 rfl rfl)
theorem dX24_bracket_123 : decode cX24_bracket 123 = .ok (.goto 27, 3) := dk_167 0 27 (dk_at dksX24_bracket_5 5 rfl rfl)
theorem dX24_bracket_126 : decode cX24_bracket 126 = .ok (.aload_n 0, 1) := dk_42 (dk_at dksX24_bracket_5 8 rfl rfl)
theorem dX24_bracket_127 : decode cX24_bracket 127 = .ok (.bipush 6, 2) := dk_16 6 (dk_at dksX24_bracket_5 9 rfl rfl)
theorem dX24_bracket_129 : decode cX24_bracket 129 = .ok (.aload_n 0, 1) := dk_42 (dk_at dksX24_bracket_5 11 rfl rfl)
theorem dX24_bracket_130 : decode cX24_bracket 130 = .ok (.getfield 41, 3) := dk_180 0 41 (dk_at dksX24_bracket_5 12 rfl rfl)
theorem dX24_bracket_133 : decode cX24_bracket 133 = .ok (.iload_n 1, 1) := dk_27 (dk_at dksX24_bracket_5 15 rfl rfl)
theorem dX24_bracket_134 : decode cX24_bracket 134 = .ok (.iaload, 1) := dk_46 (dk_at dksX24_bracket_5 16 rfl rfl)
theorem dX24_bracket_135 : decode cX24_bracket 135 = .ok (.aload_n 0, 1) := dk_42 (dk_at dksX24_bracket_5 17 rfl rfl)
theorem dX24_bracket_136 : decode cX24_bracket 136 = .ok (.getfield 44, 3) := dk_180 0 44 (dk_at dksX24_bracket_5 18 rfl rfl)
theorem dX24_bracket_139 : decode cX24_bracket 139 = .ok (.iload_n 2, 1) := dk_28 (dk_at dksX24_bracket_5 21 rfl rfl)
theorem dX24_bracket_140 : decode cX24_bracket 140 = .ok (.iaload, 1) := dk_46 (dk_at dksX24_bracket_5 22 rfl rfl)
theorem dX24_bracket_141 : decode cX24_bracket 141 = .ok (.aload_n 0, 1) := dk_42 (dk_at dksX24_bracket_5 23 rfl rfl)
theorem dX24_bracket_142 : decode cX24_bracket 142 = .ok (.getfield 47, 3) := dk_180 0 47 (dk_at dksX24_bracket_6 0 rfl rfl)
theorem dX24_bracket_145 : decode cX24_bracket 145 = .ok (.iload_n 1, 1) := dk_27 (dk_at dksX24_bracket_6 3 rfl rfl)
theorem dX24_bracket_146 : decode cX24_bracket 146 = .ok (.iaload, 1) := dk_46 (dk_at dksX24_bracket_6 4 rfl rfl)
theorem dX24_bracket_147 : decode cX24_bracket 147 = .ok (.invokevirtual 332, 3) := dk_182 1 76 (dk_at dksX24_bracket_6 5 rfl rfl)
theorem dX24_bracket_150 : decode cX24_bracket 150 = .ok (.return_, 1) := dk_177 (dk_at dksX24_bracket_6 8 rfl rfl)
abbrev cX24_says_2 : ByteArray := prog_53_method_47_code
def yX24_says_2 : MethodName := ⟨RX24, "says", "(IIII)V"⟩
def dkwX24_says_2_1 : List UInt8 := [180, 0, 184, 6, 21, 4, 79, 177]
abbrev dktX24_says_2_1 : List UInt8 := dkwX24_says_2_1 ++ []
def dkwX24_says_2_0 : List UInt8 := [42, 180, 0, 184, 3, 27, 79, 42, 180, 0, 184, 4, 28, 79, 42, 180, 0, 184, 5, 29, 79, 42]
abbrev dktX24_says_2_0 : List UInt8 := dkwX24_says_2_0 ++ dktX24_says_2_1
theorem dksX24_says_2_0 : cX24_says_2.data.toList.drop 0 = dktX24_says_2_0 := by decide +kernel
theorem dksX24_says_2_1 : cX24_says_2.data.toList.drop 22 = dktX24_says_2_1 := dk_seg dksX24_says_2_0 22 rfl rfl
theorem dX24_says_2_0 : decode cX24_says_2 0 = .ok (.aload_n 0, 1) := dk_42 (dk_at dksX24_says_2_0 0 rfl rfl)
theorem dX24_says_2_1 : decode cX24_says_2 1 = .ok (.getfield 184, 3) := dk_180 0 184 (dk_at dksX24_says_2_0 1 rfl rfl)
theorem dX24_says_2_4 : decode cX24_says_2 4 = .ok (.iconst 0, 1) := dk_3 (dk_at dksX24_says_2_0 4 rfl rfl)
theorem dX24_says_2_5 : decode cX24_says_2 5 = .ok (.iload_n 1, 1) := dk_27 (dk_at dksX24_says_2_0 5 rfl rfl)
theorem dX24_says_2_6 : decode cX24_says_2 6 = .ok (.iastore, 1) := dk_79 (dk_at dksX24_says_2_0 6 rfl rfl)
theorem dX24_says_2_7 : decode cX24_says_2 7 = .ok (.aload_n 0, 1) := dk_42 (dk_at dksX24_says_2_0 7 rfl rfl)
theorem dX24_says_2_8 : decode cX24_says_2 8 = .ok (.getfield 184, 3) := dk_180 0 184 (dk_at dksX24_says_2_0 8 rfl rfl)
theorem dX24_says_2_11 : decode cX24_says_2 11 = .ok (.iconst 1, 1) := dk_4 (dk_at dksX24_says_2_0 11 rfl rfl)
theorem dX24_says_2_12 : decode cX24_says_2 12 = .ok (.iload_n 2, 1) := dk_28 (dk_at dksX24_says_2_0 12 rfl rfl)
theorem dX24_says_2_13 : decode cX24_says_2 13 = .ok (.iastore, 1) := dk_79 (dk_at dksX24_says_2_0 13 rfl rfl)
theorem dX24_says_2_14 : decode cX24_says_2 14 = .ok (.aload_n 0, 1) := dk_42 (dk_at dksX24_says_2_0 14 rfl rfl)
theorem dX24_says_2_15 : decode cX24_says_2 15 = .ok (.getfield 184, 3) := dk_180 0 184 (dk_at dksX24_says_2_0 15 rfl rfl)
theorem dX24_says_2_18 : decode cX24_says_2 18 = .ok (.iconst 2, 1) := dk_5 (dk_at dksX24_says_2_0 18 rfl rfl)
theorem dX24_says_2_19 : decode cX24_says_2 19 = .ok (.iload_n 3, 1) := dk_29 (dk_at dksX24_says_2_0 19 rfl rfl)
theorem dX24_says_2_20 : decode cX24_says_2 20 = .ok (.iastore, 1) := dk_79 (dk_at dksX24_says_2_0 20 rfl rfl)
theorem dX24_says_2_21 : decode cX24_says_2 21 = .ok (.aload_n 0, 1) := dk_42 (dk_at dksX24_says_2_0 21 rfl rfl)
theorem dX24_says_2_22 : decode cX24_says_2 22 = .ok (.getfield 184, 3) := dk_180 0 184 (dk_at dksX24_says_2_1 0 rfl rfl)
theorem dX24_says_2_25 : decode cX24_says_2 25 = .ok (.iconst 3, 1) := dk_6 (dk_at dksX24_says_2_1 3 rfl rfl)
theorem dX24_says_2_26 : decode cX24_says_2 26 = .ok (.iload 4, 2) := dk_21 4 (dk_at dksX24_says_2_1 4 rfl rfl)
theorem dX24_says_2_28 : decode cX24_says_2 28 = .ok (.iastore, 1) := dk_79 (dk_at dksX24_says_2_1 6 rfl rfl)
theorem dX24_says_2_29 : decode cX24_says_2 29 = .ok (.return_, 1) := dk_177 (dk_at dksX24_says_2_1 7 rfl rfl)
abbrev cX24_comes : ByteArray := prog_53_method_49_code
def yX24_comes : MethodName := ⟨RX24, "comes", "(I)V"⟩
def dkwX24_comes_6 : List UInt8 := [167, 0, 16, 42, 6, 42, 180, 0, 41, 29, 46, 27, 27, 182, 1, 76, 177]
abbrev dktX24_comes_6 : List UInt8 := dkwX24_comes_6 ++ []
def dkwX24_comes_5 : List UInt8 := [167, 0, 38, 42, 16, 6, 42, 180, 0, 41, 29, 46, 27, 42, 180, 0, 47, 29, 46, 182, 1, 76]
abbrev dktX24_comes_5 : List UInt8 := dkwX24_comes_5 ++ dktX24_comes_6
def dkwX24_comes_4 : List UInt8 := [42, 42, 180, 0, 38, 29, 46, 42, 180, 0, 41, 29, 46, 27, 42, 180, 0, 47, 29, 46, 182, 1, 76]
abbrev dktX24_comes_4 : List UInt8 := dkwX24_comes_4 ++ dktX24_comes_5
def dkwX24_comes_3 : List UInt8 := [167, 0, 85, 42, 8, 42, 180, 0, 41, 29, 46, 42, 180, 0, 44, 29, 46, 27, 182, 1, 76, 167, 0, 64]
abbrev dktX24_comes_3 : List UInt8 := dkwX24_comes_3 ++ dktX24_comes_4
def dkwX24_comes_2 : List UInt8 := [42, 8, 42, 180, 0, 41, 28, 46, 42, 180, 0, 47, 28, 46, 42, 180, 0, 44, 28, 46, 182, 1, 76]
abbrev dktX24_comes_2 : List UInt8 := dkwX24_comes_2 ++ dktX24_comes_3
def dkwX24_comes_1 : List UInt8 := [170, 0, 0, 0, 0, 137, 0, 0, 0, 0, 0, 0, 0, 6, 0, 0, 0, 42, 0, 0, 0, 68, 0, 0, 0, 89, 0, 0, 0, 137, 0, 0, 0, 137, 0, 0, 0, 137, 0, 0, 0, 115]
abbrev dktX24_comes_1 : List UInt8 := dkwX24_comes_1 ++ dktX24_comes_2
def dkwX24_comes_0 : List UInt8 := [42, 180, 1, 64, 61, 42, 180, 1, 70, 62, 42, 180, 1, 67]
abbrev dktX24_comes_0 : List UInt8 := dkwX24_comes_0 ++ dktX24_comes_1
theorem dksX24_comes_0 : cX24_comes.data.toList.drop 0 = dktX24_comes_0 := by decide +kernel
theorem dksX24_comes_1 : cX24_comes.data.toList.drop 14 = dktX24_comes_1 := dk_seg dksX24_comes_0 14 rfl rfl
theorem dksX24_comes_2 : cX24_comes.data.toList.drop 56 = dktX24_comes_2 := dk_seg dksX24_comes_1 42 rfl rfl
theorem dksX24_comes_3 : cX24_comes.data.toList.drop 79 = dktX24_comes_3 := dk_seg dksX24_comes_2 23 rfl rfl
theorem dksX24_comes_4 : cX24_comes.data.toList.drop 103 = dktX24_comes_4 := dk_seg dksX24_comes_3 24 rfl rfl
theorem dksX24_comes_5 : cX24_comes.data.toList.drop 126 = dktX24_comes_5 := dk_seg dksX24_comes_4 23 rfl rfl
theorem dksX24_comes_6 : cX24_comes.data.toList.drop 148 = dktX24_comes_6 := dk_seg dksX24_comes_5 22 rfl rfl
theorem dX24_comes_0 : decode cX24_comes 0 = .ok (.aload_n 0, 1) := dk_42 (dk_at dksX24_comes_0 0 rfl rfl)
theorem dX24_comes_1 : decode cX24_comes 1 = .ok (.getfield 320, 3) := dk_180 1 64 (dk_at dksX24_comes_0 1 rfl rfl)
theorem dX24_comes_4 : decode cX24_comes 4 = .ok (.istore_n 2, 1) := dk_61 (dk_at dksX24_comes_0 4 rfl rfl)
theorem dX24_comes_5 : decode cX24_comes 5 = .ok (.aload_n 0, 1) := dk_42 (dk_at dksX24_comes_0 5 rfl rfl)
theorem dX24_comes_6 : decode cX24_comes 6 = .ok (.getfield 326, 3) := dk_180 1 70 (dk_at dksX24_comes_0 6 rfl rfl)
theorem dX24_comes_9 : decode cX24_comes 9 = .ok (.istore_n 3, 1) := dk_62 (dk_at dksX24_comes_0 9 rfl rfl)
theorem dX24_comes_10 : decode cX24_comes 10 = .ok (.aload_n 0, 1) := dk_42 (dk_at dksX24_comes_0 10 rfl rfl)
theorem dX24_comes_11 : decode cX24_comes 11 = .ok (.getfield 323, 3) := dk_180 1 67 (dk_at dksX24_comes_0 11 rfl rfl)
theorem dX24_comes_14 : decode cX24_comes 14 = .ok (.tableswitch 137 0 6 #[42, 68, 89, 137, 137, 137, 115], 42) := by decide +kernel
theorem dX24_comes_56 : decode cX24_comes 56 = .ok (.aload_n 0, 1) := dk_42 (dk_at dksX24_comes_2 0 rfl rfl)
theorem dX24_comes_57 : decode cX24_comes 57 = .ok (.iconst 5, 1) := dk_8 (dk_at dksX24_comes_2 1 rfl rfl)
theorem dX24_comes_58 : decode cX24_comes 58 = .ok (.aload_n 0, 1) := dk_42 (dk_at dksX24_comes_2 2 rfl rfl)
theorem dX24_comes_59 : decode cX24_comes 59 = .ok (.getfield 41, 3) := dk_180 0 41 (dk_at dksX24_comes_2 3 rfl rfl)
theorem dX24_comes_62 : decode cX24_comes 62 = .ok (.iload_n 2, 1) := dk_28 (dk_at dksX24_comes_2 6 rfl rfl)
theorem dX24_comes_63 : decode cX24_comes 63 = .ok (.iaload, 1) := dk_46 (dk_at dksX24_comes_2 7 rfl rfl)
theorem dX24_comes_64 : decode cX24_comes 64 = .ok (.aload_n 0, 1) := dk_42 (dk_at dksX24_comes_2 8 rfl rfl)
theorem dX24_comes_65 : decode cX24_comes 65 = .ok (.getfield 47, 3) := dk_180 0 47 (dk_at dksX24_comes_2 9 rfl rfl)
theorem dX24_comes_68 : decode cX24_comes 68 = .ok (.iload_n 2, 1) := dk_28 (dk_at dksX24_comes_2 12 rfl rfl)
theorem dX24_comes_69 : decode cX24_comes 69 = .ok (.iaload, 1) := dk_46 (dk_at dksX24_comes_2 13 rfl rfl)
theorem dX24_comes_70 : decode cX24_comes 70 = .ok (.aload_n 0, 1) := dk_42 (dk_at dksX24_comes_2 14 rfl rfl)
theorem dX24_comes_71 : decode cX24_comes 71 = .ok (.getfield 44, 3) := dk_180 0 44 (dk_at dksX24_comes_2 15 rfl rfl)
theorem dX24_comes_74 : decode cX24_comes 74 = .ok (.iload_n 2, 1) := dk_28 (dk_at dksX24_comes_2 18 rfl rfl)
theorem dX24_comes_75 : decode cX24_comes 75 = .ok (.iaload, 1) := dk_46 (dk_at dksX24_comes_2 19 rfl rfl)
theorem dX24_comes_76 : decode cX24_comes 76 = .ok (.invokevirtual 332, 3) := dk_182 1 76 (dk_at dksX24_comes_2 20 rfl rfl)
theorem dX24_comes_79 : decode cX24_comes 79 = .ok (.goto 85, 3) := dk_167 0 85 (dk_at dksX24_comes_3 0 rfl rfl)
theorem dX24_comes_82 : decode cX24_comes 82 = .ok (.aload_n 0, 1) := dk_42 (dk_at dksX24_comes_3 3 rfl rfl)
theorem dX24_comes_83 : decode cX24_comes 83 = .ok (.iconst 5, 1) := dk_8 (dk_at dksX24_comes_3 4 rfl rfl)
theorem dX24_comes_84 : decode cX24_comes 84 = .ok (.aload_n 0, 1) := dk_42 (dk_at dksX24_comes_3 5 rfl rfl)
theorem dX24_comes_85 : decode cX24_comes 85 = .ok (.getfield 41, 3) := dk_180 0 41 (dk_at dksX24_comes_3 6 rfl rfl)
theorem dX24_comes_88 : decode cX24_comes 88 = .ok (.iload_n 3, 1) := dk_29 (dk_at dksX24_comes_3 9 rfl rfl)
theorem dX24_comes_89 : decode cX24_comes 89 = .ok (.iaload, 1) := dk_46 (dk_at dksX24_comes_3 10 rfl rfl)
theorem dX24_comes_90 : decode cX24_comes 90 = .ok (.aload_n 0, 1) := dk_42 (dk_at dksX24_comes_3 11 rfl rfl)
theorem dX24_comes_91 : decode cX24_comes 91 = .ok (.getfield 44, 3) := dk_180 0 44 (dk_at dksX24_comes_3 12 rfl rfl)
theorem dX24_comes_94 : decode cX24_comes 94 = .ok (.iload_n 3, 1) := dk_29 (dk_at dksX24_comes_3 15 rfl rfl)
theorem dX24_comes_95 : decode cX24_comes 95 = .ok (.iaload, 1) := dk_46 (dk_at dksX24_comes_3 16 rfl rfl)
theorem dX24_comes_96 : decode cX24_comes 96 = .ok (.iload_n 1, 1) := dk_27 (dk_at dksX24_comes_3 17 rfl rfl)
theorem dX24_comes_97 : decode cX24_comes 97 = .ok (.invokevirtual 332, 3) := dk_182 1 76 (dk_at dksX24_comes_3 18 rfl rfl)
theorem dX24_comes_100 : decode cX24_comes 100 = .ok (.goto 64, 3) := dk_167 0 64 (dk_at dksX24_comes_3 21 rfl rfl)
theorem dX24_comes_103 : decode cX24_comes 103 = .ok (.aload_n 0, 1) := dk_42 (dk_at dksX24_comes_4 0 rfl rfl)
theorem dX24_comes_104 : decode cX24_comes 104 = .ok (.aload_n 0, 1) := dk_42 (dk_at dksX24_comes_4 1 rfl rfl)
theorem dX24_comes_105 : decode cX24_comes 105 = .ok (.getfield 38, 3) := dk_180 0 38 (dk_at dksX24_comes_4 2 rfl rfl)
theorem dX24_comes_108 : decode cX24_comes 108 = .ok (.iload_n 3, 1) := dk_29 (dk_at dksX24_comes_4 5 rfl rfl)
theorem dX24_comes_109 : decode cX24_comes 109 = .ok (.iaload, 1) := dk_46 (dk_at dksX24_comes_4 6 rfl rfl)
theorem dX24_comes_110 : decode cX24_comes 110 = .ok (.aload_n 0, 1) := dk_42 (dk_at dksX24_comes_4 7 rfl rfl)
theorem dX24_comes_111 : decode cX24_comes 111 = .ok (.getfield 41, 3) := dk_180 0 41 (dk_at dksX24_comes_4 8 rfl rfl)
theorem dX24_comes_114 : decode cX24_comes 114 = .ok (.iload_n 3, 1) := dk_29 (dk_at dksX24_comes_4 11 rfl rfl)
theorem dX24_comes_115 : decode cX24_comes 115 = .ok (.iaload, 1) := dk_46 (dk_at dksX24_comes_4 12 rfl rfl)
theorem dX24_comes_116 : decode cX24_comes 116 = .ok (.iload_n 1, 1) := dk_27 (dk_at dksX24_comes_4 13 rfl rfl)
theorem dX24_comes_117 : decode cX24_comes 117 = .ok (.aload_n 0, 1) := dk_42 (dk_at dksX24_comes_4 14 rfl rfl)
theorem dX24_comes_118 : decode cX24_comes 118 = .ok (.getfield 47, 3) := dk_180 0 47 (dk_at dksX24_comes_4 15 rfl rfl)
theorem dX24_comes_121 : decode cX24_comes 121 = .ok (.iload_n 3, 1) := dk_29 (dk_at dksX24_comes_4 18 rfl rfl)
theorem dX24_comes_122 : decode cX24_comes 122 = .ok (.iaload, 1) := dk_46 (dk_at dksX24_comes_4 19 rfl rfl)
theorem dX24_comes_123 : decode cX24_comes 123 = .ok (.invokevirtual 332, 3) := dk_182 1 76 (dk_at dksX24_comes_4 20 rfl rfl)
theorem dX24_comes_126 : decode cX24_comes 126 = .ok (.goto 38, 3) := dk_167 0 38 (dk_at dksX24_comes_5 0 rfl rfl)
theorem dX24_comes_129 : decode cX24_comes 129 = .ok (.aload_n 0, 1) := dk_42 (dk_at dksX24_comes_5 3 rfl rfl)
theorem dX24_comes_130 : decode cX24_comes 130 = .ok (.bipush 6, 2) := dk_16 6 (dk_at dksX24_comes_5 4 rfl rfl)
theorem dX24_comes_132 : decode cX24_comes 132 = .ok (.aload_n 0, 1) := dk_42 (dk_at dksX24_comes_5 6 rfl rfl)
theorem dX24_comes_133 : decode cX24_comes 133 = .ok (.getfield 41, 3) := dk_180 0 41 (dk_at dksX24_comes_5 7 rfl rfl)
theorem dX24_comes_136 : decode cX24_comes 136 = .ok (.iload_n 3, 1) := dk_29 (dk_at dksX24_comes_5 10 rfl rfl)
theorem dX24_comes_137 : decode cX24_comes 137 = .ok (.iaload, 1) := dk_46 (dk_at dksX24_comes_5 11 rfl rfl)
theorem dX24_comes_138 : decode cX24_comes 138 = .ok (.iload_n 1, 1) := dk_27 (dk_at dksX24_comes_5 12 rfl rfl)
theorem dX24_comes_139 : decode cX24_comes 139 = .ok (.aload_n 0, 1) := dk_42 (dk_at dksX24_comes_5 13 rfl rfl)
theorem dX24_comes_140 : decode cX24_comes 140 = .ok (.getfield 47, 3) := dk_180 0 47 (dk_at dksX24_comes_5 14 rfl rfl)
theorem dX24_comes_143 : decode cX24_comes 143 = .ok (.iload_n 3, 1) := dk_29 (dk_at dksX24_comes_5 17 rfl rfl)
theorem dX24_comes_144 : decode cX24_comes 144 = .ok (.iaload, 1) := dk_46 (dk_at dksX24_comes_5 18 rfl rfl)
theorem dX24_comes_145 : decode cX24_comes 145 = .ok (.invokevirtual 332, 3) := dk_182 1 76 (dk_at dksX24_comes_5 19 rfl rfl)
theorem dX24_comes_148 : decode cX24_comes 148 = .ok (.goto 16, 3) := dk_167 0 16 (dk_at dksX24_comes_6 0 rfl rfl)
theorem dX24_comes_151 : decode cX24_comes 151 = .ok (.aload_n 0, 1) := dk_42 (dk_at dksX24_comes_6 3 rfl rfl)
theorem dX24_comes_152 : decode cX24_comes 152 = .ok (.iconst 3, 1) := dk_6 (dk_at dksX24_comes_6 4 rfl rfl)
theorem dX24_comes_153 : decode cX24_comes 153 = .ok (.aload_n 0, 1) := dk_42 (dk_at dksX24_comes_6 5 rfl rfl)
theorem dX24_comes_154 : decode cX24_comes 154 = .ok (.getfield 41, 3) := dk_180 0 41 (dk_at dksX24_comes_6 6 rfl rfl)
theorem dX24_comes_157 : decode cX24_comes 157 = .ok (.iload_n 3, 1) := dk_29 (dk_at dksX24_comes_6 9 rfl rfl)
theorem dX24_comes_158 : decode cX24_comes 158 = .ok (.iaload, 1) := dk_46 (dk_at dksX24_comes_6 10 rfl rfl)
theorem dX24_comes_159 : decode cX24_comes 159 = .ok (.iload_n 1, 1) := dk_27 (dk_at dksX24_comes_6 11 rfl rfl)
theorem dX24_comes_160 : decode cX24_comes 160 = .ok (.iload_n 1, 1) := dk_27 (dk_at dksX24_comes_6 12 rfl rfl)
theorem dX24_comes_161 : decode cX24_comes 161 = .ok (.invokevirtual 332, 3) := dk_182 1 76 (dk_at dksX24_comes_6 13 rfl rfl)
theorem dX24_comes_164 : decode cX24_comes 164 = .ok (.return_, 1) := dk_177 (dk_at dksX24_comes_6 16 rfl rfl)
abbrev cX24_fires : ByteArray := prog_53_method_51_code
def yX24_fires : MethodName := ⟨RX24, "fires", "()V"⟩
def dkwX24_fires_9 : List UInt8 := [87, 167, 0, 19, 42, 42, 180, 0, 50, 29, 46, 42, 180, 0, 50, 27, 46, 182, 1, 60, 177]
abbrev dktX24_fires_9 : List UInt8 := dkwX24_fires_9 ++ []
def dkwX24_fires_8 : List UInt8 := [180, 0, 184, 5, 46, 42, 180, 0, 184, 6, 46, 42, 42, 180, 0, 50, 27, 46, 182, 0, 225, 182, 0, 255]
abbrev dktX24_fires_8 : List UInt8 := dkwX24_fires_8 ++ dktX24_fires_9
def dkwX24_fires_7 : List UInt8 := [182, 0, 251, 62, 29, 2, 160, 0, 45, 42, 42, 180, 0, 184, 3, 46, 42, 180, 0, 184, 4, 46, 42]
abbrev dktX24_fires_7 : List UInt8 := dkwX24_fires_7 ++ dktX24_fires_8
def dkwX24_fires_6 : List UInt8 := [180, 0, 184, 3, 46, 42, 180, 0, 184, 4, 46, 42, 180, 0, 184, 5, 46, 42, 180, 0, 184, 6, 46]
abbrev dktX24_fires_6 : List UInt8 := dkwX24_fires_6 ++ dktX24_fires_7
def dkwX24_fires_5 : List UInt8 := [46, 42, 180, 0, 184, 5, 46, 42, 180, 0, 184, 6, 46, 182, 1, 6, 61, 42, 28, 182, 1, 83, 42, 42]
abbrev dktX24_fires_5 : List UInt8 := dkwX24_fires_5 ++ dktX24_fires_6
def dkwX24_fires_4 : List UInt8 := [61, 42, 180, 1, 67, 158, 0, 36, 42, 182, 1, 80, 42, 42, 180, 0, 184, 3, 46, 42, 180, 0, 184, 4]
abbrev dktX24_fires_4 : List UInt8 := dkwX24_fires_4 ++ dktX24_fires_5
def dkwX24_fires_3 : List UInt8 := [160, 0, 23, 42, 42, 180, 0, 50, 27, 46, 42, 180, 0, 50, 42, 180, 1, 70, 46, 182, 1, 60, 177, 3]
abbrev dktX24_fires_3 : List UInt8 := dkwX24_fires_3 ++ dktX24_fires_4
def dkwX24_fires_2 : List UInt8 := [180, 1, 67, 92, 46, 4, 96, 79, 42, 89, 180, 1, 87, 4, 96, 181, 1, 87, 42, 180, 1, 67, 7]
abbrev dktX24_fires_2 : List UInt8 := dkwX24_fires_2 ++ dktX24_fires_3
def dkwX24_fires_1 : List UInt8 := [180, 1, 70, 2, 160, 0, 8, 16, 64, 167, 0, 7, 42, 180, 1, 70, 96, 4, 84, 42, 180, 0, 63, 42]
abbrev dktX24_fires_1 : List UInt8 := dkwX24_fires_1 ++ dktX24_fires_2
def dkwX24_fires_0 : List UInt8 := [42, 180, 1, 64, 60, 42, 180, 0, 60, 27, 16, 7, 104, 42, 180, 1, 67, 96, 16, 65, 104, 42]
abbrev dktX24_fires_0 : List UInt8 := dkwX24_fires_0 ++ dktX24_fires_1
theorem dksX24_fires_0 : cX24_fires.data.toList.drop 0 = dktX24_fires_0 := by decide +kernel
theorem dksX24_fires_1 : cX24_fires.data.toList.drop 22 = dktX24_fires_1 := dk_seg dksX24_fires_0 22 rfl rfl
theorem dksX24_fires_2 : cX24_fires.data.toList.drop 46 = dktX24_fires_2 := dk_seg dksX24_fires_1 24 rfl rfl
theorem dksX24_fires_3 : cX24_fires.data.toList.drop 69 = dktX24_fires_3 := dk_seg dksX24_fires_2 23 rfl rfl
theorem dksX24_fires_4 : cX24_fires.data.toList.drop 93 = dktX24_fires_4 := dk_seg dksX24_fires_3 24 rfl rfl
theorem dksX24_fires_5 : cX24_fires.data.toList.drop 117 = dktX24_fires_5 := dk_seg dksX24_fires_4 24 rfl rfl
theorem dksX24_fires_6 : cX24_fires.data.toList.drop 141 = dktX24_fires_6 := dk_seg dksX24_fires_5 24 rfl rfl
theorem dksX24_fires_7 : cX24_fires.data.toList.drop 164 = dktX24_fires_7 := dk_seg dksX24_fires_6 23 rfl rfl
theorem dksX24_fires_8 : cX24_fires.data.toList.drop 187 = dktX24_fires_8 := dk_seg dksX24_fires_7 23 rfl rfl
theorem dksX24_fires_9 : cX24_fires.data.toList.drop 211 = dktX24_fires_9 := dk_seg dksX24_fires_8 24 rfl rfl
theorem dX24_fires_0 : decode cX24_fires 0 = .ok (.aload_n 0, 1) := dk_42 (dk_at dksX24_fires_0 0 rfl rfl)
theorem dX24_fires_1 : decode cX24_fires 1 = .ok (.getfield 320, 3) := dk_180 1 64 (dk_at dksX24_fires_0 1 rfl rfl)
theorem dX24_fires_4 : decode cX24_fires 4 = .ok (.istore_n 1, 1) := dk_60 (dk_at dksX24_fires_0 4 rfl rfl)
theorem dX24_fires_5 : decode cX24_fires 5 = .ok (.aload_n 0, 1) := dk_42 (dk_at dksX24_fires_0 5 rfl rfl)
theorem dX24_fires_6 : decode cX24_fires 6 = .ok (.getfield 60, 3) := dk_180 0 60 (dk_at dksX24_fires_0 6 rfl rfl)
theorem dX24_fires_9 : decode cX24_fires 9 = .ok (.iload_n 1, 1) := dk_27 (dk_at dksX24_fires_0 9 rfl rfl)
theorem dX24_fires_10 : decode cX24_fires 10 = .ok (.bipush 7, 2) := dk_16 7 (dk_at dksX24_fires_0 10 rfl rfl)
theorem dX24_fires_12 : decode cX24_fires 12 = .ok (.imul, 1) := dk_104 (dk_at dksX24_fires_0 12 rfl rfl)
theorem dX24_fires_13 : decode cX24_fires 13 = .ok (.aload_n 0, 1) := dk_42 (dk_at dksX24_fires_0 13 rfl rfl)
theorem dX24_fires_14 : decode cX24_fires 14 = .ok (.getfield 323, 3) := dk_180 1 67 (dk_at dksX24_fires_0 14 rfl rfl)
theorem dX24_fires_17 : decode cX24_fires 17 = .ok (.iadd, 1) := dk_96 (dk_at dksX24_fires_0 17 rfl rfl)
theorem dX24_fires_18 : decode cX24_fires 18 = .ok (.bipush 65, 2) := dk_16 65 (dk_at dksX24_fires_0 18 rfl rfl)
theorem dX24_fires_20 : decode cX24_fires 20 = .ok (.imul, 1) := dk_104 (dk_at dksX24_fires_0 20 rfl rfl)
theorem dX24_fires_21 : decode cX24_fires 21 = .ok (.aload_n 0, 1) := dk_42 (dk_at dksX24_fires_0 21 rfl rfl)
theorem dX24_fires_22 : decode cX24_fires 22 = .ok (.getfield 326, 3) := dk_180 1 70 (dk_at dksX24_fires_1 0 rfl rfl)
theorem dX24_fires_25 : decode cX24_fires 25 = .ok (.iconst (-1), 1) := dk_2 (dk_at dksX24_fires_1 3 rfl rfl)
theorem dX24_fires_26 : decode cX24_fires 26 = .ok (.if_icmp .ne 8, 3) := dk_160 0 8 (dk_at dksX24_fires_1 4 rfl rfl)
theorem dX24_fires_29 : decode cX24_fires 29 = .ok (.bipush 64, 2) := dk_16 64 (dk_at dksX24_fires_1 7 rfl rfl)
theorem dX24_fires_31 : decode cX24_fires 31 = .ok (.goto 7, 3) := dk_167 0 7 (dk_at dksX24_fires_1 9 rfl rfl)
theorem dX24_fires_34 : decode cX24_fires 34 = .ok (.aload_n 0, 1) := dk_42 (dk_at dksX24_fires_1 12 rfl rfl)
theorem dX24_fires_35 : decode cX24_fires 35 = .ok (.getfield 326, 3) := dk_180 1 70 (dk_at dksX24_fires_1 13 rfl rfl)
theorem dX24_fires_38 : decode cX24_fires 38 = .ok (.iadd, 1) := dk_96 (dk_at dksX24_fires_1 16 rfl rfl)
theorem dX24_fires_39 : decode cX24_fires 39 = .ok (.iconst 1, 1) := dk_4 (dk_at dksX24_fires_1 17 rfl rfl)
theorem dX24_fires_40 : decode cX24_fires 40 = .ok (.bastore, 1) := dk_84 (dk_at dksX24_fires_1 18 rfl rfl)
theorem dX24_fires_41 : decode cX24_fires 41 = .ok (.aload_n 0, 1) := dk_42 (dk_at dksX24_fires_1 19 rfl rfl)
theorem dX24_fires_42 : decode cX24_fires 42 = .ok (.getfield 63, 3) := dk_180 0 63 (dk_at dksX24_fires_1 20 rfl rfl)
theorem dX24_fires_45 : decode cX24_fires 45 = .ok (.aload_n 0, 1) := dk_42 (dk_at dksX24_fires_1 23 rfl rfl)
theorem dX24_fires_46 : decode cX24_fires 46 = .ok (.getfield 323, 3) := dk_180 1 67 (dk_at dksX24_fires_2 0 rfl rfl)
theorem dX24_fires_49 : decode cX24_fires 49 = .ok (.dup2, 1) := dk_92 (dk_at dksX24_fires_2 3 rfl rfl)
theorem dX24_fires_50 : decode cX24_fires 50 = .ok (.iaload, 1) := dk_46 (dk_at dksX24_fires_2 4 rfl rfl)
theorem dX24_fires_51 : decode cX24_fires 51 = .ok (.iconst 1, 1) := dk_4 (dk_at dksX24_fires_2 5 rfl rfl)
theorem dX24_fires_52 : decode cX24_fires 52 = .ok (.iadd, 1) := dk_96 (dk_at dksX24_fires_2 6 rfl rfl)
theorem dX24_fires_53 : decode cX24_fires 53 = .ok (.iastore, 1) := dk_79 (dk_at dksX24_fires_2 7 rfl rfl)
theorem dX24_fires_54 : decode cX24_fires 54 = .ok (.aload_n 0, 1) := dk_42 (dk_at dksX24_fires_2 8 rfl rfl)
theorem dX24_fires_55 : decode cX24_fires 55 = .ok (.dup, 1) := dk_89 (dk_at dksX24_fires_2 9 rfl rfl)
theorem dX24_fires_56 : decode cX24_fires 56 = .ok (.getfield 343, 3) := dk_180 1 87 (dk_at dksX24_fires_2 10 rfl rfl)
theorem dX24_fires_59 : decode cX24_fires 59 = .ok (.iconst 1, 1) := dk_4 (dk_at dksX24_fires_2 13 rfl rfl)
theorem dX24_fires_60 : decode cX24_fires 60 = .ok (.iadd, 1) := dk_96 (dk_at dksX24_fires_2 14 rfl rfl)
theorem dX24_fires_61 : decode cX24_fires 61 = .ok (.putfield 343, 3) := dk_181 1 87 (dk_at dksX24_fires_2 15 rfl rfl)
theorem dX24_fires_64 : decode cX24_fires 64 = .ok (.aload_n 0, 1) := dk_42 (dk_at dksX24_fires_2 18 rfl rfl)
theorem dX24_fires_65 : decode cX24_fires 65 = .ok (.getfield 323, 3) := dk_180 1 67 (dk_at dksX24_fires_2 19 rfl rfl)
theorem dX24_fires_68 : decode cX24_fires 68 = .ok (.iconst 4, 1) := dk_7 (dk_at dksX24_fires_2 22 rfl rfl)
theorem dX24_fires_69 : decode cX24_fires 69 = .ok (.if_icmp .ne 23, 3) := dk_160 0 23 (dk_at dksX24_fires_3 0 rfl rfl)
theorem dX24_fires_72 : decode cX24_fires 72 = .ok (.aload_n 0, 1) := dk_42 (dk_at dksX24_fires_3 3 rfl rfl)
theorem dX24_fires_73 : decode cX24_fires 73 = .ok (.aload_n 0, 1) := dk_42 (dk_at dksX24_fires_3 4 rfl rfl)
theorem dX24_fires_74 : decode cX24_fires 74 = .ok (.getfield 50, 3) := dk_180 0 50 (dk_at dksX24_fires_3 5 rfl rfl)
theorem dX24_fires_77 : decode cX24_fires 77 = .ok (.iload_n 1, 1) := dk_27 (dk_at dksX24_fires_3 8 rfl rfl)
theorem dX24_fires_78 : decode cX24_fires 78 = .ok (.iaload, 1) := dk_46 (dk_at dksX24_fires_3 9 rfl rfl)
theorem dX24_fires_79 : decode cX24_fires 79 = .ok (.aload_n 0, 1) := dk_42 (dk_at dksX24_fires_3 10 rfl rfl)
theorem dX24_fires_80 : decode cX24_fires 80 = .ok (.getfield 50, 3) := dk_180 0 50 (dk_at dksX24_fires_3 11 rfl rfl)
theorem dX24_fires_83 : decode cX24_fires 83 = .ok (.aload_n 0, 1) := dk_42 (dk_at dksX24_fires_3 14 rfl rfl)
theorem dX24_fires_84 : decode cX24_fires 84 = .ok (.getfield 326, 3) := dk_180 1 70 (dk_at dksX24_fires_3 15 rfl rfl)
theorem dX24_fires_87 : decode cX24_fires 87 = .ok (.iaload, 1) := dk_46 (dk_at dksX24_fires_3 18 rfl rfl)
theorem dX24_fires_88 : decode cX24_fires 88 = .ok (.invokevirtual 316, 3) := dk_182 1 60 (dk_at dksX24_fires_3 19 rfl rfl)
theorem dX24_fires_91 : decode cX24_fires 91 = .ok (.return_, 1) := dk_177 (dk_at dksX24_fires_3 22 rfl rfl)
theorem dX24_fires_92 : decode cX24_fires 92 = .ok (.iconst 0, 1) := dk_3 (dk_at dksX24_fires_3 23 rfl rfl)
theorem dX24_fires_93 : decode cX24_fires 93 = .ok (.istore_n 2, 1) := dk_61 (dk_at dksX24_fires_4 0 rfl rfl)
theorem dX24_fires_94 : decode cX24_fires 94 = .ok (.aload_n 0, 1) := dk_42 (dk_at dksX24_fires_4 1 rfl rfl)
theorem dX24_fires_95 : decode cX24_fires 95 = .ok (.getfield 323, 3) := dk_180 1 67 (dk_at dksX24_fires_4 2 rfl rfl)
theorem dX24_fires_98 : decode cX24_fires 98 = .ok (.ifCond .le 36, 3) := dk_158 0 36 (dk_at dksX24_fires_4 5 rfl rfl)
theorem dX24_fires_101 : decode cX24_fires 101 = .ok (.aload_n 0, 1) := dk_42 (dk_at dksX24_fires_4 8 rfl rfl)
theorem dX24_fires_102 : decode cX24_fires 102 = .ok (.invokevirtual 336, 3) := dk_182 1 80 (dk_at dksX24_fires_4 9 rfl rfl)
theorem dX24_fires_105 : decode cX24_fires 105 = .ok (.aload_n 0, 1) := dk_42 (dk_at dksX24_fires_4 12 rfl rfl)
theorem dX24_fires_106 : decode cX24_fires 106 = .ok (.aload_n 0, 1) := dk_42 (dk_at dksX24_fires_4 13 rfl rfl)
theorem dX24_fires_107 : decode cX24_fires 107 = .ok (.getfield 184, 3) := dk_180 0 184 (dk_at dksX24_fires_4 14 rfl rfl)
theorem dX24_fires_110 : decode cX24_fires 110 = .ok (.iconst 0, 1) := dk_3 (dk_at dksX24_fires_4 17 rfl rfl)
theorem dX24_fires_111 : decode cX24_fires 111 = .ok (.iaload, 1) := dk_46 (dk_at dksX24_fires_4 18 rfl rfl)
theorem dX24_fires_112 : decode cX24_fires 112 = .ok (.aload_n 0, 1) := dk_42 (dk_at dksX24_fires_4 19 rfl rfl)
theorem dX24_fires_113 : decode cX24_fires 113 = .ok (.getfield 184, 3) := dk_180 0 184 (dk_at dksX24_fires_4 20 rfl rfl)
theorem dX24_fires_116 : decode cX24_fires 116 = .ok (.iconst 1, 1) := dk_4 (dk_at dksX24_fires_4 23 rfl rfl)
theorem dX24_fires_117 : decode cX24_fires 117 = .ok (.iaload, 1) := dk_46 (dk_at dksX24_fires_5 0 rfl rfl)
theorem dX24_fires_118 : decode cX24_fires 118 = .ok (.aload_n 0, 1) := dk_42 (dk_at dksX24_fires_5 1 rfl rfl)
theorem dX24_fires_119 : decode cX24_fires 119 = .ok (.getfield 184, 3) := dk_180 0 184 (dk_at dksX24_fires_5 2 rfl rfl)
theorem dX24_fires_122 : decode cX24_fires 122 = .ok (.iconst 2, 1) := dk_5 (dk_at dksX24_fires_5 5 rfl rfl)
theorem dX24_fires_123 : decode cX24_fires 123 = .ok (.iaload, 1) := dk_46 (dk_at dksX24_fires_5 6 rfl rfl)
theorem dX24_fires_124 : decode cX24_fires 124 = .ok (.aload_n 0, 1) := dk_42 (dk_at dksX24_fires_5 7 rfl rfl)
theorem dX24_fires_125 : decode cX24_fires 125 = .ok (.getfield 184, 3) := dk_180 0 184 (dk_at dksX24_fires_5 8 rfl rfl)
theorem dX24_fires_128 : decode cX24_fires 128 = .ok (.iconst 3, 1) := dk_6 (dk_at dksX24_fires_5 11 rfl rfl)
theorem dX24_fires_129 : decode cX24_fires 129 = .ok (.iaload, 1) := dk_46 (dk_at dksX24_fires_5 12 rfl rfl)
theorem dX24_fires_130 : decode cX24_fires 130 = .ok (.invokevirtual 262, 3) := dk_182 1 6 (dk_at dksX24_fires_5 13 rfl rfl)
theorem dX24_fires_133 : decode cX24_fires 133 = .ok (.istore_n 2, 1) := dk_61 (dk_at dksX24_fires_5 16 rfl rfl)
theorem dX24_fires_134 : decode cX24_fires 134 = .ok (.aload_n 0, 1) := dk_42 (dk_at dksX24_fires_5 17 rfl rfl)
theorem dX24_fires_135 : decode cX24_fires 135 = .ok (.iload_n 2, 1) := dk_28 (dk_at dksX24_fires_5 18 rfl rfl)
theorem dX24_fires_136 : decode cX24_fires 136 = .ok (.invokevirtual 339, 3) := dk_182 1 83 (dk_at dksX24_fires_5 19 rfl rfl)
theorem dX24_fires_139 : decode cX24_fires 139 = .ok (.aload_n 0, 1) := dk_42 (dk_at dksX24_fires_5 22 rfl rfl)
theorem dX24_fires_140 : decode cX24_fires 140 = .ok (.aload_n 0, 1) := dk_42 (dk_at dksX24_fires_5 23 rfl rfl)
theorem dX24_fires_141 : decode cX24_fires 141 = .ok (.getfield 184, 3) := dk_180 0 184 (dk_at dksX24_fires_6 0 rfl rfl)
theorem dX24_fires_144 : decode cX24_fires 144 = .ok (.iconst 0, 1) := dk_3 (dk_at dksX24_fires_6 3 rfl rfl)
theorem dX24_fires_145 : decode cX24_fires 145 = .ok (.iaload, 1) := dk_46 (dk_at dksX24_fires_6 4 rfl rfl)
theorem dX24_fires_146 : decode cX24_fires 146 = .ok (.aload_n 0, 1) := dk_42 (dk_at dksX24_fires_6 5 rfl rfl)
theorem dX24_fires_147 : decode cX24_fires 147 = .ok (.getfield 184, 3) := dk_180 0 184 (dk_at dksX24_fires_6 6 rfl rfl)
theorem dX24_fires_150 : decode cX24_fires 150 = .ok (.iconst 1, 1) := dk_4 (dk_at dksX24_fires_6 9 rfl rfl)
theorem dX24_fires_151 : decode cX24_fires 151 = .ok (.iaload, 1) := dk_46 (dk_at dksX24_fires_6 10 rfl rfl)
theorem dX24_fires_152 : decode cX24_fires 152 = .ok (.aload_n 0, 1) := dk_42 (dk_at dksX24_fires_6 11 rfl rfl)
theorem dX24_fires_153 : decode cX24_fires 153 = .ok (.getfield 184, 3) := dk_180 0 184 (dk_at dksX24_fires_6 12 rfl rfl)
theorem dX24_fires_156 : decode cX24_fires 156 = .ok (.iconst 2, 1) := dk_5 (dk_at dksX24_fires_6 15 rfl rfl)
theorem dX24_fires_157 : decode cX24_fires 157 = .ok (.iaload, 1) := dk_46 (dk_at dksX24_fires_6 16 rfl rfl)
theorem dX24_fires_158 : decode cX24_fires 158 = .ok (.aload_n 0, 1) := dk_42 (dk_at dksX24_fires_6 17 rfl rfl)
theorem dX24_fires_159 : decode cX24_fires 159 = .ok (.getfield 184, 3) := dk_180 0 184 (dk_at dksX24_fires_6 18 rfl rfl)
theorem dX24_fires_162 : decode cX24_fires 162 = .ok (.iconst 3, 1) := dk_6 (dk_at dksX24_fires_6 21 rfl rfl)
theorem dX24_fires_163 : decode cX24_fires 163 = .ok (.iaload, 1) := dk_46 (dk_at dksX24_fires_6 22 rfl rfl)
theorem dX24_fires_164 : decode cX24_fires 164 = .ok (.invokevirtual 251, 3) := dk_182 0 251 (dk_at dksX24_fires_7 0 rfl rfl)
theorem dX24_fires_167 : decode cX24_fires 167 = .ok (.istore_n 3, 1) := dk_62 (dk_at dksX24_fires_7 3 rfl rfl)
theorem dX24_fires_168 : decode cX24_fires 168 = .ok (.iload_n 3, 1) := dk_29 (dk_at dksX24_fires_7 4 rfl rfl)
theorem dX24_fires_169 : decode cX24_fires 169 = .ok (.iconst (-1), 1) := dk_2 (dk_at dksX24_fires_7 5 rfl rfl)
theorem dX24_fires_170 : decode cX24_fires 170 = .ok (.if_icmp .ne 45, 3) := dk_160 0 45 (dk_at dksX24_fires_7 6 rfl rfl)
theorem dX24_fires_173 : decode cX24_fires 173 = .ok (.aload_n 0, 1) := dk_42 (dk_at dksX24_fires_7 9 rfl rfl)
theorem dX24_fires_174 : decode cX24_fires 174 = .ok (.aload_n 0, 1) := dk_42 (dk_at dksX24_fires_7 10 rfl rfl)
theorem dX24_fires_175 : decode cX24_fires 175 = .ok (.getfield 184, 3) := dk_180 0 184 (dk_at dksX24_fires_7 11 rfl rfl)
theorem dX24_fires_178 : decode cX24_fires 178 = .ok (.iconst 0, 1) := dk_3 (dk_at dksX24_fires_7 14 rfl rfl)
theorem dX24_fires_179 : decode cX24_fires 179 = .ok (.iaload, 1) := dk_46 (dk_at dksX24_fires_7 15 rfl rfl)
theorem dX24_fires_180 : decode cX24_fires 180 = .ok (.aload_n 0, 1) := dk_42 (dk_at dksX24_fires_7 16 rfl rfl)
theorem dX24_fires_181 : decode cX24_fires 181 = .ok (.getfield 184, 3) := dk_180 0 184 (dk_at dksX24_fires_7 17 rfl rfl)
theorem dX24_fires_184 : decode cX24_fires 184 = .ok (.iconst 1, 1) := dk_4 (dk_at dksX24_fires_7 20 rfl rfl)
theorem dX24_fires_185 : decode cX24_fires 185 = .ok (.iaload, 1) := dk_46 (dk_at dksX24_fires_7 21 rfl rfl)
theorem dX24_fires_186 : decode cX24_fires 186 = .ok (.aload_n 0, 1) := dk_42 (dk_at dksX24_fires_7 22 rfl rfl)
theorem dX24_fires_187 : decode cX24_fires 187 = .ok (.getfield 184, 3) := dk_180 0 184 (dk_at dksX24_fires_8 0 rfl rfl)
theorem dX24_fires_190 : decode cX24_fires 190 = .ok (.iconst 2, 1) := dk_5 (dk_at dksX24_fires_8 3 rfl rfl)
theorem dX24_fires_191 : decode cX24_fires 191 = .ok (.iaload, 1) := dk_46 (dk_at dksX24_fires_8 4 rfl rfl)
theorem dX24_fires_192 : decode cX24_fires 192 = .ok (.aload_n 0, 1) := dk_42 (dk_at dksX24_fires_8 5 rfl rfl)
theorem dX24_fires_193 : decode cX24_fires 193 = .ok (.getfield 184, 3) := dk_180 0 184 (dk_at dksX24_fires_8 6 rfl rfl)
theorem dX24_fires_196 : decode cX24_fires 196 = .ok (.iconst 3, 1) := dk_6 (dk_at dksX24_fires_8 9 rfl rfl)
theorem dX24_fires_197 : decode cX24_fires 197 = .ok (.iaload, 1) := dk_46 (dk_at dksX24_fires_8 10 rfl rfl)
theorem dX24_fires_198 : decode cX24_fires 198 = .ok (.aload_n 0, 1) := dk_42 (dk_at dksX24_fires_8 11 rfl rfl)
theorem dX24_fires_199 : decode cX24_fires 199 = .ok (.aload_n 0, 1) := dk_42 (dk_at dksX24_fires_8 12 rfl rfl)
theorem dX24_fires_200 : decode cX24_fires 200 = .ok (.getfield 50, 3) := dk_180 0 50 (dk_at dksX24_fires_8 13 rfl rfl)
theorem dX24_fires_203 : decode cX24_fires 203 = .ok (.iload_n 1, 1) := dk_27 (dk_at dksX24_fires_8 16 rfl rfl)
theorem dX24_fires_204 : decode cX24_fires 204 = .ok (.iaload, 1) := dk_46 (dk_at dksX24_fires_8 17 rfl rfl)
theorem dX24_fires_205 : decode cX24_fires 205 = .ok (.invokevirtual 225, 3) := dk_182 0 225 (dk_at dksX24_fires_8 18 rfl rfl)
theorem dX24_fires_208 : decode cX24_fires 208 = .ok (.invokevirtual 255, 3) := dk_182 0 255 (dk_at dksX24_fires_8 21 rfl rfl)
theorem dX24_fires_211 : decode cX24_fires 211 = .ok (.pop, 1) := dk_87 (dk_at dksX24_fires_9 0 rfl rfl)
theorem dX24_fires_212 : decode cX24_fires 212 = .ok (.goto 19, 3) := dk_167 0 19 (dk_at dksX24_fires_9 1 rfl rfl)
theorem dX24_fires_215 : decode cX24_fires 215 = .ok (.aload_n 0, 1) := dk_42 (dk_at dksX24_fires_9 4 rfl rfl)
theorem dX24_fires_216 : decode cX24_fires 216 = .ok (.aload_n 0, 1) := dk_42 (dk_at dksX24_fires_9 5 rfl rfl)
theorem dX24_fires_217 : decode cX24_fires 217 = .ok (.getfield 50, 3) := dk_180 0 50 (dk_at dksX24_fires_9 6 rfl rfl)
theorem dX24_fires_220 : decode cX24_fires 220 = .ok (.iload_n 3, 1) := dk_29 (dk_at dksX24_fires_9 9 rfl rfl)
theorem dX24_fires_221 : decode cX24_fires 221 = .ok (.iaload, 1) := dk_46 (dk_at dksX24_fires_9 10 rfl rfl)
theorem dX24_fires_222 : decode cX24_fires 222 = .ok (.aload_n 0, 1) := dk_42 (dk_at dksX24_fires_9 11 rfl rfl)
theorem dX24_fires_223 : decode cX24_fires 223 = .ok (.getfield 50, 3) := dk_180 0 50 (dk_at dksX24_fires_9 12 rfl rfl)
theorem dX24_fires_226 : decode cX24_fires 226 = .ok (.iload_n 1, 1) := dk_27 (dk_at dksX24_fires_9 15 rfl rfl)
theorem dX24_fires_227 : decode cX24_fires 227 = .ok (.iaload, 1) := dk_46 (dk_at dksX24_fires_9 16 rfl rfl)
theorem dX24_fires_228 : decode cX24_fires 228 = .ok (.invokevirtual 316, 3) := dk_182 1 60 (dk_at dksX24_fires_9 17 rfl rfl)
theorem dX24_fires_231 : decode cX24_fires 231 = .ok (.return_, 1) := dk_177 (dk_at dksX24_fires_9 20 rfl rfl)
abbrev cX24_next : ByteArray := prog_53_method_53_code
def yX24_next : MethodName := ⟨RX24, "next", "(I)I"⟩
def dkwX24_next_3 : List UInt8 := [16, 64, 163, 0, 7, 4, 167, 0, 4, 3, 172]
abbrev dktX24_next_3 : List UInt8 := dkwX24_next_3 ++ []
def dkwX24_next_2 : List UInt8 := [167, 0, 34, 27, 5, 160, 0, 10, 42, 180, 1, 70, 167, 0, 22, 42, 180, 0, 199, 42, 182, 1, 94, 96]
abbrev dktX24_next_2 : List UInt8 := dkwX24_next_2 ++ dktX24_next_3
def dkwX24_next_1 : List UInt8 := [2, 172, 27, 154, 0, 10, 42, 180, 1, 64, 167, 0, 46, 27, 4, 160, 0, 10, 42, 180, 1, 67]
abbrev dktX24_next_1 : List UInt8 := dkwX24_next_1 ++ dktX24_next_2
def dkwX24_next_0 : List UInt8 := [42, 27, 3, 6, 182, 0, 217, 154, 0, 10, 42, 16, 251, 182, 0, 206, 172, 42, 182, 1, 90, 154, 0, 5]
abbrev dktX24_next_0 : List UInt8 := dkwX24_next_0 ++ dktX24_next_1
theorem dksX24_next_0 : cX24_next.data.toList.drop 0 = dktX24_next_0 := by decide +kernel
theorem dksX24_next_1 : cX24_next.data.toList.drop 24 = dktX24_next_1 := dk_seg dksX24_next_0 24 rfl rfl
theorem dksX24_next_2 : cX24_next.data.toList.drop 46 = dktX24_next_2 := dk_seg dksX24_next_1 22 rfl rfl
theorem dksX24_next_3 : cX24_next.data.toList.drop 70 = dktX24_next_3 := dk_seg dksX24_next_2 24 rfl rfl
theorem dX24_next_0 : decode cX24_next 0 = .ok (.aload_n 0, 1) := dk_42 (dk_at dksX24_next_0 0 rfl rfl)
theorem dX24_next_1 : decode cX24_next 1 = .ok (.iload_n 1, 1) := dk_27 (dk_at dksX24_next_0 1 rfl rfl)
theorem dX24_next_2 : decode cX24_next 2 = .ok (.iconst 0, 1) := dk_3 (dk_at dksX24_next_0 2 rfl rfl)
theorem dX24_next_3 : decode cX24_next 3 = .ok (.iconst 3, 1) := dk_6 (dk_at dksX24_next_0 3 rfl rfl)
theorem dX24_next_4 : decode cX24_next 4 = .ok (.invokevirtual 217, 3) := dk_182 0 217 (dk_at dksX24_next_0 4 rfl rfl)
theorem dX24_next_7 : decode cX24_next 7 = .ok (.ifCond .ne 10, 3) := dk_154 0 10 (dk_at dksX24_next_0 7 rfl rfl)
theorem dX24_next_10 : decode cX24_next 10 = .ok (.aload_n 0, 1) := dk_42 (dk_at dksX24_next_0 10 rfl rfl)
theorem dX24_next_11 : decode cX24_next 11 = .ok (.bipush (-5), 2) := dk_16 251 (dk_at dksX24_next_0 11 rfl rfl)
theorem dX24_next_13 : decode cX24_next 13 = .ok (.invokevirtual 206, 3) := dk_182 0 206 (dk_at dksX24_next_0 13 rfl rfl)
theorem dX24_next_16 : decode cX24_next 16 = .ok (.ireturn, 1) := dk_172 (dk_at dksX24_next_0 16 rfl rfl)
theorem dX24_next_17 : decode cX24_next 17 = .ok (.aload_n 0, 1) := dk_42 (dk_at dksX24_next_0 17 rfl rfl)
theorem dX24_next_18 : decode cX24_next 18 = .ok (.invokevirtual 346, 3) := dk_182 1 90 (dk_at dksX24_next_0 18 rfl rfl)
theorem dX24_next_21 : decode cX24_next 21 = .ok (.ifCond .ne 5, 3) := dk_154 0 5 (dk_at dksX24_next_0 21 rfl rfl)
theorem dX24_next_24 : decode cX24_next 24 = .ok (.iconst (-1), 1) := dk_2 (dk_at dksX24_next_1 0 rfl rfl)
theorem dX24_next_25 : decode cX24_next 25 = .ok (.ireturn, 1) := dk_172 (dk_at dksX24_next_1 1 rfl rfl)
theorem dX24_next_26 : decode cX24_next 26 = .ok (.iload_n 1, 1) := dk_27 (dk_at dksX24_next_1 2 rfl rfl)
theorem dX24_next_27 : decode cX24_next 27 = .ok (.ifCond .ne 10, 3) := dk_154 0 10 (dk_at dksX24_next_1 3 rfl rfl)
theorem dX24_next_30 : decode cX24_next 30 = .ok (.aload_n 0, 1) := dk_42 (dk_at dksX24_next_1 6 rfl rfl)
theorem dX24_next_31 : decode cX24_next 31 = .ok (.getfield 320, 3) := dk_180 1 64 (dk_at dksX24_next_1 7 rfl rfl)
theorem dX24_next_34 : decode cX24_next 34 = .ok (.goto 46, 3) := dk_167 0 46 (dk_at dksX24_next_1 10 rfl rfl)
theorem dX24_next_37 : decode cX24_next 37 = .ok (.iload_n 1, 1) := dk_27 (dk_at dksX24_next_1 13 rfl rfl)
theorem dX24_next_38 : decode cX24_next 38 = .ok (.iconst 1, 1) := dk_4 (dk_at dksX24_next_1 14 rfl rfl)
theorem dX24_next_39 : decode cX24_next 39 = .ok (.if_icmp .ne 10, 3) := dk_160 0 10 (dk_at dksX24_next_1 15 rfl rfl)
theorem dX24_next_42 : decode cX24_next 42 = .ok (.aload_n 0, 1) := dk_42 (dk_at dksX24_next_1 18 rfl rfl)
theorem dX24_next_43 : decode cX24_next 43 = .ok (.getfield 323, 3) := dk_180 1 67 (dk_at dksX24_next_1 19 rfl rfl)
theorem dX24_next_46 : decode cX24_next 46 = .ok (.goto 34, 3) := dk_167 0 34 (dk_at dksX24_next_2 0 rfl rfl)
theorem dX24_next_49 : decode cX24_next 49 = .ok (.iload_n 1, 1) := dk_27 (dk_at dksX24_next_2 3 rfl rfl)
theorem dX24_next_50 : decode cX24_next 50 = .ok (.iconst 2, 1) := dk_5 (dk_at dksX24_next_2 4 rfl rfl)
theorem dX24_next_51 : decode cX24_next 51 = .ok (.if_icmp .ne 10, 3) := dk_160 0 10 (dk_at dksX24_next_2 5 rfl rfl)
theorem dX24_next_54 : decode cX24_next 54 = .ok (.aload_n 0, 1) := dk_42 (dk_at dksX24_next_2 8 rfl rfl)
theorem dX24_next_55 : decode cX24_next 55 = .ok (.getfield 326, 3) := dk_180 1 70 (dk_at dksX24_next_2 9 rfl rfl)
theorem dX24_next_58 : decode cX24_next 58 = .ok (.goto 22, 3) := dk_167 0 22 (dk_at dksX24_next_2 12 rfl rfl)
theorem dX24_next_61 : decode cX24_next 61 = .ok (.aload_n 0, 1) := dk_42 (dk_at dksX24_next_2 15 rfl rfl)
theorem dX24_next_62 : decode cX24_next 62 = .ok (.getfield 199, 3) := dk_180 0 199 (dk_at dksX24_next_2 16 rfl rfl)
theorem dX24_next_65 : decode cX24_next 65 = .ok (.aload_n 0, 1) := dk_42 (dk_at dksX24_next_2 19 rfl rfl)
theorem dX24_next_66 : decode cX24_next 66 = .ok (.invokevirtual 350, 3) := dk_182 1 94 (dk_at dksX24_next_2 20 rfl rfl)
theorem dX24_next_69 : decode cX24_next 69 = .ok (.iadd, 1) := dk_96 (dk_at dksX24_next_2 23 rfl rfl)
theorem dX24_next_70 : decode cX24_next 70 = .ok (.bipush 64, 2) := dk_16 64 (dk_at dksX24_next_3 0 rfl rfl)
theorem dX24_next_72 : decode cX24_next 72 = .ok (.if_icmp .gt 7, 3) := dk_163 0 7 (dk_at dksX24_next_3 2 rfl rfl)
theorem dX24_next_75 : decode cX24_next 75 = .ok (.iconst 1, 1) := dk_4 (dk_at dksX24_next_3 5 rfl rfl)
theorem dX24_next_76 : decode cX24_next 76 = .ok (.goto 4, 3) := dk_167 0 4 (dk_at dksX24_next_3 6 rfl rfl)
theorem dX24_next_79 : decode cX24_next 79 = .ok (.iconst 0, 1) := dk_3 (dk_at dksX24_next_3 9 rfl rfl)
theorem dX24_next_80 : decode cX24_next 80 = .ok (.ireturn, 1) := dk_172 (dk_at dksX24_next_3 10 rfl rfl)
abbrev cX24_fired : ByteArray := prog_53_method_54_code
def yX24_fired : MethodName := ⟨RX24, "fired", "(I)I"⟩
def dkwX24_fired_1 : List UInt8 := [182, 0, 206, 172]
abbrev dktX24_fired_1 : List UInt8 := dkwX24_fired_1 ++ []
def dkwX24_fired_0 : List UInt8 := [42, 27, 3, 16, 6, 182, 0, 217, 153, 0, 12, 42, 180, 0, 63, 27, 46, 167, 0, 9, 42, 16, 251]
abbrev dktX24_fired_0 : List UInt8 := dkwX24_fired_0 ++ dktX24_fired_1
theorem dksX24_fired_0 : cX24_fired.data.toList.drop 0 = dktX24_fired_0 := by decide +kernel
theorem dksX24_fired_1 : cX24_fired.data.toList.drop 23 = dktX24_fired_1 := dk_seg dksX24_fired_0 23 rfl rfl
theorem dX24_fired_0 : decode cX24_fired 0 = .ok (.aload_n 0, 1) := dk_42 (dk_at dksX24_fired_0 0 rfl rfl)
theorem dX24_fired_1 : decode cX24_fired 1 = .ok (.iload_n 1, 1) := dk_27 (dk_at dksX24_fired_0 1 rfl rfl)
theorem dX24_fired_2 : decode cX24_fired 2 = .ok (.iconst 0, 1) := dk_3 (dk_at dksX24_fired_0 2 rfl rfl)
theorem dX24_fired_3 : decode cX24_fired 3 = .ok (.bipush 6, 2) := dk_16 6 (dk_at dksX24_fired_0 3 rfl rfl)
theorem dX24_fired_5 : decode cX24_fired 5 = .ok (.invokevirtual 217, 3) := dk_182 0 217 (dk_at dksX24_fired_0 5 rfl rfl)
theorem dX24_fired_8 : decode cX24_fired 8 = .ok (.ifCond .eq 12, 3) := dk_153 0 12 (dk_at dksX24_fired_0 8 rfl rfl)
theorem dX24_fired_11 : decode cX24_fired 11 = .ok (.aload_n 0, 1) := dk_42 (dk_at dksX24_fired_0 11 rfl rfl)
theorem dX24_fired_12 : decode cX24_fired 12 = .ok (.getfield 63, 3) := dk_180 0 63 (dk_at dksX24_fired_0 12 rfl rfl)
theorem dX24_fired_15 : decode cX24_fired 15 = .ok (.iload_n 1, 1) := dk_27 (dk_at dksX24_fired_0 15 rfl rfl)
theorem dX24_fired_16 : decode cX24_fired 16 = .ok (.iaload, 1) := dk_46 (dk_at dksX24_fired_0 16 rfl rfl)
theorem dX24_fired_17 : decode cX24_fired 17 = .ok (.goto 9, 3) := dk_167 0 9 (dk_at dksX24_fired_0 17 rfl rfl)
theorem dX24_fired_20 : decode cX24_fired 20 = .ok (.aload_n 0, 1) := dk_42 (dk_at dksX24_fired_0 20 rfl rfl)
theorem dX24_fired_21 : decode cX24_fired 21 = .ok (.bipush (-5), 2) := dk_16 251 (dk_at dksX24_fired_0 21 rfl rfl)
theorem dX24_fired_23 : decode cX24_fired 23 = .ok (.invokevirtual 206, 3) := dk_182 0 206 (dk_at dksX24_fired_1 0 rfl rfl)
theorem dX24_fired_26 : decode cX24_fired 26 = .ok (.ireturn, 1) := dk_172 (dk_at dksX24_fired_1 3 rfl rfl)
abbrev cX24_price : ByteArray := prog_53_method_60_code
def yX24_price : MethodName := ⟨RX24, "price", "(IIII)J"⟩
def dkwX24_price_3 : List UInt8 := [133, 21, 4, 133, 182, 1, 118, 173]
abbrev dktX24_price_3 : List UInt8 := dkwX24_price_3 ++ []
def dkwX24_price_2 : List UInt8 := [182, 0, 217, 154, 0, 11, 42, 16, 250, 182, 0, 206, 133, 173, 42, 3, 181, 1, 99, 42, 27, 28, 133, 29]
abbrev dktX24_price_2 : List UInt8 := dkwX24_price_2 ++ dktX24_price_3
def dkwX24_price_1 : List UInt8 := [182, 0, 217, 153, 0, 26, 42, 29, 3, 18, 228, 182, 0, 217, 153, 0, 15, 42, 21, 4, 3, 18, 228]
abbrev dktX24_price_1 : List UInt8 := dkwX24_price_1 ++ dktX24_price_2
def dkwX24_price_0 : List UInt8 := [42, 27, 3, 16, 11, 182, 0, 217, 154, 0, 10, 42, 2, 182, 0, 206, 133, 173, 42, 28, 3, 18, 228]
abbrev dktX24_price_0 : List UInt8 := dkwX24_price_0 ++ dktX24_price_1
theorem dksX24_price_0 : cX24_price.data.toList.drop 0 = dktX24_price_0 := by decide +kernel
theorem dksX24_price_1 : cX24_price.data.toList.drop 23 = dktX24_price_1 := dk_seg dksX24_price_0 23 rfl rfl
theorem dksX24_price_2 : cX24_price.data.toList.drop 46 = dktX24_price_2 := dk_seg dksX24_price_1 23 rfl rfl
theorem dksX24_price_3 : cX24_price.data.toList.drop 70 = dktX24_price_3 := dk_seg dksX24_price_2 24 rfl rfl
theorem dX24_price_0 : decode cX24_price 0 = .ok (.aload_n 0, 1) := dk_42 (dk_at dksX24_price_0 0 rfl rfl)
theorem dX24_price_1 : decode cX24_price 1 = .ok (.iload_n 1, 1) := dk_27 (dk_at dksX24_price_0 1 rfl rfl)
theorem dX24_price_2 : decode cX24_price 2 = .ok (.iconst 0, 1) := dk_3 (dk_at dksX24_price_0 2 rfl rfl)
theorem dX24_price_3 : decode cX24_price 3 = .ok (.bipush 11, 2) := dk_16 11 (dk_at dksX24_price_0 3 rfl rfl)
theorem dX24_price_5 : decode cX24_price 5 = .ok (.invokevirtual 217, 3) := dk_182 0 217 (dk_at dksX24_price_0 5 rfl rfl)
theorem dX24_price_8 : decode cX24_price 8 = .ok (.ifCond .ne 10, 3) := dk_154 0 10 (dk_at dksX24_price_0 8 rfl rfl)
theorem dX24_price_11 : decode cX24_price 11 = .ok (.aload_n 0, 1) := dk_42 (dk_at dksX24_price_0 11 rfl rfl)
theorem dX24_price_12 : decode cX24_price 12 = .ok (.iconst (-1), 1) := dk_2 (dk_at dksX24_price_0 12 rfl rfl)
theorem dX24_price_13 : decode cX24_price 13 = .ok (.invokevirtual 206, 3) := dk_182 0 206 (dk_at dksX24_price_0 13 rfl rfl)
theorem dX24_price_16 : decode cX24_price 16 = .ok (.i2l, 1) := dk_133 (dk_at dksX24_price_0 16 rfl rfl)
theorem dX24_price_17 : decode cX24_price 17 = .ok (.lreturn, 1) := dk_173 (dk_at dksX24_price_0 17 rfl rfl)
theorem dX24_price_18 : decode cX24_price 18 = .ok (.aload_n 0, 1) := dk_42 (dk_at dksX24_price_0 18 rfl rfl)
theorem dX24_price_19 : decode cX24_price 19 = .ok (.iload_n 2, 1) := dk_28 (dk_at dksX24_price_0 19 rfl rfl)
theorem dX24_price_20 : decode cX24_price 20 = .ok (.iconst 0, 1) := dk_3 (dk_at dksX24_price_0 20 rfl rfl)
theorem dX24_price_21 : decode cX24_price 21 = .ok (.ldc 228, 2) := dk_18 228 (dk_at dksX24_price_0 21 rfl rfl)
theorem dX24_price_23 : decode cX24_price 23 = .ok (.invokevirtual 217, 3) := dk_182 0 217 (dk_at dksX24_price_1 0 rfl rfl)
theorem dX24_price_26 : decode cX24_price 26 = .ok (.ifCond .eq 26, 3) := dk_153 0 26 (dk_at dksX24_price_1 3 rfl rfl)
theorem dX24_price_29 : decode cX24_price 29 = .ok (.aload_n 0, 1) := dk_42 (dk_at dksX24_price_1 6 rfl rfl)
theorem dX24_price_30 : decode cX24_price 30 = .ok (.iload_n 3, 1) := dk_29 (dk_at dksX24_price_1 7 rfl rfl)
theorem dX24_price_31 : decode cX24_price 31 = .ok (.iconst 0, 1) := dk_3 (dk_at dksX24_price_1 8 rfl rfl)
theorem dX24_price_32 : decode cX24_price 32 = .ok (.ldc 228, 2) := dk_18 228 (dk_at dksX24_price_1 9 rfl rfl)
theorem dX24_price_34 : decode cX24_price 34 = .ok (.invokevirtual 217, 3) := dk_182 0 217 (dk_at dksX24_price_1 11 rfl rfl)
theorem dX24_price_37 : decode cX24_price 37 = .ok (.ifCond .eq 15, 3) := dk_153 0 15 (dk_at dksX24_price_1 14 rfl rfl)
theorem dX24_price_40 : decode cX24_price 40 = .ok (.aload_n 0, 1) := dk_42 (dk_at dksX24_price_1 17 rfl rfl)
theorem dX24_price_41 : decode cX24_price 41 = .ok (.iload 4, 2) := dk_21 4 (dk_at dksX24_price_1 18 rfl rfl)
theorem dX24_price_43 : decode cX24_price 43 = .ok (.iconst 0, 1) := dk_3 (dk_at dksX24_price_1 20 rfl rfl)
theorem dX24_price_44 : decode cX24_price 44 = .ok (.ldc 228, 2) := dk_18 228 (dk_at dksX24_price_1 21 rfl rfl)
theorem dX24_price_46 : decode cX24_price 46 = .ok (.invokevirtual 217, 3) := dk_182 0 217 (dk_at dksX24_price_2 0 rfl rfl)
theorem dX24_price_49 : decode cX24_price 49 = .ok (.ifCond .ne 11, 3) := dk_154 0 11 (dk_at dksX24_price_2 3 rfl rfl)
theorem dX24_price_52 : decode cX24_price 52 = .ok (.aload_n 0, 1) := dk_42 (dk_at dksX24_price_2 6 rfl rfl)
theorem dX24_price_53 : decode cX24_price 53 = .ok (.bipush (-6), 2) := dk_16 250 (dk_at dksX24_price_2 7 rfl rfl)
theorem dX24_price_55 : decode cX24_price 55 = .ok (.invokevirtual 206, 3) := dk_182 0 206 (dk_at dksX24_price_2 9 rfl rfl)
theorem dX24_price_58 : decode cX24_price 58 = .ok (.i2l, 1) := dk_133 (dk_at dksX24_price_2 12 rfl rfl)
theorem dX24_price_59 : decode cX24_price 59 = .ok (.lreturn, 1) := dk_173 (dk_at dksX24_price_2 13 rfl rfl)
theorem dX24_price_60 : decode cX24_price 60 = .ok (.aload_n 0, 1) := dk_42 (dk_at dksX24_price_2 14 rfl rfl)
theorem dX24_price_61 : decode cX24_price 61 = .ok (.iconst 0, 1) := dk_3 (dk_at dksX24_price_2 15 rfl rfl)
theorem dX24_price_62 : decode cX24_price 62 = .ok (.putfield 355, 3) := dk_181 1 99 (dk_at dksX24_price_2 16 rfl rfl)
theorem dX24_price_65 : decode cX24_price 65 = .ok (.aload_n 0, 1) := dk_42 (dk_at dksX24_price_2 19 rfl rfl)
theorem dX24_price_66 : decode cX24_price 66 = .ok (.iload_n 1, 1) := dk_27 (dk_at dksX24_price_2 20 rfl rfl)
theorem dX24_price_67 : decode cX24_price 67 = .ok (.iload_n 2, 1) := dk_28 (dk_at dksX24_price_2 21 rfl rfl)
theorem dX24_price_68 : decode cX24_price 68 = .ok (.i2l, 1) := dk_133 (dk_at dksX24_price_2 22 rfl rfl)
theorem dX24_price_69 : decode cX24_price 69 = .ok (.iload_n 3, 1) := dk_29 (dk_at dksX24_price_2 23 rfl rfl)
theorem dX24_price_70 : decode cX24_price 70 = .ok (.i2l, 1) := dk_133 (dk_at dksX24_price_3 0 rfl rfl)
theorem dX24_price_71 : decode cX24_price 71 = .ok (.iload 4, 2) := dk_21 4 (dk_at dksX24_price_3 1 rfl rfl)
theorem dX24_price_73 : decode cX24_price 73 = .ok (.i2l, 1) := dk_133 (dk_at dksX24_price_3 3 rfl rfl)
theorem dX24_price_74 : decode cX24_price 74 = .ok (.invokevirtual 374, 3) := dk_182 1 118 (dk_at dksX24_price_3 4 rfl rfl)
theorem dX24_price_77 : decode cX24_price 77 = .ok (.lreturn, 1) := dk_173 (dk_at dksX24_price_3 7 rfl rfl)
abbrev cX24_priceOf : ByteArray := prog_53_method_59_code
def yX24_priceOf : MethodName := ⟨RX24, "priceOf", "(IJJJ)J"⟩
def dkwX24_priceOf_3 : List UInt8 := [182, 1, 113, 97, 173]
abbrev dktX24_priceOf_3 : List UInt8 := dkwX24_priceOf_3 ++ []
def dkwX24_priceOf_2 : List UInt8 := [182, 1, 102, 42, 27, 32, 22, 4, 22, 6, 182, 1, 105, 55, 8, 22, 8, 42, 27, 32, 22, 4, 22, 6]
abbrev dktX24_priceOf_2 : List UInt8 := dkwX24_priceOf_2 ++ dktX24_priceOf_3
def dkwX24_priceOf_1 : List UInt8 := [22, 6, 182, 1, 105, 42, 27, 32, 22, 4, 22, 6, 182, 1, 113, 97, 20, 1, 116, 105, 173, 42, 16, 12]
abbrev dktX24_priceOf_1 : List UInt8 := dkwX24_priceOf_1 ++ dktX24_priceOf_2
def dkwX24_priceOf_0 : List UInt8 := [27, 16, 11, 160, 0, 41, 42, 16, 110, 182, 1, 102, 42, 16, 12, 182, 1, 102, 42, 27, 32, 22, 4]
abbrev dktX24_priceOf_0 : List UInt8 := dkwX24_priceOf_0 ++ dktX24_priceOf_1
theorem dksX24_priceOf_0 : cX24_priceOf.data.toList.drop 0 = dktX24_priceOf_0 := by decide +kernel
theorem dksX24_priceOf_1 : cX24_priceOf.data.toList.drop 23 = dktX24_priceOf_1 := dk_seg dksX24_priceOf_0 23 rfl rfl
theorem dksX24_priceOf_2 : cX24_priceOf.data.toList.drop 47 = dktX24_priceOf_2 := dk_seg dksX24_priceOf_1 24 rfl rfl
theorem dksX24_priceOf_3 : cX24_priceOf.data.toList.drop 71 = dktX24_priceOf_3 := dk_seg dksX24_priceOf_2 24 rfl rfl
theorem dX24_priceOf_0 : decode cX24_priceOf 0 = .ok (.iload_n 1, 1) := dk_27 (dk_at dksX24_priceOf_0 0 rfl rfl)
theorem dX24_priceOf_1 : decode cX24_priceOf 1 = .ok (.bipush 11, 2) := dk_16 11 (dk_at dksX24_priceOf_0 1 rfl rfl)
theorem dX24_priceOf_3 : decode cX24_priceOf 3 = .ok (.if_icmp .ne 41, 3) := dk_160 0 41 (dk_at dksX24_priceOf_0 3 rfl rfl)
theorem dX24_priceOf_6 : decode cX24_priceOf 6 = .ok (.aload_n 0, 1) := dk_42 (dk_at dksX24_priceOf_0 6 rfl rfl)
theorem dX24_priceOf_7 : decode cX24_priceOf 7 = .ok (.bipush 110, 2) := dk_16 110 (dk_at dksX24_priceOf_0 7 rfl rfl)
theorem dX24_priceOf_9 : decode cX24_priceOf 9 = .ok (.invokevirtual 358, 3) := dk_182 1 102 (dk_at dksX24_priceOf_0 9 rfl rfl)
theorem dX24_priceOf_12 : decode cX24_priceOf 12 = .ok (.aload_n 0, 1) := dk_42 (dk_at dksX24_priceOf_0 12 rfl rfl)
theorem dX24_priceOf_13 : decode cX24_priceOf 13 = .ok (.bipush 12, 2) := dk_16 12 (dk_at dksX24_priceOf_0 13 rfl rfl)
theorem dX24_priceOf_15 : decode cX24_priceOf 15 = .ok (.invokevirtual 358, 3) := dk_182 1 102 (dk_at dksX24_priceOf_0 15 rfl rfl)
theorem dX24_priceOf_18 : decode cX24_priceOf 18 = .ok (.aload_n 0, 1) := dk_42 (dk_at dksX24_priceOf_0 18 rfl rfl)
theorem dX24_priceOf_19 : decode cX24_priceOf 19 = .ok (.iload_n 1, 1) := dk_27 (dk_at dksX24_priceOf_0 19 rfl rfl)
theorem dX24_priceOf_20 : decode cX24_priceOf 20 = .ok (.lload_n 2, 1) := dk_32 (dk_at dksX24_priceOf_0 20 rfl rfl)
theorem dX24_priceOf_21 : decode cX24_priceOf 21 = .ok (.lload 4, 2) := dk_22 4 (dk_at dksX24_priceOf_0 21 rfl rfl)
theorem dX24_priceOf_23 : decode cX24_priceOf 23 = .ok (.lload 6, 2) := dk_22 6 (dk_at dksX24_priceOf_1 0 rfl rfl)
theorem dX24_priceOf_25 : decode cX24_priceOf 25 = .ok (.invokevirtual 361, 3) := dk_182 1 105 (dk_at dksX24_priceOf_1 2 rfl rfl)
theorem dX24_priceOf_28 : decode cX24_priceOf 28 = .ok (.aload_n 0, 1) := dk_42 (dk_at dksX24_priceOf_1 5 rfl rfl)
theorem dX24_priceOf_29 : decode cX24_priceOf 29 = .ok (.iload_n 1, 1) := dk_27 (dk_at dksX24_priceOf_1 6 rfl rfl)
theorem dX24_priceOf_30 : decode cX24_priceOf 30 = .ok (.lload_n 2, 1) := dk_32 (dk_at dksX24_priceOf_1 7 rfl rfl)
theorem dX24_priceOf_31 : decode cX24_priceOf 31 = .ok (.lload 4, 2) := dk_22 4 (dk_at dksX24_priceOf_1 8 rfl rfl)
theorem dX24_priceOf_33 : decode cX24_priceOf 33 = .ok (.lload 6, 2) := dk_22 6 (dk_at dksX24_priceOf_1 10 rfl rfl)
theorem dX24_priceOf_35 : decode cX24_priceOf 35 = .ok (.invokevirtual 369, 3) := dk_182 1 113 (dk_at dksX24_priceOf_1 12 rfl rfl)
theorem dX24_priceOf_38 : decode cX24_priceOf 38 = .ok (.ladd, 1) := dk_97 (dk_at dksX24_priceOf_1 15 rfl rfl)
theorem dX24_priceOf_39 : decode cX24_priceOf 39 = .ok (.ldc2_w 372, 3) := dk_20 1 116 (dk_at dksX24_priceOf_1 16 rfl rfl)
theorem dX24_priceOf_42 : decode cX24_priceOf 42 = .ok (.lmul, 1) := dk_105 (dk_at dksX24_priceOf_1 19 rfl rfl)
theorem dX24_priceOf_43 : decode cX24_priceOf 43 = .ok (.lreturn, 1) := dk_173 (dk_at dksX24_priceOf_1 20 rfl rfl)
theorem dX24_priceOf_44 : decode cX24_priceOf 44 = .ok (.aload_n 0, 1) := dk_42 (dk_at dksX24_priceOf_1 21 rfl rfl)
theorem dX24_priceOf_45 : decode cX24_priceOf 45 = .ok (.bipush 12, 2) := dk_16 12 (dk_at dksX24_priceOf_1 22 rfl rfl)
theorem dX24_priceOf_47 : decode cX24_priceOf 47 = .ok (.invokevirtual 358, 3) := dk_182 1 102 (dk_at dksX24_priceOf_2 0 rfl rfl)
theorem dX24_priceOf_50 : decode cX24_priceOf 50 = .ok (.aload_n 0, 1) := dk_42 (dk_at dksX24_priceOf_2 3 rfl rfl)
theorem dX24_priceOf_51 : decode cX24_priceOf 51 = .ok (.iload_n 1, 1) := dk_27 (dk_at dksX24_priceOf_2 4 rfl rfl)
theorem dX24_priceOf_52 : decode cX24_priceOf 52 = .ok (.lload_n 2, 1) := dk_32 (dk_at dksX24_priceOf_2 5 rfl rfl)
theorem dX24_priceOf_53 : decode cX24_priceOf 53 = .ok (.lload 4, 2) := dk_22 4 (dk_at dksX24_priceOf_2 6 rfl rfl)
theorem dX24_priceOf_55 : decode cX24_priceOf 55 = .ok (.lload 6, 2) := dk_22 6 (dk_at dksX24_priceOf_2 8 rfl rfl)
theorem dX24_priceOf_57 : decode cX24_priceOf 57 = .ok (.invokevirtual 361, 3) := dk_182 1 105 (dk_at dksX24_priceOf_2 10 rfl rfl)
theorem dX24_priceOf_60 : decode cX24_priceOf 60 = .ok (.lstore 8, 2) := dk_55 8 (dk_at dksX24_priceOf_2 13 rfl rfl)
theorem dX24_priceOf_62 : decode cX24_priceOf 62 = .ok (.lload 8, 2) := dk_22 8 (dk_at dksX24_priceOf_2 15 rfl rfl)
theorem dX24_priceOf_64 : decode cX24_priceOf 64 = .ok (.aload_n 0, 1) := dk_42 (dk_at dksX24_priceOf_2 17 rfl rfl)
theorem dX24_priceOf_65 : decode cX24_priceOf 65 = .ok (.iload_n 1, 1) := dk_27 (dk_at dksX24_priceOf_2 18 rfl rfl)
theorem dX24_priceOf_66 : decode cX24_priceOf 66 = .ok (.lload_n 2, 1) := dk_32 (dk_at dksX24_priceOf_2 19 rfl rfl)
theorem dX24_priceOf_67 : decode cX24_priceOf 67 = .ok (.lload 4, 2) := dk_22 4 (dk_at dksX24_priceOf_2 20 rfl rfl)
theorem dX24_priceOf_69 : decode cX24_priceOf 69 = .ok (.lload 6, 2) := dk_22 6 (dk_at dksX24_priceOf_2 22 rfl rfl)
theorem dX24_priceOf_71 : decode cX24_priceOf 71 = .ok (.invokevirtual 369, 3) := dk_182 1 113 (dk_at dksX24_priceOf_3 0 rfl rfl)
theorem dX24_priceOf_74 : decode cX24_priceOf 74 = .ok (.ladd, 1) := dk_97 (dk_at dksX24_priceOf_3 3 rfl rfl)
theorem dX24_priceOf_75 : decode cX24_priceOf 75 = .ok (.lreturn, 1) := dk_173 (dk_at dksX24_priceOf_3 4 rfl rfl)
abbrev cX24_runs : ByteArray := prog_53_method_56_code
def yX24_runs : MethodName := ⟨RX24, "runs", "(I)V"⟩
def dkwX24_runs_1 : List UInt8 := [4, 96, 181, 1, 99, 177]
abbrev dktX24_runs_1 : List UInt8 := dkwX24_runs_1 ++ []
def dkwX24_runs_0 : List UInt8 := [42, 180, 1, 99, 16, 20, 162, 0, 13, 42, 180, 0, 175, 42, 180, 1, 99, 27, 79, 42, 89, 180, 1, 99]
abbrev dktX24_runs_0 : List UInt8 := dkwX24_runs_0 ++ dktX24_runs_1
theorem dksX24_runs_0 : cX24_runs.data.toList.drop 0 = dktX24_runs_0 := by decide +kernel
theorem dksX24_runs_1 : cX24_runs.data.toList.drop 24 = dktX24_runs_1 := dk_seg dksX24_runs_0 24 rfl rfl
theorem dX24_runs_0 : decode cX24_runs 0 = .ok (.aload_n 0, 1) := dk_42 (dk_at dksX24_runs_0 0 rfl rfl)
theorem dX24_runs_1 : decode cX24_runs 1 = .ok (.getfield 355, 3) := dk_180 1 99 (dk_at dksX24_runs_0 1 rfl rfl)
theorem dX24_runs_4 : decode cX24_runs 4 = .ok (.bipush 20, 2) := dk_16 20 (dk_at dksX24_runs_0 4 rfl rfl)
theorem dX24_runs_6 : decode cX24_runs 6 = .ok (.if_icmp .ge 13, 3) := dk_162 0 13 (dk_at dksX24_runs_0 6 rfl rfl)
theorem dX24_runs_9 : decode cX24_runs 9 = .ok (.aload_n 0, 1) := dk_42 (dk_at dksX24_runs_0 9 rfl rfl)
theorem dX24_runs_10 : decode cX24_runs 10 = .ok (.getfield 175, 3) := dk_180 0 175 (dk_at dksX24_runs_0 10 rfl rfl)
theorem dX24_runs_13 : decode cX24_runs 13 = .ok (.aload_n 0, 1) := dk_42 (dk_at dksX24_runs_0 13 rfl rfl)
theorem dX24_runs_14 : decode cX24_runs 14 = .ok (.getfield 355, 3) := dk_180 1 99 (dk_at dksX24_runs_0 14 rfl rfl)
theorem dX24_runs_17 : decode cX24_runs 17 = .ok (.iload_n 1, 1) := dk_27 (dk_at dksX24_runs_0 17 rfl rfl)
theorem dX24_runs_18 : decode cX24_runs 18 = .ok (.iastore, 1) := dk_79 (dk_at dksX24_runs_0 18 rfl rfl)
theorem dX24_runs_19 : decode cX24_runs 19 = .ok (.aload_n 0, 1) := dk_42 (dk_at dksX24_runs_0 19 rfl rfl)
theorem dX24_runs_20 : decode cX24_runs 20 = .ok (.dup, 1) := dk_89 (dk_at dksX24_runs_0 20 rfl rfl)
theorem dX24_runs_21 : decode cX24_runs 21 = .ok (.getfield 355, 3) := dk_180 1 99 (dk_at dksX24_runs_0 21 rfl rfl)
theorem dX24_runs_24 : decode cX24_runs 24 = .ok (.iconst 1, 1) := dk_4 (dk_at dksX24_runs_1 0 rfl rfl)
theorem dX24_runs_25 : decode cX24_runs 25 = .ok (.iadd, 1) := dk_96 (dk_at dksX24_runs_1 1 rfl rfl)
theorem dX24_runs_26 : decode cX24_runs 26 = .ok (.putfield 355, 3) := dk_181 1 99 (dk_at dksX24_runs_1 2 rfl rfl)
theorem dX24_runs_29 : decode cX24_runs 29 = .ok (.return_, 1) := dk_177 (dk_at dksX24_runs_1 5 rfl rfl)
abbrev cX24_reads_2 : ByteArray := prog_53_method_57_code
def yX24_reads_2 : MethodName := ⟨RX24, "reads", "(IJJJ)J"⟩
def dkwX24_reads_2_5 : List UInt8 := [184, 1, 110, 32, 22, 4, 22, 6, 182, 1, 105, 173]
abbrev dktX24_reads_2_5 : List UInt8 := dkwX24_reads_2_5 ++ []
def dkwX24_reads_2_4 : List UInt8 := [42, 16, 80, 182, 1, 102, 42, 16, 7, 32, 22, 4, 22, 6, 182, 1, 105, 20, 1, 108, 105, 173, 42, 27]
abbrev dktX24_reads_2_4 : List UInt8 := dkwX24_reads_2_4 ++ dktX24_reads_2_5
def dkwX24_reads_2_3 : List UInt8 := [22, 4, 97, 173, 42, 16, 50, 182, 1, 102, 42, 6, 32, 22, 4, 22, 6, 182, 1, 105, 22, 6, 97, 173]
abbrev dktX24_reads_2_3 : List UInt8 := dkwX24_reads_2_3 ++ dktX24_reads_2_4
def dkwX24_reads_2_2 : List UInt8 := [42, 16, 10, 182, 1, 102, 32, 173, 42, 16, 30, 182, 1, 102, 42, 3, 32, 22, 4, 22, 6, 182, 1, 105]
abbrev dktX24_reads_2_2 : List UInt8 := dkwX24_reads_2_2 ++ dktX24_reads_2_3
def dkwX24_reads_2_1 : List UInt8 := [170, 0, 0, 0, 0, 0, 121, 0, 0, 0, 0, 0, 0, 0, 8, 0, 0, 0, 51, 0, 0, 0, 121, 0, 0, 0, 121, 0, 0, 0, 59, 0, 0, 0, 121, 0, 0, 0, 79, 0, 0, 0, 121, 0, 0, 0, 121, 0, 0, 0, 99]
abbrev dktX24_reads_2_1 : List UInt8 := dkwX24_reads_2_1 ++ dktX24_reads_2_2
def dkwX24_reads_2_0 : List UInt8 := [27]
abbrev dktX24_reads_2_0 : List UInt8 := dkwX24_reads_2_0 ++ dktX24_reads_2_1
theorem dksX24_reads_2_0 : cX24_reads_2.data.toList.drop 0 = dktX24_reads_2_0 := by decide +kernel
theorem dksX24_reads_2_1 : cX24_reads_2.data.toList.drop 1 = dktX24_reads_2_1 := dk_seg dksX24_reads_2_0 1 rfl rfl
theorem dksX24_reads_2_2 : cX24_reads_2.data.toList.drop 52 = dktX24_reads_2_2 := dk_seg dksX24_reads_2_1 51 rfl rfl
theorem dksX24_reads_2_3 : cX24_reads_2.data.toList.drop 76 = dktX24_reads_2_3 := dk_seg dksX24_reads_2_2 24 rfl rfl
theorem dksX24_reads_2_4 : cX24_reads_2.data.toList.drop 100 = dktX24_reads_2_4 := dk_seg dksX24_reads_2_3 24 rfl rfl
theorem dksX24_reads_2_5 : cX24_reads_2.data.toList.drop 124 = dktX24_reads_2_5 := dk_seg dksX24_reads_2_4 24 rfl rfl
theorem dX24_reads_2_0 : decode cX24_reads_2 0 = .ok (.iload_n 1, 1) := dk_27 (dk_at dksX24_reads_2_0 0 rfl rfl)
theorem dX24_reads_2_1 : decode cX24_reads_2 1 = .ok (.tableswitch 121 0 8 #[51, 121, 121, 59, 121, 79, 121, 121, 99], 51) := by decide +kernel
theorem dX24_reads_2_52 : decode cX24_reads_2 52 = .ok (.aload_n 0, 1) := dk_42 (dk_at dksX24_reads_2_2 0 rfl rfl)
theorem dX24_reads_2_53 : decode cX24_reads_2 53 = .ok (.bipush 10, 2) := dk_16 10 (dk_at dksX24_reads_2_2 1 rfl rfl)
theorem dX24_reads_2_55 : decode cX24_reads_2 55 = .ok (.invokevirtual 358, 3) := dk_182 1 102 (dk_at dksX24_reads_2_2 3 rfl rfl)
theorem dX24_reads_2_58 : decode cX24_reads_2 58 = .ok (.lload_n 2, 1) := dk_32 (dk_at dksX24_reads_2_2 6 rfl rfl)
theorem dX24_reads_2_59 : decode cX24_reads_2 59 = .ok (.lreturn, 1) := dk_173 (dk_at dksX24_reads_2_2 7 rfl rfl)
theorem dX24_reads_2_60 : decode cX24_reads_2 60 = .ok (.aload_n 0, 1) := dk_42 (dk_at dksX24_reads_2_2 8 rfl rfl)
theorem dX24_reads_2_61 : decode cX24_reads_2 61 = .ok (.bipush 30, 2) := dk_16 30 (dk_at dksX24_reads_2_2 9 rfl rfl)
theorem dX24_reads_2_63 : decode cX24_reads_2 63 = .ok (.invokevirtual 358, 3) := dk_182 1 102 (dk_at dksX24_reads_2_2 11 rfl rfl)
theorem dX24_reads_2_66 : decode cX24_reads_2 66 = .ok (.aload_n 0, 1) := dk_42 (dk_at dksX24_reads_2_2 14 rfl rfl)
theorem dX24_reads_2_67 : decode cX24_reads_2 67 = .ok (.iconst 0, 1) := dk_3 (dk_at dksX24_reads_2_2 15 rfl rfl)
theorem dX24_reads_2_68 : decode cX24_reads_2 68 = .ok (.lload_n 2, 1) := dk_32 (dk_at dksX24_reads_2_2 16 rfl rfl)
theorem dX24_reads_2_69 : decode cX24_reads_2 69 = .ok (.lload 4, 2) := dk_22 4 (dk_at dksX24_reads_2_2 17 rfl rfl)
theorem dX24_reads_2_71 : decode cX24_reads_2 71 = .ok (.lload 6, 2) := dk_22 6 (dk_at dksX24_reads_2_2 19 rfl rfl)
theorem dX24_reads_2_73 : decode cX24_reads_2 73 = .ok (.invokevirtual 361, 3) := dk_182 1 105 (dk_at dksX24_reads_2_2 21 rfl rfl)
theorem dX24_reads_2_76 : decode cX24_reads_2 76 = .ok (.lload 4, 2) := dk_22 4 (dk_at dksX24_reads_2_3 0 rfl rfl)
theorem dX24_reads_2_78 : decode cX24_reads_2 78 = .ok (.ladd, 1) := dk_97 (dk_at dksX24_reads_2_3 2 rfl rfl)
theorem dX24_reads_2_79 : decode cX24_reads_2 79 = .ok (.lreturn, 1) := dk_173 (dk_at dksX24_reads_2_3 3 rfl rfl)
theorem dX24_reads_2_80 : decode cX24_reads_2 80 = .ok (.aload_n 0, 1) := dk_42 (dk_at dksX24_reads_2_3 4 rfl rfl)
theorem dX24_reads_2_81 : decode cX24_reads_2 81 = .ok (.bipush 50, 2) := dk_16 50 (dk_at dksX24_reads_2_3 5 rfl rfl)
theorem dX24_reads_2_83 : decode cX24_reads_2 83 = .ok (.invokevirtual 358, 3) := dk_182 1 102 (dk_at dksX24_reads_2_3 7 rfl rfl)
theorem dX24_reads_2_86 : decode cX24_reads_2 86 = .ok (.aload_n 0, 1) := dk_42 (dk_at dksX24_reads_2_3 10 rfl rfl)
theorem dX24_reads_2_87 : decode cX24_reads_2 87 = .ok (.iconst 3, 1) := dk_6 (dk_at dksX24_reads_2_3 11 rfl rfl)
theorem dX24_reads_2_88 : decode cX24_reads_2 88 = .ok (.lload_n 2, 1) := dk_32 (dk_at dksX24_reads_2_3 12 rfl rfl)
theorem dX24_reads_2_89 : decode cX24_reads_2 89 = .ok (.lload 4, 2) := dk_22 4 (dk_at dksX24_reads_2_3 13 rfl rfl)
theorem dX24_reads_2_91 : decode cX24_reads_2 91 = .ok (.lload 6, 2) := dk_22 6 (dk_at dksX24_reads_2_3 15 rfl rfl)
theorem dX24_reads_2_93 : decode cX24_reads_2 93 = .ok (.invokevirtual 361, 3) := dk_182 1 105 (dk_at dksX24_reads_2_3 17 rfl rfl)
theorem dX24_reads_2_96 : decode cX24_reads_2 96 = .ok (.lload 6, 2) := dk_22 6 (dk_at dksX24_reads_2_3 20 rfl rfl)
theorem dX24_reads_2_98 : decode cX24_reads_2 98 = .ok (.ladd, 1) := dk_97 (dk_at dksX24_reads_2_3 22 rfl rfl)
theorem dX24_reads_2_99 : decode cX24_reads_2 99 = .ok (.lreturn, 1) := dk_173 (dk_at dksX24_reads_2_3 23 rfl rfl)
theorem dX24_reads_2_100 : decode cX24_reads_2 100 = .ok (.aload_n 0, 1) := dk_42 (dk_at dksX24_reads_2_4 0 rfl rfl)
theorem dX24_reads_2_101 : decode cX24_reads_2 101 = .ok (.bipush 80, 2) := dk_16 80 (dk_at dksX24_reads_2_4 1 rfl rfl)
theorem dX24_reads_2_103 : decode cX24_reads_2 103 = .ok (.invokevirtual 358, 3) := dk_182 1 102 (dk_at dksX24_reads_2_4 3 rfl rfl)
theorem dX24_reads_2_106 : decode cX24_reads_2 106 = .ok (.aload_n 0, 1) := dk_42 (dk_at dksX24_reads_2_4 6 rfl rfl)
theorem dX24_reads_2_107 : decode cX24_reads_2 107 = .ok (.bipush 7, 2) := dk_16 7 (dk_at dksX24_reads_2_4 7 rfl rfl)
theorem dX24_reads_2_109 : decode cX24_reads_2 109 = .ok (.lload_n 2, 1) := dk_32 (dk_at dksX24_reads_2_4 9 rfl rfl)
theorem dX24_reads_2_110 : decode cX24_reads_2 110 = .ok (.lload 4, 2) := dk_22 4 (dk_at dksX24_reads_2_4 10 rfl rfl)
theorem dX24_reads_2_112 : decode cX24_reads_2 112 = .ok (.lload 6, 2) := dk_22 6 (dk_at dksX24_reads_2_4 12 rfl rfl)
theorem dX24_reads_2_114 : decode cX24_reads_2 114 = .ok (.invokevirtual 361, 3) := dk_182 1 105 (dk_at dksX24_reads_2_4 14 rfl rfl)
theorem dX24_reads_2_117 : decode cX24_reads_2 117 = .ok (.ldc2_w 364, 3) := dk_20 1 108 (dk_at dksX24_reads_2_4 17 rfl rfl)
theorem dX24_reads_2_120 : decode cX24_reads_2 120 = .ok (.lmul, 1) := dk_105 (dk_at dksX24_reads_2_4 20 rfl rfl)
theorem dX24_reads_2_121 : decode cX24_reads_2 121 = .ok (.lreturn, 1) := dk_173 (dk_at dksX24_reads_2_4 21 rfl rfl)
theorem dX24_reads_2_122 : decode cX24_reads_2 122 = .ok (.aload_n 0, 1) := dk_42 (dk_at dksX24_reads_2_4 22 rfl rfl)
theorem dX24_reads_2_123 : decode cX24_reads_2 123 = .ok (.iload_n 1, 1) := dk_27 (dk_at dksX24_reads_2_4 23 rfl rfl)
theorem dX24_reads_2_124 : decode cX24_reads_2 124 = .ok (.invokestatic 366, 3) := dk_184 1 110 (dk_at dksX24_reads_2_5 0 rfl rfl)
theorem dX24_reads_2_127 : decode cX24_reads_2 127 = .ok (.lload_n 2, 1) := dk_32 (dk_at dksX24_reads_2_5 3 rfl rfl)
theorem dX24_reads_2_128 : decode cX24_reads_2 128 = .ok (.lload 4, 2) := dk_22 4 (dk_at dksX24_reads_2_5 4 rfl rfl)
theorem dX24_reads_2_130 : decode cX24_reads_2 130 = .ok (.lload 6, 2) := dk_22 6 (dk_at dksX24_reads_2_5 6 rfl rfl)
theorem dX24_reads_2_132 : decode cX24_reads_2 132 = .ok (.invokevirtual 361, 3) := dk_182 1 105 (dk_at dksX24_reads_2_5 8 rfl rfl)
theorem dX24_reads_2_135 : decode cX24_reads_2 135 = .ok (.lreturn, 1) := dk_173 (dk_at dksX24_reads_2_5 11 rfl rfl)
abbrev cX24_under : ByteArray := prog_53_method_55_code
def yX24_under : MethodName := ⟨RX24, "under", "(I)I"⟩
def dkwX24_under_1 : List UInt8 := [16, 8, 159, 0, 9, 26, 16, 9, 160, 0, 8, 16, 7, 167, 0, 4, 3, 172]
abbrev dktX24_under_1 : List UInt8 := dkwX24_under_1 ++ []
def dkwX24_under_0 : List UInt8 := [26, 154, 0, 7, 2, 167, 0, 36, 26, 7, 161, 0, 13, 26, 16, 6, 163, 0, 7, 6, 167, 0, 21, 26]
abbrev dktX24_under_0 : List UInt8 := dkwX24_under_0 ++ dktX24_under_1
theorem dksX24_under_0 : cX24_under.data.toList.drop 0 = dktX24_under_0 := by decide +kernel
theorem dksX24_under_1 : cX24_under.data.toList.drop 24 = dktX24_under_1 := dk_seg dksX24_under_0 24 rfl rfl
theorem dX24_under_0 : decode cX24_under 0 = .ok (.iload_n 0, 1) := dk_26 (dk_at dksX24_under_0 0 rfl rfl)
theorem dX24_under_1 : decode cX24_under 1 = .ok (.ifCond .ne 7, 3) := dk_154 0 7 (dk_at dksX24_under_0 1 rfl rfl)
theorem dX24_under_4 : decode cX24_under 4 = .ok (.iconst (-1), 1) := dk_2 (dk_at dksX24_under_0 4 rfl rfl)
theorem dX24_under_5 : decode cX24_under 5 = .ok (.goto 36, 3) := dk_167 0 36 (dk_at dksX24_under_0 5 rfl rfl)
theorem dX24_under_8 : decode cX24_under 8 = .ok (.iload_n 0, 1) := dk_26 (dk_at dksX24_under_0 8 rfl rfl)
theorem dX24_under_9 : decode cX24_under 9 = .ok (.iconst 4, 1) := dk_7 (dk_at dksX24_under_0 9 rfl rfl)
theorem dX24_under_10 : decode cX24_under 10 = .ok (.if_icmp .lt 13, 3) := dk_161 0 13 (dk_at dksX24_under_0 10 rfl rfl)
theorem dX24_under_13 : decode cX24_under 13 = .ok (.iload_n 0, 1) := dk_26 (dk_at dksX24_under_0 13 rfl rfl)
theorem dX24_under_14 : decode cX24_under 14 = .ok (.bipush 6, 2) := dk_16 6 (dk_at dksX24_under_0 14 rfl rfl)
theorem dX24_under_16 : decode cX24_under 16 = .ok (.if_icmp .gt 7, 3) := dk_163 0 7 (dk_at dksX24_under_0 16 rfl rfl)
theorem dX24_under_19 : decode cX24_under 19 = .ok (.iconst 3, 1) := dk_6 (dk_at dksX24_under_0 19 rfl rfl)
theorem dX24_under_20 : decode cX24_under 20 = .ok (.goto 21, 3) := dk_167 0 21 (dk_at dksX24_under_0 20 rfl rfl)
theorem dX24_under_23 : decode cX24_under 23 = .ok (.iload_n 0, 1) := dk_26 (dk_at dksX24_under_0 23 rfl rfl)
theorem dX24_under_24 : decode cX24_under 24 = .ok (.bipush 8, 2) := dk_16 8 (dk_at dksX24_under_1 0 rfl rfl)
theorem dX24_under_26 : decode cX24_under 26 = .ok (.if_icmp .eq 9, 3) := dk_159 0 9 (dk_at dksX24_under_1 2 rfl rfl)
theorem dX24_under_29 : decode cX24_under 29 = .ok (.iload_n 0, 1) := dk_26 (dk_at dksX24_under_1 5 rfl rfl)
theorem dX24_under_30 : decode cX24_under 30 = .ok (.bipush 9, 2) := dk_16 9 (dk_at dksX24_under_1 6 rfl rfl)
theorem dX24_under_32 : decode cX24_under 32 = .ok (.if_icmp .ne 8, 3) := dk_160 0 8 (dk_at dksX24_under_1 8 rfl rfl)
theorem dX24_under_35 : decode cX24_under 35 = .ok (.bipush 7, 2) := dk_16 7 (dk_at dksX24_under_1 11 rfl rfl)
theorem dX24_under_37 : decode cX24_under 37 = .ok (.goto 4, 3) := dk_167 0 4 (dk_at dksX24_under_1 13 rfl rfl)
theorem dX24_under_40 : decode cX24_under 40 = .ok (.iconst 0, 1) := dk_3 (dk_at dksX24_under_1 16 rfl rfl)
theorem dX24_under_41 : decode cX24_under 41 = .ok (.ireturn, 1) := dk_172 (dk_at dksX24_under_1 17 rfl rfl)
abbrev cX24_works : ByteArray := prog_53_method_58_code
def yX24_works : MethodName := ⟨RX24, "works", "(IJJJ)J"⟩
def dkwX24_works_8 : List UInt8 := [173, 42, 27, 184, 1, 110, 32, 22, 4, 22, 6, 182, 1, 113, 173]
abbrev dktX24_works_8 : List UInt8 := dkwX24_works_8 ++ []
def dkwX24_works_7 : List UInt8 := [20, 1, 108, 109, 55, 10, 167, 255, 235, 42, 3, 32, 22, 4, 22, 6, 182, 1, 113, 32, 22, 8, 105, 97]
abbrev dktX24_works_7 : List UInt8 := dkwX24_works_7 ++ dktX24_works_8
def dkwX24_works_6 : List UInt8 := [182, 1, 102, 9, 55, 8, 32, 55, 10, 22, 10, 9, 148, 158, 0, 20, 22, 8, 10, 97, 55, 8, 22, 10]
abbrev dktX24_works_6 : List UInt8 := dkwX24_works_6 ++ dktX24_works_7
def dkwX24_works_5 : List UInt8 := [16, 70, 182, 1, 102, 42, 3, 32, 22, 4, 22, 6, 182, 1, 113, 22, 6, 97, 173, 42, 16, 100]
abbrev dktX24_works_5 : List UInt8 := dkwX24_works_5 ++ dktX24_works_6
def dkwX24_works_4 : List UInt8 := [42, 16, 60, 182, 1, 102, 42, 6, 32, 22, 4, 22, 6, 182, 1, 113, 32, 22, 4, 105, 97, 173, 42]
abbrev dktX24_works_4 : List UInt8 := dkwX24_works_4 ++ dktX24_works_5
def dkwX24_works_3 : List UInt8 := [22, 6, 97, 173, 42, 16, 40, 182, 1, 102, 42, 6, 32, 22, 4, 22, 6, 182, 1, 113, 22, 4, 97, 173]
abbrev dktX24_works_3 : List UInt8 := dkwX24_works_3 ++ dktX24_works_4
def dkwX24_works_2 : List UInt8 := [42, 16, 11, 182, 1, 102, 9, 173, 42, 16, 31, 182, 1, 102, 42, 3, 32, 22, 4, 22, 6, 182, 1, 113]
abbrev dktX24_works_2 : List UInt8 := dkwX24_works_2 ++ dktX24_works_3
def dkwX24_works_1 : List UInt8 := [170, 0, 0, 0, 0, 0, 201, 0, 0, 0, 0, 0, 0, 0, 10, 0, 0, 0, 59, 0, 0, 0, 201, 0, 0, 0, 201, 0, 0, 0, 67, 0, 0, 0, 87, 0, 0, 0, 201, 0, 0, 0, 107, 0, 0, 0, 129, 0, 0, 0, 201, 0, 0, 0, 201, 0, 0, 0, 149]
abbrev dktX24_works_1 : List UInt8 := dkwX24_works_1 ++ dktX24_works_2
def dkwX24_works_0 : List UInt8 := [27]
abbrev dktX24_works_0 : List UInt8 := dkwX24_works_0 ++ dktX24_works_1
theorem dksX24_works_0 : cX24_works.data.toList.drop 0 = dktX24_works_0 := by decide +kernel
theorem dksX24_works_1 : cX24_works.data.toList.drop 1 = dktX24_works_1 := dk_seg dksX24_works_0 1 rfl rfl
theorem dksX24_works_2 : cX24_works.data.toList.drop 60 = dktX24_works_2 := dk_seg dksX24_works_1 59 rfl rfl
theorem dksX24_works_3 : cX24_works.data.toList.drop 84 = dktX24_works_3 := dk_seg dksX24_works_2 24 rfl rfl
theorem dksX24_works_4 : cX24_works.data.toList.drop 108 = dktX24_works_4 := dk_seg dksX24_works_3 24 rfl rfl
theorem dksX24_works_5 : cX24_works.data.toList.drop 131 = dktX24_works_5 := dk_seg dksX24_works_4 23 rfl rfl
theorem dksX24_works_6 : cX24_works.data.toList.drop 153 = dktX24_works_6 := dk_seg dksX24_works_5 22 rfl rfl
theorem dksX24_works_7 : cX24_works.data.toList.drop 177 = dktX24_works_7 := dk_seg dksX24_works_6 24 rfl rfl
theorem dksX24_works_8 : cX24_works.data.toList.drop 201 = dktX24_works_8 := dk_seg dksX24_works_7 24 rfl rfl
theorem dX24_works_0 : decode cX24_works 0 = .ok (.iload_n 1, 1) := dk_27 (dk_at dksX24_works_0 0 rfl rfl)
theorem dX24_works_1 : decode cX24_works 1 = .ok (.tableswitch 201 0 10 #[59, 201, 201, 67, 87, 201, 107, 129, 201, 201, 149], 59) := by decide +kernel
theorem dX24_works_60 : decode cX24_works 60 = .ok (.aload_n 0, 1) := dk_42 (dk_at dksX24_works_2 0 rfl rfl)
theorem dX24_works_61 : decode cX24_works 61 = .ok (.bipush 11, 2) := dk_16 11 (dk_at dksX24_works_2 1 rfl rfl)
theorem dX24_works_63 : decode cX24_works 63 = .ok (.invokevirtual 358, 3) := dk_182 1 102 (dk_at dksX24_works_2 3 rfl rfl)
theorem dX24_works_66 : decode cX24_works 66 = .ok (.lconst 0, 1) := dk_9 (dk_at dksX24_works_2 6 rfl rfl)
theorem dX24_works_67 : decode cX24_works 67 = .ok (.lreturn, 1) := dk_173 (dk_at dksX24_works_2 7 rfl rfl)
theorem dX24_works_68 : decode cX24_works 68 = .ok (.aload_n 0, 1) := dk_42 (dk_at dksX24_works_2 8 rfl rfl)
theorem dX24_works_69 : decode cX24_works 69 = .ok (.bipush 31, 2) := dk_16 31 (dk_at dksX24_works_2 9 rfl rfl)
theorem dX24_works_71 : decode cX24_works 71 = .ok (.invokevirtual 358, 3) := dk_182 1 102 (dk_at dksX24_works_2 11 rfl rfl)
theorem dX24_works_74 : decode cX24_works 74 = .ok (.aload_n 0, 1) := dk_42 (dk_at dksX24_works_2 14 rfl rfl)
theorem dX24_works_75 : decode cX24_works 75 = .ok (.iconst 0, 1) := dk_3 (dk_at dksX24_works_2 15 rfl rfl)
theorem dX24_works_76 : decode cX24_works 76 = .ok (.lload_n 2, 1) := dk_32 (dk_at dksX24_works_2 16 rfl rfl)
theorem dX24_works_77 : decode cX24_works 77 = .ok (.lload 4, 2) := dk_22 4 (dk_at dksX24_works_2 17 rfl rfl)
theorem dX24_works_79 : decode cX24_works 79 = .ok (.lload 6, 2) := dk_22 6 (dk_at dksX24_works_2 19 rfl rfl)
theorem dX24_works_81 : decode cX24_works 81 = .ok (.invokevirtual 369, 3) := dk_182 1 113 (dk_at dksX24_works_2 21 rfl rfl)
theorem dX24_works_84 : decode cX24_works 84 = .ok (.lload 6, 2) := dk_22 6 (dk_at dksX24_works_3 0 rfl rfl)
theorem dX24_works_86 : decode cX24_works 86 = .ok (.ladd, 1) := dk_97 (dk_at dksX24_works_3 2 rfl rfl)
theorem dX24_works_87 : decode cX24_works 87 = .ok (.lreturn, 1) := dk_173 (dk_at dksX24_works_3 3 rfl rfl)
theorem dX24_works_88 : decode cX24_works 88 = .ok (.aload_n 0, 1) := dk_42 (dk_at dksX24_works_3 4 rfl rfl)
theorem dX24_works_89 : decode cX24_works 89 = .ok (.bipush 40, 2) := dk_16 40 (dk_at dksX24_works_3 5 rfl rfl)
theorem dX24_works_91 : decode cX24_works 91 = .ok (.invokevirtual 358, 3) := dk_182 1 102 (dk_at dksX24_works_3 7 rfl rfl)
theorem dX24_works_94 : decode cX24_works 94 = .ok (.aload_n 0, 1) := dk_42 (dk_at dksX24_works_3 10 rfl rfl)
theorem dX24_works_95 : decode cX24_works 95 = .ok (.iconst 3, 1) := dk_6 (dk_at dksX24_works_3 11 rfl rfl)
theorem dX24_works_96 : decode cX24_works 96 = .ok (.lload_n 2, 1) := dk_32 (dk_at dksX24_works_3 12 rfl rfl)
theorem dX24_works_97 : decode cX24_works 97 = .ok (.lload 4, 2) := dk_22 4 (dk_at dksX24_works_3 13 rfl rfl)
theorem dX24_works_99 : decode cX24_works 99 = .ok (.lload 6, 2) := dk_22 6 (dk_at dksX24_works_3 15 rfl rfl)
theorem dX24_works_101 : decode cX24_works 101 = .ok (.invokevirtual 369, 3) := dk_182 1 113 (dk_at dksX24_works_3 17 rfl rfl)
theorem dX24_works_104 : decode cX24_works 104 = .ok (.lload 4, 2) := dk_22 4 (dk_at dksX24_works_3 20 rfl rfl)
theorem dX24_works_106 : decode cX24_works 106 = .ok (.ladd, 1) := dk_97 (dk_at dksX24_works_3 22 rfl rfl)
theorem dX24_works_107 : decode cX24_works 107 = .ok (.lreturn, 1) := dk_173 (dk_at dksX24_works_3 23 rfl rfl)
theorem dX24_works_108 : decode cX24_works 108 = .ok (.aload_n 0, 1) := dk_42 (dk_at dksX24_works_4 0 rfl rfl)
theorem dX24_works_109 : decode cX24_works 109 = .ok (.bipush 60, 2) := dk_16 60 (dk_at dksX24_works_4 1 rfl rfl)
theorem dX24_works_111 : decode cX24_works 111 = .ok (.invokevirtual 358, 3) := dk_182 1 102 (dk_at dksX24_works_4 3 rfl rfl)
theorem dX24_works_114 : decode cX24_works 114 = .ok (.aload_n 0, 1) := dk_42 (dk_at dksX24_works_4 6 rfl rfl)
theorem dX24_works_115 : decode cX24_works 115 = .ok (.iconst 3, 1) := dk_6 (dk_at dksX24_works_4 7 rfl rfl)
theorem dX24_works_116 : decode cX24_works 116 = .ok (.lload_n 2, 1) := dk_32 (dk_at dksX24_works_4 8 rfl rfl)
theorem dX24_works_117 : decode cX24_works 117 = .ok (.lload 4, 2) := dk_22 4 (dk_at dksX24_works_4 9 rfl rfl)
theorem dX24_works_119 : decode cX24_works 119 = .ok (.lload 6, 2) := dk_22 6 (dk_at dksX24_works_4 11 rfl rfl)
theorem dX24_works_121 : decode cX24_works 121 = .ok (.invokevirtual 369, 3) := dk_182 1 113 (dk_at dksX24_works_4 13 rfl rfl)
theorem dX24_works_124 : decode cX24_works 124 = .ok (.lload_n 2, 1) := dk_32 (dk_at dksX24_works_4 16 rfl rfl)
theorem dX24_works_125 : decode cX24_works 125 = .ok (.lload 4, 2) := dk_22 4 (dk_at dksX24_works_4 17 rfl rfl)
theorem dX24_works_127 : decode cX24_works 127 = .ok (.lmul, 1) := dk_105 (dk_at dksX24_works_4 19 rfl rfl)
theorem dX24_works_128 : decode cX24_works 128 = .ok (.ladd, 1) := dk_97 (dk_at dksX24_works_4 20 rfl rfl)
theorem dX24_works_129 : decode cX24_works 129 = .ok (.lreturn, 1) := dk_173 (dk_at dksX24_works_4 21 rfl rfl)
theorem dX24_works_130 : decode cX24_works 130 = .ok (.aload_n 0, 1) := dk_42 (dk_at dksX24_works_4 22 rfl rfl)
theorem dX24_works_131 : decode cX24_works 131 = .ok (.bipush 70, 2) := dk_16 70 (dk_at dksX24_works_5 0 rfl rfl)
theorem dX24_works_133 : decode cX24_works 133 = .ok (.invokevirtual 358, 3) := dk_182 1 102 (dk_at dksX24_works_5 2 rfl rfl)
theorem dX24_works_136 : decode cX24_works 136 = .ok (.aload_n 0, 1) := dk_42 (dk_at dksX24_works_5 5 rfl rfl)
theorem dX24_works_137 : decode cX24_works 137 = .ok (.iconst 0, 1) := dk_3 (dk_at dksX24_works_5 6 rfl rfl)
theorem dX24_works_138 : decode cX24_works 138 = .ok (.lload_n 2, 1) := dk_32 (dk_at dksX24_works_5 7 rfl rfl)
theorem dX24_works_139 : decode cX24_works 139 = .ok (.lload 4, 2) := dk_22 4 (dk_at dksX24_works_5 8 rfl rfl)
theorem dX24_works_141 : decode cX24_works 141 = .ok (.lload 6, 2) := dk_22 6 (dk_at dksX24_works_5 10 rfl rfl)
theorem dX24_works_143 : decode cX24_works 143 = .ok (.invokevirtual 369, 3) := dk_182 1 113 (dk_at dksX24_works_5 12 rfl rfl)
theorem dX24_works_146 : decode cX24_works 146 = .ok (.lload 6, 2) := dk_22 6 (dk_at dksX24_works_5 15 rfl rfl)
theorem dX24_works_148 : decode cX24_works 148 = .ok (.ladd, 1) := dk_97 (dk_at dksX24_works_5 17 rfl rfl)
theorem dX24_works_149 : decode cX24_works 149 = .ok (.lreturn, 1) := dk_173 (dk_at dksX24_works_5 18 rfl rfl)
theorem dX24_works_150 : decode cX24_works 150 = .ok (.aload_n 0, 1) := dk_42 (dk_at dksX24_works_5 19 rfl rfl)
theorem dX24_works_151 : decode cX24_works 151 = .ok (.bipush 100, 2) := dk_16 100 (dk_at dksX24_works_5 20 rfl rfl)
theorem dX24_works_153 : decode cX24_works 153 = .ok (.invokevirtual 358, 3) := dk_182 1 102 (dk_at dksX24_works_6 0 rfl rfl)
theorem dX24_works_156 : decode cX24_works 156 = .ok (.lconst 0, 1) := dk_9 (dk_at dksX24_works_6 3 rfl rfl)
theorem dX24_works_157 : decode cX24_works 157 = .ok (.lstore 8, 2) := dk_55 8 (dk_at dksX24_works_6 4 rfl rfl)
theorem dX24_works_159 : decode cX24_works 159 = .ok (.lload_n 2, 1) := dk_32 (dk_at dksX24_works_6 6 rfl rfl)
theorem dX24_works_160 : decode cX24_works 160 = .ok (.lstore 10, 2) := dk_55 10 (dk_at dksX24_works_6 7 rfl rfl)
theorem dX24_works_162 : decode cX24_works 162 = .ok (.lload 10, 2) := dk_22 10 (dk_at dksX24_works_6 9 rfl rfl)
theorem dX24_works_164 : decode cX24_works 164 = .ok (.lconst 0, 1) := dk_9 (dk_at dksX24_works_6 11 rfl rfl)
theorem dX24_works_165 : decode cX24_works 165 = .ok (.lcmp, 1) := dk_148 (dk_at dksX24_works_6 12 rfl rfl)
theorem dX24_works_166 : decode cX24_works 166 = .ok (.ifCond .le 20, 3) := dk_158 0 20 (dk_at dksX24_works_6 13 rfl rfl)
theorem dX24_works_169 : decode cX24_works 169 = .ok (.lload 8, 2) := dk_22 8 (dk_at dksX24_works_6 16 rfl rfl)
theorem dX24_works_171 : decode cX24_works 171 = .ok (.lconst 1, 1) := dk_10 (dk_at dksX24_works_6 18 rfl rfl)
theorem dX24_works_172 : decode cX24_works 172 = .ok (.ladd, 1) := dk_97 (dk_at dksX24_works_6 19 rfl rfl)
theorem dX24_works_173 : decode cX24_works 173 = .ok (.lstore 8, 2) := dk_55 8 (dk_at dksX24_works_6 20 rfl rfl)
theorem dX24_works_175 : decode cX24_works 175 = .ok (.lload 10, 2) := dk_22 10 (dk_at dksX24_works_6 22 rfl rfl)
theorem dX24_works_177 : decode cX24_works 177 = .ok (.ldc2_w 364, 3) := dk_20 1 108 (dk_at dksX24_works_7 0 rfl rfl)
theorem dX24_works_180 : decode cX24_works 180 = .ok (.ldiv, 1) := dk_109 (dk_at dksX24_works_7 3 rfl rfl)
theorem dX24_works_181 : decode cX24_works 181 = .ok (.lstore 10, 2) := dk_55 10 (dk_at dksX24_works_7 4 rfl rfl)
theorem dX24_works_183 : decode cX24_works 183 = .ok (.goto (-21), 3) := dk_167 255 235 (dk_at dksX24_works_7 6 rfl rfl)
theorem dX24_works_186 : decode cX24_works 186 = .ok (.aload_n 0, 1) := dk_42 (dk_at dksX24_works_7 9 rfl rfl)
theorem dX24_works_187 : decode cX24_works 187 = .ok (.iconst 0, 1) := dk_3 (dk_at dksX24_works_7 10 rfl rfl)
theorem dX24_works_188 : decode cX24_works 188 = .ok (.lload_n 2, 1) := dk_32 (dk_at dksX24_works_7 11 rfl rfl)
theorem dX24_works_189 : decode cX24_works 189 = .ok (.lload 4, 2) := dk_22 4 (dk_at dksX24_works_7 12 rfl rfl)
theorem dX24_works_191 : decode cX24_works 191 = .ok (.lload 6, 2) := dk_22 6 (dk_at dksX24_works_7 14 rfl rfl)
theorem dX24_works_193 : decode cX24_works 193 = .ok (.invokevirtual 369, 3) := dk_182 1 113 (dk_at dksX24_works_7 16 rfl rfl)
theorem dX24_works_196 : decode cX24_works 196 = .ok (.lload_n 2, 1) := dk_32 (dk_at dksX24_works_7 19 rfl rfl)
theorem dX24_works_197 : decode cX24_works 197 = .ok (.lload 8, 2) := dk_22 8 (dk_at dksX24_works_7 20 rfl rfl)
theorem dX24_works_199 : decode cX24_works 199 = .ok (.lmul, 1) := dk_105 (dk_at dksX24_works_7 22 rfl rfl)
theorem dX24_works_200 : decode cX24_works 200 = .ok (.ladd, 1) := dk_97 (dk_at dksX24_works_7 23 rfl rfl)
theorem dX24_works_201 : decode cX24_works 201 = .ok (.lreturn, 1) := dk_173 (dk_at dksX24_works_8 0 rfl rfl)
theorem dX24_works_202 : decode cX24_works 202 = .ok (.aload_n 0, 1) := dk_42 (dk_at dksX24_works_8 1 rfl rfl)
theorem dX24_works_203 : decode cX24_works 203 = .ok (.iload_n 1, 1) := dk_27 (dk_at dksX24_works_8 2 rfl rfl)
theorem dX24_works_204 : decode cX24_works 204 = .ok (.invokestatic 366, 3) := dk_184 1 110 (dk_at dksX24_works_8 3 rfl rfl)
theorem dX24_works_207 : decode cX24_works 207 = .ok (.lload_n 2, 1) := dk_32 (dk_at dksX24_works_8 6 rfl rfl)
theorem dX24_works_208 : decode cX24_works 208 = .ok (.lload 4, 2) := dk_22 4 (dk_at dksX24_works_8 7 rfl rfl)
theorem dX24_works_210 : decode cX24_works 210 = .ok (.lload 6, 2) := dk_22 6 (dk_at dksX24_works_8 9 rfl rfl)
theorem dX24_works_212 : decode cX24_works 212 = .ok (.invokevirtual 369, 3) := dk_182 1 113 (dk_at dksX24_works_8 11 rfl rfl)
theorem dX24_works_215 : decode cX24_works 215 = .ok (.lreturn, 1) := dk_173 (dk_at dksX24_works_8 14 rfl rfl)
abbrev cX24_trace : ByteArray := prog_53_method_62_code
def yX24_trace : MethodName := ⟨RX24, "trace", "(I)I"⟩
def dkwX24_trace_1 : List UInt8 := [167, 0, 4, 2, 172]
abbrev dktX24_trace_1 : List UInt8 := dkwX24_trace_1 ++ []
def dkwX24_trace_0 : List UInt8 := [27, 155, 0, 25, 27, 16, 20, 42, 180, 1, 99, 184, 0, 246, 162, 0, 12, 42, 180, 0, 175, 27, 46]
abbrev dktX24_trace_0 : List UInt8 := dkwX24_trace_0 ++ dktX24_trace_1
theorem dksX24_trace_0 : cX24_trace.data.toList.drop 0 = dktX24_trace_0 := by decide +kernel
theorem dksX24_trace_1 : cX24_trace.data.toList.drop 23 = dktX24_trace_1 := dk_seg dksX24_trace_0 23 rfl rfl
theorem dX24_trace_0 : decode cX24_trace 0 = .ok (.iload_n 1, 1) := dk_27 (dk_at dksX24_trace_0 0 rfl rfl)
theorem dX24_trace_1 : decode cX24_trace 1 = .ok (.ifCond .lt 25, 3) := dk_155 0 25 (dk_at dksX24_trace_0 1 rfl rfl)
theorem dX24_trace_4 : decode cX24_trace 4 = .ok (.iload_n 1, 1) := dk_27 (dk_at dksX24_trace_0 4 rfl rfl)
theorem dX24_trace_5 : decode cX24_trace 5 = .ok (.bipush 20, 2) := dk_16 20 (dk_at dksX24_trace_0 5 rfl rfl)
theorem dX24_trace_7 : decode cX24_trace 7 = .ok (.aload_n 0, 1) := dk_42 (dk_at dksX24_trace_0 7 rfl rfl)
theorem dX24_trace_8 : decode cX24_trace 8 = .ok (.getfield 355, 3) := dk_180 1 99 (dk_at dksX24_trace_0 8 rfl rfl)
theorem dX24_trace_11 : decode cX24_trace 11 = .ok (.invokestatic 246, 3) := dk_184 0 246 (dk_at dksX24_trace_0 11 rfl rfl)
theorem dX24_trace_14 : decode cX24_trace 14 = .ok (.if_icmp .ge 12, 3) := dk_162 0 12 (dk_at dksX24_trace_0 14 rfl rfl)
theorem dX24_trace_17 : decode cX24_trace 17 = .ok (.aload_n 0, 1) := dk_42 (dk_at dksX24_trace_0 17 rfl rfl)
theorem dX24_trace_18 : decode cX24_trace 18 = .ok (.getfield 175, 3) := dk_180 0 175 (dk_at dksX24_trace_0 18 rfl rfl)
theorem dX24_trace_21 : decode cX24_trace 21 = .ok (.iload_n 1, 1) := dk_27 (dk_at dksX24_trace_0 21 rfl rfl)
theorem dX24_trace_22 : decode cX24_trace 22 = .ok (.iaload, 1) := dk_46 (dk_at dksX24_trace_0 22 rfl rfl)
theorem dX24_trace_23 : decode cX24_trace 23 = .ok (.goto 4, 3) := dk_167 0 4 (dk_at dksX24_trace_1 0 rfl rfl)
theorem dX24_trace_26 : decode cX24_trace 26 = .ok (.iconst (-1), 1) := dk_2 (dk_at dksX24_trace_1 3 rfl rfl)
theorem dX24_trace_27 : decode cX24_trace 27 = .ok (.ireturn, 1) := dk_172 (dk_at dksX24_trace_1 4 rfl rfl)
abbrev cX24_allow : ByteArray := prog_53_method_72_code
def yX24_allow : MethodName := ⟨RX24, "allow", "(IZ)I"⟩
def dkwX24_allow_2 : List UInt8 := [126, 181, 0, 7, 29, 172]
abbrev dktX24_allow_2 : List UInt8 := dkwX24_allow_2 ++ []
def dkwX24_allow_1 : List UInt8 := [28, 153, 0, 14, 42, 180, 0, 7, 4, 27, 120, 128, 167, 0, 13, 42, 180, 0, 7, 4, 27, 120, 2, 130]
abbrev dktX24_allow_1 : List UInt8 := dkwX24_allow_1 ++ dktX24_allow_2
def dkwX24_allow_0 : List UInt8 := [42, 27, 182, 1, 155, 154, 0, 9, 42, 2, 182, 0, 206, 172, 42, 180, 0, 7, 27, 122, 4, 126, 62, 42]
abbrev dktX24_allow_0 : List UInt8 := dkwX24_allow_0 ++ dktX24_allow_1
theorem dksX24_allow_0 : cX24_allow.data.toList.drop 0 = dktX24_allow_0 := by decide +kernel
theorem dksX24_allow_1 : cX24_allow.data.toList.drop 24 = dktX24_allow_1 := dk_seg dksX24_allow_0 24 rfl rfl
theorem dksX24_allow_2 : cX24_allow.data.toList.drop 48 = dktX24_allow_2 := dk_seg dksX24_allow_1 24 rfl rfl
theorem dX24_allow_0 : decode cX24_allow 0 = .ok (.aload_n 0, 1) := dk_42 (dk_at dksX24_allow_0 0 rfl rfl)
theorem dX24_allow_1 : decode cX24_allow 1 = .ok (.iload_n 1, 1) := dk_27 (dk_at dksX24_allow_0 1 rfl rfl)
theorem dX24_allow_2 : decode cX24_allow 2 = .ok (.invokevirtual 411, 3) := dk_182 1 155 (dk_at dksX24_allow_0 2 rfl rfl)
theorem dX24_allow_5 : decode cX24_allow 5 = .ok (.ifCond .ne 9, 3) := dk_154 0 9 (dk_at dksX24_allow_0 5 rfl rfl)
theorem dX24_allow_8 : decode cX24_allow 8 = .ok (.aload_n 0, 1) := dk_42 (dk_at dksX24_allow_0 8 rfl rfl)
theorem dX24_allow_9 : decode cX24_allow 9 = .ok (.iconst (-1), 1) := dk_2 (dk_at dksX24_allow_0 9 rfl rfl)
theorem dX24_allow_10 : decode cX24_allow 10 = .ok (.invokevirtual 206, 3) := dk_182 0 206 (dk_at dksX24_allow_0 10 rfl rfl)
theorem dX24_allow_13 : decode cX24_allow 13 = .ok (.ireturn, 1) := dk_172 (dk_at dksX24_allow_0 13 rfl rfl)
theorem dX24_allow_14 : decode cX24_allow 14 = .ok (.aload_n 0, 1) := dk_42 (dk_at dksX24_allow_0 14 rfl rfl)
theorem dX24_allow_15 : decode cX24_allow 15 = .ok (.getfield 7, 3) := dk_180 0 7 (dk_at dksX24_allow_0 15 rfl rfl)
theorem dX24_allow_18 : decode cX24_allow 18 = .ok (.iload_n 1, 1) := dk_27 (dk_at dksX24_allow_0 18 rfl rfl)
theorem dX24_allow_19 : decode cX24_allow 19 = .ok (.ishr, 1) := dk_122 (dk_at dksX24_allow_0 19 rfl rfl)
theorem dX24_allow_20 : decode cX24_allow 20 = .ok (.iconst 1, 1) := dk_4 (dk_at dksX24_allow_0 20 rfl rfl)
theorem dX24_allow_21 : decode cX24_allow 21 = .ok (.iand, 1) := dk_126 (dk_at dksX24_allow_0 21 rfl rfl)
theorem dX24_allow_22 : decode cX24_allow 22 = .ok (.istore_n 3, 1) := dk_62 (dk_at dksX24_allow_0 22 rfl rfl)
theorem dX24_allow_23 : decode cX24_allow 23 = .ok (.aload_n 0, 1) := dk_42 (dk_at dksX24_allow_0 23 rfl rfl)
theorem dX24_allow_24 : decode cX24_allow 24 = .ok (.iload_n 2, 1) := dk_28 (dk_at dksX24_allow_1 0 rfl rfl)
theorem dX24_allow_25 : decode cX24_allow 25 = .ok (.ifCond .eq 14, 3) := dk_153 0 14 (dk_at dksX24_allow_1 1 rfl rfl)
theorem dX24_allow_28 : decode cX24_allow 28 = .ok (.aload_n 0, 1) := dk_42 (dk_at dksX24_allow_1 4 rfl rfl)
theorem dX24_allow_29 : decode cX24_allow 29 = .ok (.getfield 7, 3) := dk_180 0 7 (dk_at dksX24_allow_1 5 rfl rfl)
theorem dX24_allow_32 : decode cX24_allow 32 = .ok (.iconst 1, 1) := dk_4 (dk_at dksX24_allow_1 8 rfl rfl)
theorem dX24_allow_33 : decode cX24_allow 33 = .ok (.iload_n 1, 1) := dk_27 (dk_at dksX24_allow_1 9 rfl rfl)
theorem dX24_allow_34 : decode cX24_allow 34 = .ok (.ishl, 1) := dk_120 (dk_at dksX24_allow_1 10 rfl rfl)
theorem dX24_allow_35 : decode cX24_allow 35 = .ok (.ior, 1) := dk_128 (dk_at dksX24_allow_1 11 rfl rfl)
theorem dX24_allow_36 : decode cX24_allow 36 = .ok (.goto 13, 3) := dk_167 0 13 (dk_at dksX24_allow_1 12 rfl rfl)
theorem dX24_allow_39 : decode cX24_allow 39 = .ok (.aload_n 0, 1) := dk_42 (dk_at dksX24_allow_1 15 rfl rfl)
theorem dX24_allow_40 : decode cX24_allow 40 = .ok (.getfield 7, 3) := dk_180 0 7 (dk_at dksX24_allow_1 16 rfl rfl)
theorem dX24_allow_43 : decode cX24_allow 43 = .ok (.iconst 1, 1) := dk_4 (dk_at dksX24_allow_1 19 rfl rfl)
theorem dX24_allow_44 : decode cX24_allow 44 = .ok (.iload_n 1, 1) := dk_27 (dk_at dksX24_allow_1 20 rfl rfl)
theorem dX24_allow_45 : decode cX24_allow 45 = .ok (.ishl, 1) := dk_120 (dk_at dksX24_allow_1 21 rfl rfl)
theorem dX24_allow_46 : decode cX24_allow 46 = .ok (.iconst (-1), 1) := dk_2 (dk_at dksX24_allow_1 22 rfl rfl)
theorem dX24_allow_47 : decode cX24_allow 47 = .ok (.ixor, 1) := dk_130 (dk_at dksX24_allow_1 23 rfl rfl)
theorem dX24_allow_48 : decode cX24_allow 48 = .ok (.iand, 1) := dk_126 (dk_at dksX24_allow_2 0 rfl rfl)
theorem dX24_allow_49 : decode cX24_allow 49 = .ok (.putfield 7, 3) := dk_181 0 7 (dk_at dksX24_allow_2 1 rfl rfl)
theorem dX24_allow_52 : decode cX24_allow 52 = .ok (.iload_n 3, 1) := dk_29 (dk_at dksX24_allow_2 4 rfl rfl)
theorem dX24_allow_53 : decode cX24_allow 53 = .ok (.ireturn, 1) := dk_172 (dk_at dksX24_allow_2 5 rfl rfl)
abbrev cX24_isWay : ByteArray := prog_53_method_73_code
def yX24_isWay : MethodName := ⟨RX24, "isWay", "(I)Z"⟩
def dkwX24_isWay_1 : List UInt8 := [161, 0, 13, 27, 16, 11, 163, 0, 7, 4, 167, 0, 4, 3, 172]
abbrev dktX24_isWay_1 : List UInt8 := dkwX24_isWay_1 ++ []
def dkwX24_isWay_0 : List UInt8 := [27, 4, 159, 0, 31, 27, 5, 159, 0, 26, 27, 7, 161, 0, 9, 27, 16, 6, 164, 0, 15, 27, 16, 8]
abbrev dktX24_isWay_0 : List UInt8 := dkwX24_isWay_0 ++ dktX24_isWay_1
theorem dksX24_isWay_0 : cX24_isWay.data.toList.drop 0 = dktX24_isWay_0 := by decide +kernel
theorem dksX24_isWay_1 : cX24_isWay.data.toList.drop 24 = dktX24_isWay_1 := dk_seg dksX24_isWay_0 24 rfl rfl
theorem dX24_isWay_0 : decode cX24_isWay 0 = .ok (.iload_n 1, 1) := dk_27 (dk_at dksX24_isWay_0 0 rfl rfl)
theorem dX24_isWay_1 : decode cX24_isWay 1 = .ok (.iconst 1, 1) := dk_4 (dk_at dksX24_isWay_0 1 rfl rfl)
theorem dX24_isWay_2 : decode cX24_isWay 2 = .ok (.if_icmp .eq 31, 3) := dk_159 0 31 (dk_at dksX24_isWay_0 2 rfl rfl)
theorem dX24_isWay_5 : decode cX24_isWay 5 = .ok (.iload_n 1, 1) := dk_27 (dk_at dksX24_isWay_0 5 rfl rfl)
theorem dX24_isWay_6 : decode cX24_isWay 6 = .ok (.iconst 2, 1) := dk_5 (dk_at dksX24_isWay_0 6 rfl rfl)
theorem dX24_isWay_7 : decode cX24_isWay 7 = .ok (.if_icmp .eq 26, 3) := dk_159 0 26 (dk_at dksX24_isWay_0 7 rfl rfl)
theorem dX24_isWay_10 : decode cX24_isWay 10 = .ok (.iload_n 1, 1) := dk_27 (dk_at dksX24_isWay_0 10 rfl rfl)
theorem dX24_isWay_11 : decode cX24_isWay 11 = .ok (.iconst 4, 1) := dk_7 (dk_at dksX24_isWay_0 11 rfl rfl)
theorem dX24_isWay_12 : decode cX24_isWay 12 = .ok (.if_icmp .lt 9, 3) := dk_161 0 9 (dk_at dksX24_isWay_0 12 rfl rfl)
theorem dX24_isWay_15 : decode cX24_isWay 15 = .ok (.iload_n 1, 1) := dk_27 (dk_at dksX24_isWay_0 15 rfl rfl)
theorem dX24_isWay_16 : decode cX24_isWay 16 = .ok (.bipush 6, 2) := dk_16 6 (dk_at dksX24_isWay_0 16 rfl rfl)
theorem dX24_isWay_18 : decode cX24_isWay 18 = .ok (.if_icmp .le 15, 3) := dk_164 0 15 (dk_at dksX24_isWay_0 18 rfl rfl)
theorem dX24_isWay_21 : decode cX24_isWay 21 = .ok (.iload_n 1, 1) := dk_27 (dk_at dksX24_isWay_0 21 rfl rfl)
theorem dX24_isWay_22 : decode cX24_isWay 22 = .ok (.bipush 8, 2) := dk_16 8 (dk_at dksX24_isWay_0 22 rfl rfl)
theorem dX24_isWay_24 : decode cX24_isWay 24 = .ok (.if_icmp .lt 13, 3) := dk_161 0 13 (dk_at dksX24_isWay_1 0 rfl rfl)
theorem dX24_isWay_27 : decode cX24_isWay 27 = .ok (.iload_n 1, 1) := dk_27 (dk_at dksX24_isWay_1 3 rfl rfl)
theorem dX24_isWay_28 : decode cX24_isWay 28 = .ok (.bipush 11, 2) := dk_16 11 (dk_at dksX24_isWay_1 4 rfl rfl)
theorem dX24_isWay_30 : decode cX24_isWay 30 = .ok (.if_icmp .gt 7, 3) := dk_163 0 7 (dk_at dksX24_isWay_1 6 rfl rfl)
theorem dX24_isWay_33 : decode cX24_isWay 33 = .ok (.iconst 1, 1) := dk_4 (dk_at dksX24_isWay_1 9 rfl rfl)
theorem dX24_isWay_34 : decode cX24_isWay 34 = .ok (.goto 4, 3) := dk_167 0 4 (dk_at dksX24_isWay_1 10 rfl rfl)
theorem dX24_isWay_37 : decode cX24_isWay 37 = .ok (.iconst 0, 1) := dk_3 (dk_at dksX24_isWay_1 13 rfl rfl)
theorem dX24_isWay_38 : decode cX24_isWay 38 = .ok (.ireturn, 1) := dk_172 (dk_at dksX24_isWay_1 14 rfl rfl)
abbrev cX24_cost : ByteArray := prog_53_method_74_code
def yX24_cost : MethodName := ⟨RX24, "cost", "(III)J"⟩
def dkwX24_cost_2 : List UInt8 := [184, 1, 134, 47, 184, 1, 167, 173]
abbrev dktX24_cost_2 : List UInt8 := dkwX24_cost_2 ++ []
def dkwX24_cost_1 : List UInt8 := [42, 16, 250, 182, 1, 158, 133, 173, 42, 182, 1, 164, 42, 180, 0, 94, 42, 27, 182, 0, 225, 28, 29]
abbrev dktX24_cost_1 : List UInt8 := dkwX24_cost_1 ++ dktX24_cost_2
def dkwX24_cost_0 : List UInt8 := [42, 27, 182, 1, 12, 154, 0, 10, 42, 2, 182, 1, 158, 133, 173, 42, 28, 29, 182, 1, 161, 154, 0, 11]
abbrev dktX24_cost_0 : List UInt8 := dkwX24_cost_0 ++ dktX24_cost_1
theorem dksX24_cost_0 : cX24_cost.data.toList.drop 0 = dktX24_cost_0 := by decide +kernel
theorem dksX24_cost_1 : cX24_cost.data.toList.drop 24 = dktX24_cost_1 := dk_seg dksX24_cost_0 24 rfl rfl
theorem dksX24_cost_2 : cX24_cost.data.toList.drop 47 = dktX24_cost_2 := dk_seg dksX24_cost_1 23 rfl rfl
theorem dX24_cost_0 : decode cX24_cost 0 = .ok (.aload_n 0, 1) := dk_42 (dk_at dksX24_cost_0 0 rfl rfl)
theorem dX24_cost_1 : decode cX24_cost 1 = .ok (.iload_n 1, 1) := dk_27 (dk_at dksX24_cost_0 1 rfl rfl)
theorem dX24_cost_2 : decode cX24_cost 2 = .ok (.invokevirtual 268, 3) := dk_182 1 12 (dk_at dksX24_cost_0 2 rfl rfl)
theorem dX24_cost_5 : decode cX24_cost 5 = .ok (.ifCond .ne 10, 3) := dk_154 0 10 (dk_at dksX24_cost_0 5 rfl rfl)
theorem dX24_cost_8 : decode cX24_cost 8 = .ok (.aload_n 0, 1) := dk_42 (dk_at dksX24_cost_0 8 rfl rfl)
theorem dX24_cost_9 : decode cX24_cost 9 = .ok (.iconst (-1), 1) := dk_2 (dk_at dksX24_cost_0 9 rfl rfl)
theorem dX24_cost_10 : decode cX24_cost 10 = .ok (.invokevirtual 414, 3) := dk_182 1 158 (dk_at dksX24_cost_0 10 rfl rfl)
theorem dX24_cost_13 : decode cX24_cost 13 = .ok (.i2l, 1) := dk_133 (dk_at dksX24_cost_0 13 rfl rfl)
theorem dX24_cost_14 : decode cX24_cost 14 = .ok (.lreturn, 1) := dk_173 (dk_at dksX24_cost_0 14 rfl rfl)
theorem dX24_cost_15 : decode cX24_cost 15 = .ok (.aload_n 0, 1) := dk_42 (dk_at dksX24_cost_0 15 rfl rfl)
theorem dX24_cost_16 : decode cX24_cost 16 = .ok (.iload_n 2, 1) := dk_28 (dk_at dksX24_cost_0 16 rfl rfl)
theorem dX24_cost_17 : decode cX24_cost 17 = .ok (.iload_n 3, 1) := dk_29 (dk_at dksX24_cost_0 17 rfl rfl)
theorem dX24_cost_18 : decode cX24_cost 18 = .ok (.invokevirtual 417, 3) := dk_182 1 161 (dk_at dksX24_cost_0 18 rfl rfl)
theorem dX24_cost_21 : decode cX24_cost 21 = .ok (.ifCond .ne 11, 3) := dk_154 0 11 (dk_at dksX24_cost_0 21 rfl rfl)
theorem dX24_cost_24 : decode cX24_cost 24 = .ok (.aload_n 0, 1) := dk_42 (dk_at dksX24_cost_1 0 rfl rfl)
theorem dX24_cost_25 : decode cX24_cost 25 = .ok (.bipush (-6), 2) := dk_16 250 (dk_at dksX24_cost_1 1 rfl rfl)
theorem dX24_cost_27 : decode cX24_cost 27 = .ok (.invokevirtual 414, 3) := dk_182 1 158 (dk_at dksX24_cost_1 3 rfl rfl)
theorem dX24_cost_30 : decode cX24_cost 30 = .ok (.i2l, 1) := dk_133 (dk_at dksX24_cost_1 6 rfl rfl)
theorem dX24_cost_31 : decode cX24_cost 31 = .ok (.lreturn, 1) := dk_173 (dk_at dksX24_cost_1 7 rfl rfl)
theorem dX24_cost_32 : decode cX24_cost 32 = .ok (.aload_n 0, 1) := dk_42 (dk_at dksX24_cost_1 8 rfl rfl)
theorem dX24_cost_33 : decode cX24_cost 33 = .ok (.invokevirtual 420, 3) := dk_182 1 164 (dk_at dksX24_cost_1 9 rfl rfl)
theorem dX24_cost_36 : decode cX24_cost 36 = .ok (.aload_n 0, 1) := dk_42 (dk_at dksX24_cost_1 12 rfl rfl)
theorem dX24_cost_37 : decode cX24_cost 37 = .ok (.getfield 94, 3) := dk_180 0 94 (dk_at dksX24_cost_1 13 rfl rfl)
theorem dX24_cost_40 : decode cX24_cost 40 = .ok (.aload_n 0, 1) := dk_42 (dk_at dksX24_cost_1 16 rfl rfl)
theorem dX24_cost_41 : decode cX24_cost 41 = .ok (.iload_n 1, 1) := dk_27 (dk_at dksX24_cost_1 17 rfl rfl)
theorem dX24_cost_42 : decode cX24_cost 42 = .ok (.invokevirtual 225, 3) := dk_182 0 225 (dk_at dksX24_cost_1 18 rfl rfl)
theorem dX24_cost_45 : decode cX24_cost 45 = .ok (.iload_n 2, 1) := dk_28 (dk_at dksX24_cost_1 21 rfl rfl)
theorem dX24_cost_46 : decode cX24_cost 46 = .ok (.iload_n 3, 1) := dk_29 (dk_at dksX24_cost_1 22 rfl rfl)
theorem dX24_cost_47 : decode cX24_cost 47 = .ok (.invokestatic 390, 3) := dk_184 1 134 (dk_at dksX24_cost_2 0 rfl rfl)
theorem dX24_cost_50 : decode cX24_cost 50 = .ok (.laload, 1) := dk_47 (dk_at dksX24_cost_2 3 rfl rfl)
theorem dX24_cost_51 : decode cX24_cost 51 = .ok (.invokestatic 423, 3) := dk_184 1 167 (dk_at dksX24_cost_2 4 rfl rfl)
theorem dX24_cost_54 : decode cX24_cost 54 = .ok (.lreturn, 1) := dk_173 (dk_at dksX24_cost_2 7 rfl rfl)
abbrev cX24_noTen : ByteArray := prog_53_method_3_code
def yX24_noTen : MethodName := ⟨RX24, "noTen", "(I)I"⟩
def dkwX24_noTen_0 : List UInt8 := [42, 180, 0, 19, 27, 116, 92, 46, 4, 96, 79, 27, 16, 10, 100, 172]
abbrev dktX24_noTen_0 : List UInt8 := dkwX24_noTen_0 ++ []
theorem dksX24_noTen_0 : cX24_noTen.data.toList.drop 0 = dktX24_noTen_0 := by decide +kernel
theorem dX24_noTen_0 : decode cX24_noTen 0 = .ok (.aload_n 0, 1) := dk_42 (dk_at dksX24_noTen_0 0 rfl rfl)
theorem dX24_noTen_1 : decode cX24_noTen 1 = .ok (.getfield 19, 3) := dk_180 0 19 (dk_at dksX24_noTen_0 1 rfl rfl)
theorem dX24_noTen_4 : decode cX24_noTen 4 = .ok (.iload_n 1, 1) := dk_27 (dk_at dksX24_noTen_0 4 rfl rfl)
theorem dX24_noTen_5 : decode cX24_noTen 5 = .ok (.ineg, 1) := dk_116 (dk_at dksX24_noTen_0 5 rfl rfl)
theorem dX24_noTen_6 : decode cX24_noTen 6 = .ok (.dup2, 1) := dk_92 (dk_at dksX24_noTen_0 6 rfl rfl)
theorem dX24_noTen_7 : decode cX24_noTen 7 = .ok (.iaload, 1) := dk_46 (dk_at dksX24_noTen_0 7 rfl rfl)
theorem dX24_noTen_8 : decode cX24_noTen 8 = .ok (.iconst 1, 1) := dk_4 (dk_at dksX24_noTen_0 8 rfl rfl)
theorem dX24_noTen_9 : decode cX24_noTen 9 = .ok (.iadd, 1) := dk_96 (dk_at dksX24_noTen_0 9 rfl rfl)
theorem dX24_noTen_10 : decode cX24_noTen 10 = .ok (.iastore, 1) := dk_79 (dk_at dksX24_noTen_0 10 rfl rfl)
theorem dX24_noTen_11 : decode cX24_noTen 11 = .ok (.iload_n 1, 1) := dk_27 (dk_at dksX24_noTen_0 11 rfl rfl)
theorem dX24_noTen_12 : decode cX24_noTen 12 = .ok (.bipush 10, 2) := dk_16 10 (dk_at dksX24_noTen_0 12 rfl rfl)
theorem dX24_noTen_14 : decode cX24_noTen 14 = .ok (.isub, 1) := dk_100 (dk_at dksX24_noTen_0 14 rfl rfl)
theorem dX24_noTen_15 : decode cX24_noTen 15 = .ok (.ireturn, 1) := dk_172 (dk_at dksX24_noTen_0 15 rfl rfl)
abbrev cX24_isDemand : ByteArray := prog_53_method_70_code
def yX24_isDemand : MethodName := ⟨RX24, "isDemand", "(II)Z"⟩
def dkwX24_isDemand_1 : List UInt8 := [3, 172]
abbrev dktX24_isDemand_1 : List UInt8 := dkwX24_isDemand_1 ++ []
def dkwX24_isDemand_0 : List UInt8 := [42, 27, 2, 6, 182, 0, 217, 153, 0, 17, 42, 28, 2, 7, 182, 0, 217, 153, 0, 7, 4, 167, 0, 4]
abbrev dktX24_isDemand_0 : List UInt8 := dkwX24_isDemand_0 ++ dktX24_isDemand_1
theorem dksX24_isDemand_0 : cX24_isDemand.data.toList.drop 0 = dktX24_isDemand_0 := by decide +kernel
theorem dksX24_isDemand_1 : cX24_isDemand.data.toList.drop 24 = dktX24_isDemand_1 := dk_seg dksX24_isDemand_0 24 rfl rfl
theorem dX24_isDemand_0 : decode cX24_isDemand 0 = .ok (.aload_n 0, 1) := dk_42 (dk_at dksX24_isDemand_0 0 rfl rfl)
theorem dX24_isDemand_1 : decode cX24_isDemand 1 = .ok (.iload_n 1, 1) := dk_27 (dk_at dksX24_isDemand_0 1 rfl rfl)
theorem dX24_isDemand_2 : decode cX24_isDemand 2 = .ok (.iconst (-1), 1) := dk_2 (dk_at dksX24_isDemand_0 2 rfl rfl)
theorem dX24_isDemand_3 : decode cX24_isDemand 3 = .ok (.iconst 3, 1) := dk_6 (dk_at dksX24_isDemand_0 3 rfl rfl)
theorem dX24_isDemand_4 : decode cX24_isDemand 4 = .ok (.invokevirtual 217, 3) := dk_182 0 217 (dk_at dksX24_isDemand_0 4 rfl rfl)
theorem dX24_isDemand_7 : decode cX24_isDemand 7 = .ok (.ifCond .eq 17, 3) := dk_153 0 17 (dk_at dksX24_isDemand_0 7 rfl rfl)
theorem dX24_isDemand_10 : decode cX24_isDemand 10 = .ok (.aload_n 0, 1) := dk_42 (dk_at dksX24_isDemand_0 10 rfl rfl)
theorem dX24_isDemand_11 : decode cX24_isDemand 11 = .ok (.iload_n 2, 1) := dk_28 (dk_at dksX24_isDemand_0 11 rfl rfl)
theorem dX24_isDemand_12 : decode cX24_isDemand 12 = .ok (.iconst (-1), 1) := dk_2 (dk_at dksX24_isDemand_0 12 rfl rfl)
theorem dX24_isDemand_13 : decode cX24_isDemand 13 = .ok (.iconst 4, 1) := dk_7 (dk_at dksX24_isDemand_0 13 rfl rfl)
theorem dX24_isDemand_14 : decode cX24_isDemand 14 = .ok (.invokevirtual 217, 3) := dk_182 0 217 (dk_at dksX24_isDemand_0 14 rfl rfl)
theorem dX24_isDemand_17 : decode cX24_isDemand 17 = .ok (.ifCond .eq 7, 3) := dk_153 0 7 (dk_at dksX24_isDemand_0 17 rfl rfl)
theorem dX24_isDemand_20 : decode cX24_isDemand 20 = .ok (.iconst 1, 1) := dk_4 (dk_at dksX24_isDemand_0 20 rfl rfl)
theorem dX24_isDemand_21 : decode cX24_isDemand 21 = .ok (.goto 4, 3) := dk_167 0 4 (dk_at dksX24_isDemand_0 21 rfl rfl)
theorem dX24_isDemand_24 : decode cX24_isDemand 24 = .ok (.iconst 0, 1) := dk_3 (dk_at dksX24_isDemand_1 0 rfl rfl)
theorem dX24_isDemand_25 : decode cX24_isDemand 25 = .ok (.ireturn, 1) := dk_172 (dk_at dksX24_isDemand_1 1 rfl rfl)
abbrev cX24_costs : ByteArray := prog_53_method_69_code
def yX24_costs : MethodName := ⟨RX24, "costs", "()V"⟩
def dkwX24_costs_5 : List UInt8 := [167, 255, 216, 132, 2, 1, 167, 255, 174, 167, 255, 163, 177]
abbrev dktX24_costs_5 : List UInt8 := dkwX24_costs_5 ++ []
def dkwX24_costs_4 : List UInt8 := [180, 0, 94, 28, 47, 148, 156, 0, 13, 42, 180, 0, 94, 28, 22, 4, 80, 4, 60, 132, 3, 1]
abbrev dktX24_costs_4 : List UInt8 := dkwX24_costs_4 ++ dktX24_costs_5
def dkwX24_costs_3 : List UInt8 := [182, 1, 146, 3, 62, 29, 42, 180, 1, 121, 162, 0, 38, 42, 29, 182, 1, 149, 55, 4, 22, 4, 42]
abbrev dktX24_costs_3 : List UInt8 := dkwX24_costs_3 ++ dktX24_costs_4
def dkwX24_costs_2 : List UInt8 := [162, 0, 77, 42, 28, 16, 30, 108, 182, 0, 225, 28, 16, 30, 108, 159, 0, 6, 167, 0, 53, 42, 28]
abbrev dktX24_costs_2 : List UInt8 := dkwX24_costs_2 ++ dktX24_costs_3
def dkwX24_costs_1 : List UInt8 := [132, 1, 1, 167, 255, 237, 4, 60, 27, 153, 0, 95, 3, 60, 3, 61, 28, 42, 180, 0, 196, 16, 30, 104]
abbrev dktX24_costs_1 : List UInt8 := dkwX24_costs_1 ++ dktX24_costs_2
def dkwX24_costs_0 : List UInt8 := [42, 182, 1, 3, 3, 60, 27, 17, 7, 128, 162, 0, 18, 42, 180, 0, 94, 27, 20, 1, 144, 80]
abbrev dktX24_costs_0 : List UInt8 := dkwX24_costs_0 ++ dktX24_costs_1
theorem dksX24_costs_0 : cX24_costs.data.toList.drop 0 = dktX24_costs_0 := by decide +kernel
theorem dksX24_costs_1 : cX24_costs.data.toList.drop 22 = dktX24_costs_1 := dk_seg dksX24_costs_0 22 rfl rfl
theorem dksX24_costs_2 : cX24_costs.data.toList.drop 46 = dktX24_costs_2 := dk_seg dksX24_costs_1 24 rfl rfl
theorem dksX24_costs_3 : cX24_costs.data.toList.drop 69 = dktX24_costs_3 := dk_seg dksX24_costs_2 23 rfl rfl
theorem dksX24_costs_4 : cX24_costs.data.toList.drop 92 = dktX24_costs_4 := dk_seg dksX24_costs_3 23 rfl rfl
theorem dksX24_costs_5 : cX24_costs.data.toList.drop 114 = dktX24_costs_5 := dk_seg dksX24_costs_4 22 rfl rfl
theorem dX24_costs_0 : decode cX24_costs 0 = .ok (.aload_n 0, 1) := dk_42 (dk_at dksX24_costs_0 0 rfl rfl)
theorem dX24_costs_1 : decode cX24_costs 1 = .ok (.invokevirtual 259, 3) := dk_182 1 3 (dk_at dksX24_costs_0 1 rfl rfl)
theorem dX24_costs_4 : decode cX24_costs 4 = .ok (.iconst 0, 1) := dk_3 (dk_at dksX24_costs_0 4 rfl rfl)
theorem dX24_costs_5 : decode cX24_costs 5 = .ok (.istore_n 1, 1) := dk_60 (dk_at dksX24_costs_0 5 rfl rfl)
theorem dX24_costs_6 : decode cX24_costs 6 = .ok (.iload_n 1, 1) := dk_27 (dk_at dksX24_costs_0 6 rfl rfl)
theorem dX24_costs_7 : decode cX24_costs 7 = .ok (.sipush 1920, 3) := dk_17 7 128 (dk_at dksX24_costs_0 7 rfl rfl)
theorem dX24_costs_10 : decode cX24_costs 10 = .ok (.if_icmp .ge 18, 3) := dk_162 0 18 (dk_at dksX24_costs_0 10 rfl rfl)
theorem dX24_costs_13 : decode cX24_costs 13 = .ok (.aload_n 0, 1) := dk_42 (dk_at dksX24_costs_0 13 rfl rfl)
theorem dX24_costs_14 : decode cX24_costs 14 = .ok (.getfield 94, 3) := dk_180 0 94 (dk_at dksX24_costs_0 14 rfl rfl)
theorem dX24_costs_17 : decode cX24_costs 17 = .ok (.iload_n 1, 1) := dk_27 (dk_at dksX24_costs_0 17 rfl rfl)
theorem dX24_costs_18 : decode cX24_costs 18 = .ok (.ldc2_w 400, 3) := dk_20 1 144 (dk_at dksX24_costs_0 18 rfl rfl)
theorem dX24_costs_21 : decode cX24_costs 21 = .ok (.lastore, 1) := dk_80 (dk_at dksX24_costs_0 21 rfl rfl)
theorem dX24_costs_22 : decode cX24_costs 22 = .ok (.iinc 1 1, 3) := dk_132 1 1 (dk_at dksX24_costs_1 0 rfl rfl)
theorem dX24_costs_25 : decode cX24_costs 25 = .ok (.goto (-19), 3) := dk_167 255 237 (dk_at dksX24_costs_1 3 rfl rfl)
theorem dX24_costs_28 : decode cX24_costs 28 = .ok (.iconst 1, 1) := dk_4 (dk_at dksX24_costs_1 6 rfl rfl)
theorem dX24_costs_29 : decode cX24_costs 29 = .ok (.istore_n 1, 1) := dk_60 (dk_at dksX24_costs_1 7 rfl rfl)
theorem dX24_costs_30 : decode cX24_costs 30 = .ok (.iload_n 1, 1) := dk_27 (dk_at dksX24_costs_1 8 rfl rfl)
theorem dX24_costs_31 : decode cX24_costs 31 = .ok (.ifCond .eq 95, 3) := dk_153 0 95 (dk_at dksX24_costs_1 9 rfl rfl)
theorem dX24_costs_34 : decode cX24_costs 34 = .ok (.iconst 0, 1) := dk_3 (dk_at dksX24_costs_1 12 rfl rfl)
theorem dX24_costs_35 : decode cX24_costs 35 = .ok (.istore_n 1, 1) := dk_60 (dk_at dksX24_costs_1 13 rfl rfl)
theorem dX24_costs_36 : decode cX24_costs 36 = .ok (.iconst 0, 1) := dk_3 (dk_at dksX24_costs_1 14 rfl rfl)
theorem dX24_costs_37 : decode cX24_costs 37 = .ok (.istore_n 2, 1) := dk_61 (dk_at dksX24_costs_1 15 rfl rfl)
theorem dX24_costs_38 : decode cX24_costs 38 = .ok (.iload_n 2, 1) := dk_28 (dk_at dksX24_costs_1 16 rfl rfl)
theorem dX24_costs_39 : decode cX24_costs 39 = .ok (.aload_n 0, 1) := dk_42 (dk_at dksX24_costs_1 17 rfl rfl)
theorem dX24_costs_40 : decode cX24_costs 40 = .ok (.getfield 196, 3) := dk_180 0 196 (dk_at dksX24_costs_1 18 rfl rfl)
theorem dX24_costs_43 : decode cX24_costs 43 = .ok (.bipush 30, 2) := dk_16 30 (dk_at dksX24_costs_1 21 rfl rfl)
theorem dX24_costs_45 : decode cX24_costs 45 = .ok (.imul, 1) := dk_104 (dk_at dksX24_costs_1 23 rfl rfl)
theorem dX24_costs_46 : decode cX24_costs 46 = .ok (.if_icmp .ge 77, 3) := dk_162 0 77 (dk_at dksX24_costs_2 0 rfl rfl)
theorem dX24_costs_49 : decode cX24_costs 49 = .ok (.aload_n 0, 1) := dk_42 (dk_at dksX24_costs_2 3 rfl rfl)
theorem dX24_costs_50 : decode cX24_costs 50 = .ok (.iload_n 2, 1) := dk_28 (dk_at dksX24_costs_2 4 rfl rfl)
theorem dX24_costs_51 : decode cX24_costs 51 = .ok (.bipush 30, 2) := dk_16 30 (dk_at dksX24_costs_2 5 rfl rfl)
theorem dX24_costs_53 : decode cX24_costs 53 = .ok (.idiv, 1) := dk_108 (dk_at dksX24_costs_2 7 rfl rfl)
theorem dX24_costs_54 : decode cX24_costs 54 = .ok (.invokevirtual 225, 3) := dk_182 0 225 (dk_at dksX24_costs_2 8 rfl rfl)
theorem dX24_costs_57 : decode cX24_costs 57 = .ok (.iload_n 2, 1) := dk_28 (dk_at dksX24_costs_2 11 rfl rfl)
theorem dX24_costs_58 : decode cX24_costs 58 = .ok (.bipush 30, 2) := dk_16 30 (dk_at dksX24_costs_2 12 rfl rfl)
theorem dX24_costs_60 : decode cX24_costs 60 = .ok (.idiv, 1) := dk_108 (dk_at dksX24_costs_2 14 rfl rfl)
theorem dX24_costs_61 : decode cX24_costs 61 = .ok (.if_icmp .eq 6, 3) := dk_159 0 6 (dk_at dksX24_costs_2 15 rfl rfl)
theorem dX24_costs_64 : decode cX24_costs 64 = .ok (.goto 53, 3) := dk_167 0 53 (dk_at dksX24_costs_2 18 rfl rfl)
theorem dX24_costs_67 : decode cX24_costs 67 = .ok (.aload_n 0, 1) := dk_42 (dk_at dksX24_costs_2 21 rfl rfl)
theorem dX24_costs_68 : decode cX24_costs 68 = .ok (.iload_n 2, 1) := dk_28 (dk_at dksX24_costs_2 22 rfl rfl)
theorem dX24_costs_69 : decode cX24_costs 69 = .ok (.invokevirtual 402, 3) := dk_182 1 146 (dk_at dksX24_costs_3 0 rfl rfl)
theorem dX24_costs_72 : decode cX24_costs 72 = .ok (.iconst 0, 1) := dk_3 (dk_at dksX24_costs_3 3 rfl rfl)
theorem dX24_costs_73 : decode cX24_costs 73 = .ok (.istore_n 3, 1) := dk_62 (dk_at dksX24_costs_3 4 rfl rfl)
theorem dX24_costs_74 : decode cX24_costs 74 = .ok (.iload_n 3, 1) := dk_29 (dk_at dksX24_costs_3 5 rfl rfl)
theorem dX24_costs_75 : decode cX24_costs 75 = .ok (.aload_n 0, 1) := dk_42 (dk_at dksX24_costs_3 6 rfl rfl)
theorem dX24_costs_76 : decode cX24_costs 76 = .ok (.getfield 377, 3) := dk_180 1 121 (dk_at dksX24_costs_3 7 rfl rfl)
theorem dX24_costs_79 : decode cX24_costs 79 = .ok (.if_icmp .ge 38, 3) := dk_162 0 38 (dk_at dksX24_costs_3 10 rfl rfl)
theorem dX24_costs_82 : decode cX24_costs 82 = .ok (.aload_n 0, 1) := dk_42 (dk_at dksX24_costs_3 13 rfl rfl)
theorem dX24_costs_83 : decode cX24_costs 83 = .ok (.iload_n 3, 1) := dk_29 (dk_at dksX24_costs_3 14 rfl rfl)
theorem dX24_costs_84 : decode cX24_costs 84 = .ok (.invokevirtual 405, 3) := dk_182 1 149 (dk_at dksX24_costs_3 15 rfl rfl)
theorem dX24_costs_87 : decode cX24_costs 87 = .ok (.lstore 4, 2) := dk_55 4 (dk_at dksX24_costs_3 18 rfl rfl)
theorem dX24_costs_89 : decode cX24_costs 89 = .ok (.lload 4, 2) := dk_22 4 (dk_at dksX24_costs_3 20 rfl rfl)
theorem dX24_costs_91 : decode cX24_costs 91 = .ok (.aload_n 0, 1) := dk_42 (dk_at dksX24_costs_3 22 rfl rfl)
theorem dX24_costs_92 : decode cX24_costs 92 = .ok (.getfield 94, 3) := dk_180 0 94 (dk_at dksX24_costs_4 0 rfl rfl)
theorem dX24_costs_95 : decode cX24_costs 95 = .ok (.iload_n 2, 1) := dk_28 (dk_at dksX24_costs_4 3 rfl rfl)
theorem dX24_costs_96 : decode cX24_costs 96 = .ok (.laload, 1) := dk_47 (dk_at dksX24_costs_4 4 rfl rfl)
theorem dX24_costs_97 : decode cX24_costs 97 = .ok (.lcmp, 1) := dk_148 (dk_at dksX24_costs_4 5 rfl rfl)
theorem dX24_costs_98 : decode cX24_costs 98 = .ok (.ifCond .ge 13, 3) := dk_156 0 13 (dk_at dksX24_costs_4 6 rfl rfl)
theorem dX24_costs_101 : decode cX24_costs 101 = .ok (.aload_n 0, 1) := dk_42 (dk_at dksX24_costs_4 9 rfl rfl)
theorem dX24_costs_102 : decode cX24_costs 102 = .ok (.getfield 94, 3) := dk_180 0 94 (dk_at dksX24_costs_4 10 rfl rfl)
theorem dX24_costs_105 : decode cX24_costs 105 = .ok (.iload_n 2, 1) := dk_28 (dk_at dksX24_costs_4 13 rfl rfl)
theorem dX24_costs_106 : decode cX24_costs 106 = .ok (.lload 4, 2) := dk_22 4 (dk_at dksX24_costs_4 14 rfl rfl)
theorem dX24_costs_108 : decode cX24_costs 108 = .ok (.lastore, 1) := dk_80 (dk_at dksX24_costs_4 16 rfl rfl)
theorem dX24_costs_109 : decode cX24_costs 109 = .ok (.iconst 1, 1) := dk_4 (dk_at dksX24_costs_4 17 rfl rfl)
theorem dX24_costs_110 : decode cX24_costs 110 = .ok (.istore_n 1, 1) := dk_60 (dk_at dksX24_costs_4 18 rfl rfl)
theorem dX24_costs_111 : decode cX24_costs 111 = .ok (.iinc 3 1, 3) := dk_132 3 1 (dk_at dksX24_costs_4 19 rfl rfl)
theorem dX24_costs_114 : decode cX24_costs 114 = .ok (.goto (-40), 3) := dk_167 255 216 (dk_at dksX24_costs_5 0 rfl rfl)
theorem dX24_costs_117 : decode cX24_costs 117 = .ok (.iinc 2 1, 3) := dk_132 2 1 (dk_at dksX24_costs_5 3 rfl rfl)
theorem dX24_costs_120 : decode cX24_costs 120 = .ok (.goto (-82), 3) := dk_167 255 174 (dk_at dksX24_costs_5 6 rfl rfl)
theorem dX24_costs_123 : decode cX24_costs 123 = .ok (.goto (-93), 3) := dk_167 255 163 (dk_at dksX24_costs_5 9 rfl rfl)
theorem dX24_costs_126 : decode cX24_costs 126 = .ok (.return_, 1) := dk_177 (dk_at dksX24_costs_5 12 rfl rfl)
abbrev cX24_waysOf : ByteArray := prog_53_method_67_code
def yX24_waysOf : MethodName := ⟨RX24, "waysOf", "(I)V"⟩
def dkwX24_waysOf_7 : List UInt8 := [2, 2, 184, 1, 134, 2, 2, 21, 5, 133, 9, 21, 5, 133, 182, 1, 130, 177]
abbrev dktX24_waysOf_7 : List UInt8 := dkwX24_waysOf_7 ++ []
def dkwX24_waysOf_6 : List UInt8 := [7, 159, 0, 18, 42, 42, 180, 0, 88, 28, 46, 21, 4, 182, 0, 229, 153, 0, 25, 42, 16, 11, 2, 28]
abbrev dktX24_waysOf_6 : List UInt8 := dkwX24_waysOf_6 ++ dktX24_waysOf_7
def dkwX24_waysOf_5 : List UInt8 := [2, 21, 5, 133, 9, 21, 5, 133, 182, 1, 130, 29, 2, 160, 0, 52, 21, 4, 2, 159, 0, 46, 21, 4]
abbrev dktX24_waysOf_5 : List UInt8 := dkwX24_waysOf_5 ++ dktX24_waysOf_6
def dkwX24_waysOf_4 : List UInt8 := [180, 0, 88, 28, 46, 29, 182, 0, 229, 153, 0, 26, 42, 16, 10, 2, 28, 2, 21, 4, 184, 1, 134, 2]
abbrev dktX24_waysOf_4 : List UInt8 := dkwX24_waysOf_4 ++ dktX24_waysOf_5
def dkwX24_waysOf_3 : List UInt8 := [182, 1, 138, 132, 5, 1, 167, 255, 210, 42, 180, 0, 85, 28, 46, 54, 5, 29, 2, 159, 0, 40, 42, 42]
abbrev dktX24_waysOf_3 : List UInt8 := dkwX24_waysOf_3 ++ dktX24_waysOf_4
def dkwX24_waysOf_2 : List UInt8 := [154, 0, 27, 42, 42, 180, 0, 50, 21, 5, 46, 182, 0, 225, 28, 160, 0, 12, 42, 21, 5, 29, 21, 4]
abbrev dktX24_waysOf_2 : List UInt8 := dkwX24_waysOf_2 ++ dktX24_waysOf_3
def dkwX24_waysOf_1 : List UInt8 := [3, 181, 1, 121, 3, 54, 5, 21, 5, 42, 180, 0, 199, 162, 0, 43, 42, 180, 0, 56, 21, 5, 51]
abbrev dktX24_waysOf_1 : List UInt8 := dkwX24_waysOf_1 ++ dktX24_waysOf_2
def dkwX24_waysOf_0 : List UInt8 := [27, 16, 30, 108, 61, 27, 16, 30, 112, 16, 6, 108, 4, 100, 62, 27, 16, 6, 112, 4, 100, 54, 4, 42]
abbrev dktX24_waysOf_0 : List UInt8 := dkwX24_waysOf_0 ++ dktX24_waysOf_1
theorem dksX24_waysOf_0 : cX24_waysOf.data.toList.drop 0 = dktX24_waysOf_0 := by decide +kernel
theorem dksX24_waysOf_1 : cX24_waysOf.data.toList.drop 24 = dktX24_waysOf_1 := dk_seg dksX24_waysOf_0 24 rfl rfl
theorem dksX24_waysOf_2 : cX24_waysOf.data.toList.drop 47 = dktX24_waysOf_2 := dk_seg dksX24_waysOf_1 23 rfl rfl
theorem dksX24_waysOf_3 : cX24_waysOf.data.toList.drop 71 = dktX24_waysOf_3 := dk_seg dksX24_waysOf_2 24 rfl rfl
theorem dksX24_waysOf_4 : cX24_waysOf.data.toList.drop 95 = dktX24_waysOf_4 := dk_seg dksX24_waysOf_3 24 rfl rfl
theorem dksX24_waysOf_5 : cX24_waysOf.data.toList.drop 119 = dktX24_waysOf_5 := dk_seg dksX24_waysOf_4 24 rfl rfl
theorem dksX24_waysOf_6 : cX24_waysOf.data.toList.drop 143 = dktX24_waysOf_6 := dk_seg dksX24_waysOf_5 24 rfl rfl
theorem dksX24_waysOf_7 : cX24_waysOf.data.toList.drop 167 = dktX24_waysOf_7 := dk_seg dksX24_waysOf_6 24 rfl rfl
theorem dX24_waysOf_0 : decode cX24_waysOf 0 = .ok (.iload_n 1, 1) := dk_27 (dk_at dksX24_waysOf_0 0 rfl rfl)
theorem dX24_waysOf_1 : decode cX24_waysOf 1 = .ok (.bipush 30, 2) := dk_16 30 (dk_at dksX24_waysOf_0 1 rfl rfl)
theorem dX24_waysOf_3 : decode cX24_waysOf 3 = .ok (.idiv, 1) := dk_108 (dk_at dksX24_waysOf_0 3 rfl rfl)
theorem dX24_waysOf_4 : decode cX24_waysOf 4 = .ok (.istore_n 2, 1) := dk_61 (dk_at dksX24_waysOf_0 4 rfl rfl)
theorem dX24_waysOf_5 : decode cX24_waysOf 5 = .ok (.iload_n 1, 1) := dk_27 (dk_at dksX24_waysOf_0 5 rfl rfl)
theorem dX24_waysOf_6 : decode cX24_waysOf 6 = .ok (.bipush 30, 2) := dk_16 30 (dk_at dksX24_waysOf_0 6 rfl rfl)
theorem dX24_waysOf_8 : decode cX24_waysOf 8 = .ok (.irem, 1) := dk_112 (dk_at dksX24_waysOf_0 8 rfl rfl)
theorem dX24_waysOf_9 : decode cX24_waysOf 9 = .ok (.bipush 6, 2) := dk_16 6 (dk_at dksX24_waysOf_0 9 rfl rfl)
theorem dX24_waysOf_11 : decode cX24_waysOf 11 = .ok (.idiv, 1) := dk_108 (dk_at dksX24_waysOf_0 11 rfl rfl)
theorem dX24_waysOf_12 : decode cX24_waysOf 12 = .ok (.iconst 1, 1) := dk_4 (dk_at dksX24_waysOf_0 12 rfl rfl)
theorem dX24_waysOf_13 : decode cX24_waysOf 13 = .ok (.isub, 1) := dk_100 (dk_at dksX24_waysOf_0 13 rfl rfl)
theorem dX24_waysOf_14 : decode cX24_waysOf 14 = .ok (.istore_n 3, 1) := dk_62 (dk_at dksX24_waysOf_0 14 rfl rfl)
theorem dX24_waysOf_15 : decode cX24_waysOf 15 = .ok (.iload_n 1, 1) := dk_27 (dk_at dksX24_waysOf_0 15 rfl rfl)
theorem dX24_waysOf_16 : decode cX24_waysOf 16 = .ok (.bipush 6, 2) := dk_16 6 (dk_at dksX24_waysOf_0 16 rfl rfl)
theorem dX24_waysOf_18 : decode cX24_waysOf 18 = .ok (.irem, 1) := dk_112 (dk_at dksX24_waysOf_0 18 rfl rfl)
theorem dX24_waysOf_19 : decode cX24_waysOf 19 = .ok (.iconst 1, 1) := dk_4 (dk_at dksX24_waysOf_0 19 rfl rfl)
theorem dX24_waysOf_20 : decode cX24_waysOf 20 = .ok (.isub, 1) := dk_100 (dk_at dksX24_waysOf_0 20 rfl rfl)
theorem dX24_waysOf_21 : decode cX24_waysOf 21 = .ok (.istore 4, 2) := dk_54 4 (dk_at dksX24_waysOf_0 21 rfl rfl)
theorem dX24_waysOf_23 : decode cX24_waysOf 23 = .ok (.aload_n 0, 1) := dk_42 (dk_at dksX24_waysOf_0 23 rfl rfl)
theorem dX24_waysOf_24 : decode cX24_waysOf 24 = .ok (.iconst 0, 1) := dk_3 (dk_at dksX24_waysOf_1 0 rfl rfl)
theorem dX24_waysOf_25 : decode cX24_waysOf 25 = .ok (.putfield 377, 3) := dk_181 1 121 (dk_at dksX24_waysOf_1 1 rfl rfl)
theorem dX24_waysOf_28 : decode cX24_waysOf 28 = .ok (.iconst 0, 1) := dk_3 (dk_at dksX24_waysOf_1 4 rfl rfl)
theorem dX24_waysOf_29 : decode cX24_waysOf 29 = .ok (.istore 5, 2) := dk_54 5 (dk_at dksX24_waysOf_1 5 rfl rfl)
theorem dX24_waysOf_31 : decode cX24_waysOf 31 = .ok (.iload 5, 2) := dk_21 5 (dk_at dksX24_waysOf_1 7 rfl rfl)
theorem dX24_waysOf_33 : decode cX24_waysOf 33 = .ok (.aload_n 0, 1) := dk_42 (dk_at dksX24_waysOf_1 9 rfl rfl)
theorem dX24_waysOf_34 : decode cX24_waysOf 34 = .ok (.getfield 199, 3) := dk_180 0 199 (dk_at dksX24_waysOf_1 10 rfl rfl)
theorem dX24_waysOf_37 : decode cX24_waysOf 37 = .ok (.if_icmp .ge 43, 3) := dk_162 0 43 (dk_at dksX24_waysOf_1 13 rfl rfl)
theorem dX24_waysOf_40 : decode cX24_waysOf 40 = .ok (.aload_n 0, 1) := dk_42 (dk_at dksX24_waysOf_1 16 rfl rfl)
theorem dX24_waysOf_41 : decode cX24_waysOf 41 = .ok (.getfield 56, 3) := dk_180 0 56 (dk_at dksX24_waysOf_1 17 rfl rfl)
theorem dX24_waysOf_44 : decode cX24_waysOf 44 = .ok (.iload 5, 2) := dk_21 5 (dk_at dksX24_waysOf_1 20 rfl rfl)
theorem dX24_waysOf_46 : decode cX24_waysOf 46 = .ok (.baload, 1) := dk_51 (dk_at dksX24_waysOf_1 22 rfl rfl)
theorem dX24_waysOf_47 : decode cX24_waysOf 47 = .ok (.ifCond .ne 27, 3) := dk_154 0 27 (dk_at dksX24_waysOf_2 0 rfl rfl)
theorem dX24_waysOf_50 : decode cX24_waysOf 50 = .ok (.aload_n 0, 1) := dk_42 (dk_at dksX24_waysOf_2 3 rfl rfl)
theorem dX24_waysOf_51 : decode cX24_waysOf 51 = .ok (.aload_n 0, 1) := dk_42 (dk_at dksX24_waysOf_2 4 rfl rfl)
theorem dX24_waysOf_52 : decode cX24_waysOf 52 = .ok (.getfield 50, 3) := dk_180 0 50 (dk_at dksX24_waysOf_2 5 rfl rfl)
theorem dX24_waysOf_55 : decode cX24_waysOf 55 = .ok (.iload 5, 2) := dk_21 5 (dk_at dksX24_waysOf_2 8 rfl rfl)
theorem dX24_waysOf_57 : decode cX24_waysOf 57 = .ok (.iaload, 1) := dk_46 (dk_at dksX24_waysOf_2 10 rfl rfl)
theorem dX24_waysOf_58 : decode cX24_waysOf 58 = .ok (.invokevirtual 225, 3) := dk_182 0 225 (dk_at dksX24_waysOf_2 11 rfl rfl)
theorem dX24_waysOf_61 : decode cX24_waysOf 61 = .ok (.iload_n 2, 1) := dk_28 (dk_at dksX24_waysOf_2 14 rfl rfl)
theorem dX24_waysOf_62 : decode cX24_waysOf 62 = .ok (.if_icmp .ne 12, 3) := dk_160 0 12 (dk_at dksX24_waysOf_2 15 rfl rfl)
theorem dX24_waysOf_65 : decode cX24_waysOf 65 = .ok (.aload_n 0, 1) := dk_42 (dk_at dksX24_waysOf_2 18 rfl rfl)
theorem dX24_waysOf_66 : decode cX24_waysOf 66 = .ok (.iload 5, 2) := dk_21 5 (dk_at dksX24_waysOf_2 19 rfl rfl)
theorem dX24_waysOf_68 : decode cX24_waysOf 68 = .ok (.iload_n 3, 1) := dk_29 (dk_at dksX24_waysOf_2 21 rfl rfl)
theorem dX24_waysOf_69 : decode cX24_waysOf 69 = .ok (.iload 4, 2) := dk_21 4 (dk_at dksX24_waysOf_2 22 rfl rfl)
theorem dX24_waysOf_71 : decode cX24_waysOf 71 = .ok (.invokevirtual 394, 3) := dk_182 1 138 (dk_at dksX24_waysOf_3 0 rfl rfl)
theorem dX24_waysOf_74 : decode cX24_waysOf 74 = .ok (.iinc 5 1, 3) := dk_132 5 1 (dk_at dksX24_waysOf_3 3 rfl rfl)
theorem dX24_waysOf_77 : decode cX24_waysOf 77 = .ok (.goto (-46), 3) := dk_167 255 210 (dk_at dksX24_waysOf_3 6 rfl rfl)
theorem dX24_waysOf_80 : decode cX24_waysOf 80 = .ok (.aload_n 0, 1) := dk_42 (dk_at dksX24_waysOf_3 9 rfl rfl)
theorem dX24_waysOf_81 : decode cX24_waysOf 81 = .ok (.getfield 85, 3) := dk_180 0 85 (dk_at dksX24_waysOf_3 10 rfl rfl)
theorem dX24_waysOf_84 : decode cX24_waysOf 84 = .ok (.iload_n 2, 1) := dk_28 (dk_at dksX24_waysOf_3 13 rfl rfl)
theorem dX24_waysOf_85 : decode cX24_waysOf 85 = .ok (.iaload, 1) := dk_46 (dk_at dksX24_waysOf_3 14 rfl rfl)
theorem dX24_waysOf_86 : decode cX24_waysOf 86 = .ok (.istore 5, 2) := dk_54 5 (dk_at dksX24_waysOf_3 15 rfl rfl)
theorem dX24_waysOf_88 : decode cX24_waysOf 88 = .ok (.iload_n 3, 1) := dk_29 (dk_at dksX24_waysOf_3 17 rfl rfl)
theorem dX24_waysOf_89 : decode cX24_waysOf 89 = .ok (.iconst (-1), 1) := dk_2 (dk_at dksX24_waysOf_3 18 rfl rfl)
theorem dX24_waysOf_90 : decode cX24_waysOf 90 = .ok (.if_icmp .eq 40, 3) := dk_159 0 40 (dk_at dksX24_waysOf_3 19 rfl rfl)
theorem dX24_waysOf_93 : decode cX24_waysOf 93 = .ok (.aload_n 0, 1) := dk_42 (dk_at dksX24_waysOf_3 22 rfl rfl)
theorem dX24_waysOf_94 : decode cX24_waysOf 94 = .ok (.aload_n 0, 1) := dk_42 (dk_at dksX24_waysOf_3 23 rfl rfl)
theorem dX24_waysOf_95 : decode cX24_waysOf 95 = .ok (.getfield 88, 3) := dk_180 0 88 (dk_at dksX24_waysOf_4 0 rfl rfl)
theorem dX24_waysOf_98 : decode cX24_waysOf 98 = .ok (.iload_n 2, 1) := dk_28 (dk_at dksX24_waysOf_4 3 rfl rfl)
theorem dX24_waysOf_99 : decode cX24_waysOf 99 = .ok (.iaload, 1) := dk_46 (dk_at dksX24_waysOf_4 4 rfl rfl)
theorem dX24_waysOf_100 : decode cX24_waysOf 100 = .ok (.iload_n 3, 1) := dk_29 (dk_at dksX24_waysOf_4 5 rfl rfl)
theorem dX24_waysOf_101 : decode cX24_waysOf 101 = .ok (.invokevirtual 229, 3) := dk_182 0 229 (dk_at dksX24_waysOf_4 6 rfl rfl)
theorem dX24_waysOf_104 : decode cX24_waysOf 104 = .ok (.ifCond .eq 26, 3) := dk_153 0 26 (dk_at dksX24_waysOf_4 9 rfl rfl)
theorem dX24_waysOf_107 : decode cX24_waysOf 107 = .ok (.aload_n 0, 1) := dk_42 (dk_at dksX24_waysOf_4 12 rfl rfl)
theorem dX24_waysOf_108 : decode cX24_waysOf 108 = .ok (.bipush 10, 2) := dk_16 10 (dk_at dksX24_waysOf_4 13 rfl rfl)
theorem dX24_waysOf_110 : decode cX24_waysOf 110 = .ok (.iconst (-1), 1) := dk_2 (dk_at dksX24_waysOf_4 15 rfl rfl)
theorem dX24_waysOf_111 : decode cX24_waysOf 111 = .ok (.iload_n 2, 1) := dk_28 (dk_at dksX24_waysOf_4 16 rfl rfl)
theorem dX24_waysOf_112 : decode cX24_waysOf 112 = .ok (.iconst (-1), 1) := dk_2 (dk_at dksX24_waysOf_4 17 rfl rfl)
theorem dX24_waysOf_113 : decode cX24_waysOf 113 = .ok (.iload 4, 2) := dk_21 4 (dk_at dksX24_waysOf_4 18 rfl rfl)
theorem dX24_waysOf_115 : decode cX24_waysOf 115 = .ok (.invokestatic 390, 3) := dk_184 1 134 (dk_at dksX24_waysOf_4 20 rfl rfl)
theorem dX24_waysOf_118 : decode cX24_waysOf 118 = .ok (.iconst (-1), 1) := dk_2 (dk_at dksX24_waysOf_4 23 rfl rfl)
theorem dX24_waysOf_119 : decode cX24_waysOf 119 = .ok (.iconst (-1), 1) := dk_2 (dk_at dksX24_waysOf_5 0 rfl rfl)
theorem dX24_waysOf_120 : decode cX24_waysOf 120 = .ok (.iload 5, 2) := dk_21 5 (dk_at dksX24_waysOf_5 1 rfl rfl)
theorem dX24_waysOf_122 : decode cX24_waysOf 122 = .ok (.i2l, 1) := dk_133 (dk_at dksX24_waysOf_5 3 rfl rfl)
theorem dX24_waysOf_123 : decode cX24_waysOf 123 = .ok (.lconst 0, 1) := dk_9 (dk_at dksX24_waysOf_5 4 rfl rfl)
theorem dX24_waysOf_124 : decode cX24_waysOf 124 = .ok (.iload 5, 2) := dk_21 5 (dk_at dksX24_waysOf_5 5 rfl rfl)
theorem dX24_waysOf_126 : decode cX24_waysOf 126 = .ok (.i2l, 1) := dk_133 (dk_at dksX24_waysOf_5 7 rfl rfl)
theorem dX24_waysOf_127 : decode cX24_waysOf 127 = .ok (.invokevirtual 386, 3) := dk_182 1 130 (dk_at dksX24_waysOf_5 8 rfl rfl)
theorem dX24_waysOf_130 : decode cX24_waysOf 130 = .ok (.iload_n 3, 1) := dk_29 (dk_at dksX24_waysOf_5 11 rfl rfl)
theorem dX24_waysOf_131 : decode cX24_waysOf 131 = .ok (.iconst (-1), 1) := dk_2 (dk_at dksX24_waysOf_5 12 rfl rfl)
theorem dX24_waysOf_132 : decode cX24_waysOf 132 = .ok (.if_icmp .ne 52, 3) := dk_160 0 52 (dk_at dksX24_waysOf_5 13 rfl rfl)
theorem dX24_waysOf_135 : decode cX24_waysOf 135 = .ok (.iload 4, 2) := dk_21 4 (dk_at dksX24_waysOf_5 16 rfl rfl)
theorem dX24_waysOf_137 : decode cX24_waysOf 137 = .ok (.iconst (-1), 1) := dk_2 (dk_at dksX24_waysOf_5 18 rfl rfl)
theorem dX24_waysOf_138 : decode cX24_waysOf 138 = .ok (.if_icmp .eq 46, 3) := dk_159 0 46 (dk_at dksX24_waysOf_5 19 rfl rfl)
theorem dX24_waysOf_141 : decode cX24_waysOf 141 = .ok (.iload 4, 2) := dk_21 4 (dk_at dksX24_waysOf_5 22 rfl rfl)
theorem dX24_waysOf_143 : decode cX24_waysOf 143 = .ok (.iconst 4, 1) := dk_7 (dk_at dksX24_waysOf_6 0 rfl rfl)
theorem dX24_waysOf_144 : decode cX24_waysOf 144 = .ok (.if_icmp .eq 18, 3) := dk_159 0 18 (dk_at dksX24_waysOf_6 1 rfl rfl)
theorem dX24_waysOf_147 : decode cX24_waysOf 147 = .ok (.aload_n 0, 1) := dk_42 (dk_at dksX24_waysOf_6 4 rfl rfl)
theorem dX24_waysOf_148 : decode cX24_waysOf 148 = .ok (.aload_n 0, 1) := dk_42 (dk_at dksX24_waysOf_6 5 rfl rfl)
theorem dX24_waysOf_149 : decode cX24_waysOf 149 = .ok (.getfield 88, 3) := dk_180 0 88 (dk_at dksX24_waysOf_6 6 rfl rfl)
theorem dX24_waysOf_152 : decode cX24_waysOf 152 = .ok (.iload_n 2, 1) := dk_28 (dk_at dksX24_waysOf_6 9 rfl rfl)
theorem dX24_waysOf_153 : decode cX24_waysOf 153 = .ok (.iaload, 1) := dk_46 (dk_at dksX24_waysOf_6 10 rfl rfl)
theorem dX24_waysOf_154 : decode cX24_waysOf 154 = .ok (.iload 4, 2) := dk_21 4 (dk_at dksX24_waysOf_6 11 rfl rfl)
theorem dX24_waysOf_156 : decode cX24_waysOf 156 = .ok (.invokevirtual 229, 3) := dk_182 0 229 (dk_at dksX24_waysOf_6 13 rfl rfl)
theorem dX24_waysOf_159 : decode cX24_waysOf 159 = .ok (.ifCond .eq 25, 3) := dk_153 0 25 (dk_at dksX24_waysOf_6 16 rfl rfl)
theorem dX24_waysOf_162 : decode cX24_waysOf 162 = .ok (.aload_n 0, 1) := dk_42 (dk_at dksX24_waysOf_6 19 rfl rfl)
theorem dX24_waysOf_163 : decode cX24_waysOf 163 = .ok (.bipush 11, 2) := dk_16 11 (dk_at dksX24_waysOf_6 20 rfl rfl)
theorem dX24_waysOf_165 : decode cX24_waysOf 165 = .ok (.iconst (-1), 1) := dk_2 (dk_at dksX24_waysOf_6 22 rfl rfl)
theorem dX24_waysOf_166 : decode cX24_waysOf 166 = .ok (.iload_n 2, 1) := dk_28 (dk_at dksX24_waysOf_6 23 rfl rfl)
theorem dX24_waysOf_167 : decode cX24_waysOf 167 = .ok (.iconst (-1), 1) := dk_2 (dk_at dksX24_waysOf_7 0 rfl rfl)
theorem dX24_waysOf_168 : decode cX24_waysOf 168 = .ok (.iconst (-1), 1) := dk_2 (dk_at dksX24_waysOf_7 1 rfl rfl)
theorem dX24_waysOf_169 : decode cX24_waysOf 169 = .ok (.invokestatic 390, 3) := dk_184 1 134 (dk_at dksX24_waysOf_7 2 rfl rfl)
theorem dX24_waysOf_172 : decode cX24_waysOf 172 = .ok (.iconst (-1), 1) := dk_2 (dk_at dksX24_waysOf_7 5 rfl rfl)
theorem dX24_waysOf_173 : decode cX24_waysOf 173 = .ok (.iconst (-1), 1) := dk_2 (dk_at dksX24_waysOf_7 6 rfl rfl)
theorem dX24_waysOf_174 : decode cX24_waysOf 174 = .ok (.iload 5, 2) := dk_21 5 (dk_at dksX24_waysOf_7 7 rfl rfl)
theorem dX24_waysOf_176 : decode cX24_waysOf 176 = .ok (.i2l, 1) := dk_133 (dk_at dksX24_waysOf_7 9 rfl rfl)
theorem dX24_waysOf_177 : decode cX24_waysOf 177 = .ok (.lconst 0, 1) := dk_9 (dk_at dksX24_waysOf_7 10 rfl rfl)
theorem dX24_waysOf_178 : decode cX24_waysOf 178 = .ok (.iload 5, 2) := dk_21 5 (dk_at dksX24_waysOf_7 11 rfl rfl)
theorem dX24_waysOf_180 : decode cX24_waysOf 180 = .ok (.i2l, 1) := dk_133 (dk_at dksX24_waysOf_7 13 rfl rfl)
theorem dX24_waysOf_181 : decode cX24_waysOf 181 = .ok (.invokevirtual 386, 3) := dk_182 1 130 (dk_at dksX24_waysOf_7 14 rfl rfl)
theorem dX24_waysOf_184 : decode cX24_waysOf 184 = .ok (.return_, 1) := dk_177 (dk_at dksX24_waysOf_7 17 rfl rfl)
abbrev cX24_waysBy : ByteArray := prog_53_method_66_code
def yX24_waysBy : MethodName := ⟨RX24, "waysBy", "(III)V"⟩
def dkwX24_waysBy_17 : List UInt8 := [182, 1, 130, 132, 10, 1, 167, 255, 51, 132, 9, 1, 167, 255, 35, 177]
abbrev dktX24_waysBy_17 : List UInt8 := dkwX24_waysBy_17 ++ []
def dkwX24_waysBy_16 : List UInt8 := [184, 1, 134, 21, 11, 42, 180, 0, 85, 21, 6, 46, 133, 42, 180, 0, 85, 21, 7, 46, 133, 21, 4, 133]
abbrev dktX24_waysBy_16 : List UInt8 := dkwX24_waysBy_16 ++ dktX24_waysBy_17
def dkwX24_waysBy_15 : List UInt8 := [21, 12, 21, 11, 184, 1, 134, 21, 7, 21, 9, 8, 160, 0, 8, 21, 5, 167, 0, 4, 2, 21, 11]
abbrev dktX24_waysBy_15 : List UInt8 := dkwX24_waysBy_15 ++ dktX24_waysBy_16
def dkwX24_waysBy_14 : List UInt8 := [42, 180, 0, 85, 21, 6, 46, 133, 9, 21, 4, 133, 182, 1, 130, 167, 0, 59, 42, 21, 9, 27, 21, 6]
abbrev dktX24_waysBy_14 : List UInt8 := dkwX24_waysBy_14 ++ dktX24_waysBy_15
def dkwX24_waysBy_13 : List UInt8 := [54, 12, 21, 7, 2, 160, 0, 37, 42, 21, 9, 27, 21, 6, 21, 12, 21, 11, 184, 1, 134, 2, 21, 11]
abbrev dktX24_waysBy_13 : List UInt8 := dkwX24_waysBy_13 ++ dktX24_waysBy_14
def dkwX24_waysBy_12 : List UInt8 := [21, 9, 16, 9, 160, 0, 8, 21, 5, 167, 0, 15, 21, 9, 16, 6, 160, 0, 7, 28, 167, 0, 4, 2]
abbrev dktX24_waysBy_12 : List UInt8 := dkwX24_waysBy_12 ++ dktX24_waysBy_13
def dkwX24_waysBy_11 : List UInt8 := [16, 9, 160, 0, 15, 28, 21, 5, 184, 1, 127, 154, 0, 6, 167, 0, 131, 21, 9, 8, 159, 0, 10]
abbrev dktX24_waysBy_11 : List UInt8 := dkwX24_waysBy_11 ++ dktX24_waysBy_12
def dkwX24_waysBy_10 : List UInt8 := [159, 0, 10, 21, 9, 16, 8, 160, 0, 8, 28, 2, 160, 0, 156, 21, 9, 8, 159, 0, 10, 21, 9]
abbrev dktX24_waysBy_10 : List UInt8 := dkwX24_waysBy_10 ++ dktX24_waysBy_11
def dkwX24_waysBy_9 : List UInt8 := [21, 5, 167, 0, 4, 7, 54, 11, 29, 21, 11, 184, 1, 127, 154, 0, 6, 167, 0, 174, 21, 9, 7]
abbrev dktX24_waysBy_9 : List UInt8 := dkwX24_waysBy_9 ++ dktX24_waysBy_10
def dkwX24_waysBy_8 : List UInt8 := [54, 9, 21, 9, 21, 8, 163, 0, 220, 3, 54, 10, 21, 10, 5, 162, 0, 205, 21, 10, 154, 0, 8]
abbrev dktX24_waysBy_8 : List UInt8 := dkwX24_waysBy_8 ++ dktX24_waysBy_9
def dkwX24_waysBy_7 : List UInt8 := [160, 0, 8, 16, 9, 167, 0, 5, 16, 6, 54, 8, 21, 7, 2, 160, 0, 8, 16, 8, 167, 0, 4, 7]
abbrev dktX24_waysBy_7 : List UInt8 := dkwX24_waysBy_7 ++ dktX24_waysBy_8
def dkwX24_waysBy_6 : List UInt8 := [161, 0, 16, 42, 42, 180, 0, 47, 27, 46, 182, 0, 225, 167, 0, 4, 2, 54, 7, 21, 7, 2]
abbrev dktX24_waysBy_6 : List UInt8 := dkwX24_waysBy_6 ++ dktX24_waysBy_7
def dkwX24_waysBy_5 : List UInt8 := [180, 0, 85, 21, 6, 46, 133, 9, 21, 4, 133, 182, 1, 130, 177, 42, 180, 0, 38, 27, 46, 8]
abbrev dktX24_waysBy_5 : List UInt8 := dkwX24_waysBy_5 ++ dktX24_waysBy_6
def dkwX24_waysBy_4 : List UInt8 := [180, 0, 38, 27, 46, 6, 160, 0, 31, 42, 5, 27, 21, 6, 28, 29, 184, 1, 134, 2, 2, 42]
abbrev dktX24_waysBy_4 : List UInt8 := dkwX24_waysBy_4 ++ dktX24_waysBy_5
def dkwX24_waysBy_3 : List UInt8 := [21, 4, 133, 9, 21, 4, 133, 182, 1, 130, 177, 42, 42, 180, 0, 44, 27, 46, 182, 0, 225, 54, 6, 42]
abbrev dktX24_waysBy_3 : List UInt8 := dkwX24_waysBy_3 ++ dktX24_waysBy_4
def dkwX24_waysBy_2 : List UInt8 := [153, 0, 33, 29, 42, 180, 0, 35, 21, 5, 46, 184, 1, 127, 153, 0, 19, 42, 4, 27, 2, 2, 2]
abbrev dktX24_waysBy_2 : List UInt8 := dkwX24_waysBy_2 ++ dktX24_waysBy_3
def dkwX24_waysBy_1 : List UInt8 := [54, 5, 42, 180, 0, 38, 27, 46, 4, 160, 0, 48, 28, 42, 180, 0, 32, 21, 5, 46, 184, 1, 127]
abbrev dktX24_waysBy_1 : List UInt8 := dkwX24_waysBy_1 ++ dktX24_waysBy_2
def dkwX24_waysBy_0 : List UInt8 := [42, 180, 0, 85, 42, 42, 180, 0, 50, 27, 46, 182, 0, 225, 46, 54, 4, 42, 180, 0, 41, 27, 46]
abbrev dktX24_waysBy_0 : List UInt8 := dkwX24_waysBy_0 ++ dktX24_waysBy_1
theorem dksX24_waysBy_0 : cX24_waysBy.data.toList.drop 0 = dktX24_waysBy_0 := by decide +kernel
theorem dksX24_waysBy_1 : cX24_waysBy.data.toList.drop 23 = dktX24_waysBy_1 := dk_seg dksX24_waysBy_0 23 rfl rfl
theorem dksX24_waysBy_2 : cX24_waysBy.data.toList.drop 46 = dktX24_waysBy_2 := dk_seg dksX24_waysBy_1 23 rfl rfl
theorem dksX24_waysBy_3 : cX24_waysBy.data.toList.drop 69 = dktX24_waysBy_3 := dk_seg dksX24_waysBy_2 23 rfl rfl
theorem dksX24_waysBy_4 : cX24_waysBy.data.toList.drop 93 = dktX24_waysBy_4 := dk_seg dksX24_waysBy_3 24 rfl rfl
theorem dksX24_waysBy_5 : cX24_waysBy.data.toList.drop 115 = dktX24_waysBy_5 := dk_seg dksX24_waysBy_4 22 rfl rfl
theorem dksX24_waysBy_6 : cX24_waysBy.data.toList.drop 137 = dktX24_waysBy_6 := dk_seg dksX24_waysBy_5 22 rfl rfl
theorem dksX24_waysBy_7 : cX24_waysBy.data.toList.drop 159 = dktX24_waysBy_7 := dk_seg dksX24_waysBy_6 22 rfl rfl
theorem dksX24_waysBy_8 : cX24_waysBy.data.toList.drop 183 = dktX24_waysBy_8 := dk_seg dksX24_waysBy_7 24 rfl rfl
theorem dksX24_waysBy_9 : cX24_waysBy.data.toList.drop 206 = dktX24_waysBy_9 := dk_seg dksX24_waysBy_8 23 rfl rfl
theorem dksX24_waysBy_10 : cX24_waysBy.data.toList.drop 229 = dktX24_waysBy_10 := dk_seg dksX24_waysBy_9 23 rfl rfl
theorem dksX24_waysBy_11 : cX24_waysBy.data.toList.drop 252 = dktX24_waysBy_11 := dk_seg dksX24_waysBy_10 23 rfl rfl
theorem dksX24_waysBy_12 : cX24_waysBy.data.toList.drop 275 = dktX24_waysBy_12 := dk_seg dksX24_waysBy_11 23 rfl rfl
theorem dksX24_waysBy_13 : cX24_waysBy.data.toList.drop 299 = dktX24_waysBy_13 := dk_seg dksX24_waysBy_12 24 rfl rfl
theorem dksX24_waysBy_14 : cX24_waysBy.data.toList.drop 323 = dktX24_waysBy_14 := dk_seg dksX24_waysBy_13 24 rfl rfl
theorem dksX24_waysBy_15 : cX24_waysBy.data.toList.drop 347 = dktX24_waysBy_15 := dk_seg dksX24_waysBy_14 24 rfl rfl
theorem dksX24_waysBy_16 : cX24_waysBy.data.toList.drop 370 = dktX24_waysBy_16 := dk_seg dksX24_waysBy_15 23 rfl rfl
theorem dksX24_waysBy_17 : cX24_waysBy.data.toList.drop 394 = dktX24_waysBy_17 := dk_seg dksX24_waysBy_16 24 rfl rfl
theorem dX24_waysBy_0 : decode cX24_waysBy 0 = .ok (.aload_n 0, 1) := dk_42 (dk_at dksX24_waysBy_0 0 rfl rfl)
theorem dX24_waysBy_1 : decode cX24_waysBy 1 = .ok (.getfield 85, 3) := dk_180 0 85 (dk_at dksX24_waysBy_0 1 rfl rfl)
theorem dX24_waysBy_4 : decode cX24_waysBy 4 = .ok (.aload_n 0, 1) := dk_42 (dk_at dksX24_waysBy_0 4 rfl rfl)
theorem dX24_waysBy_5 : decode cX24_waysBy 5 = .ok (.aload_n 0, 1) := dk_42 (dk_at dksX24_waysBy_0 5 rfl rfl)
theorem dX24_waysBy_6 : decode cX24_waysBy 6 = .ok (.getfield 50, 3) := dk_180 0 50 (dk_at dksX24_waysBy_0 6 rfl rfl)
theorem dX24_waysBy_9 : decode cX24_waysBy 9 = .ok (.iload_n 1, 1) := dk_27 (dk_at dksX24_waysBy_0 9 rfl rfl)
theorem dX24_waysBy_10 : decode cX24_waysBy 10 = .ok (.iaload, 1) := dk_46 (dk_at dksX24_waysBy_0 10 rfl rfl)
theorem dX24_waysBy_11 : decode cX24_waysBy 11 = .ok (.invokevirtual 225, 3) := dk_182 0 225 (dk_at dksX24_waysBy_0 11 rfl rfl)
theorem dX24_waysBy_14 : decode cX24_waysBy 14 = .ok (.iaload, 1) := dk_46 (dk_at dksX24_waysBy_0 14 rfl rfl)
theorem dX24_waysBy_15 : decode cX24_waysBy 15 = .ok (.istore 4, 2) := dk_54 4 (dk_at dksX24_waysBy_0 15 rfl rfl)
theorem dX24_waysBy_17 : decode cX24_waysBy 17 = .ok (.aload_n 0, 1) := dk_42 (dk_at dksX24_waysBy_0 17 rfl rfl)
theorem dX24_waysBy_18 : decode cX24_waysBy 18 = .ok (.getfield 41, 3) := dk_180 0 41 (dk_at dksX24_waysBy_0 18 rfl rfl)
theorem dX24_waysBy_21 : decode cX24_waysBy 21 = .ok (.iload_n 1, 1) := dk_27 (dk_at dksX24_waysBy_0 21 rfl rfl)
theorem dX24_waysBy_22 : decode cX24_waysBy 22 = .ok (.iaload, 1) := dk_46 (dk_at dksX24_waysBy_0 22 rfl rfl)
theorem dX24_waysBy_23 : decode cX24_waysBy 23 = .ok (.istore 5, 2) := dk_54 5 (dk_at dksX24_waysBy_1 0 rfl rfl)
theorem dX24_waysBy_25 : decode cX24_waysBy 25 = .ok (.aload_n 0, 1) := dk_42 (dk_at dksX24_waysBy_1 2 rfl rfl)
theorem dX24_waysBy_26 : decode cX24_waysBy 26 = .ok (.getfield 38, 3) := dk_180 0 38 (dk_at dksX24_waysBy_1 3 rfl rfl)
theorem dX24_waysBy_29 : decode cX24_waysBy 29 = .ok (.iload_n 1, 1) := dk_27 (dk_at dksX24_waysBy_1 6 rfl rfl)
theorem dX24_waysBy_30 : decode cX24_waysBy 30 = .ok (.iaload, 1) := dk_46 (dk_at dksX24_waysBy_1 7 rfl rfl)
theorem dX24_waysBy_31 : decode cX24_waysBy 31 = .ok (.iconst 1, 1) := dk_4 (dk_at dksX24_waysBy_1 8 rfl rfl)
theorem dX24_waysBy_32 : decode cX24_waysBy 32 = .ok (.if_icmp .ne 48, 3) := dk_160 0 48 (dk_at dksX24_waysBy_1 9 rfl rfl)
theorem dX24_waysBy_35 : decode cX24_waysBy 35 = .ok (.iload_n 2, 1) := dk_28 (dk_at dksX24_waysBy_1 12 rfl rfl)
theorem dX24_waysBy_36 : decode cX24_waysBy 36 = .ok (.aload_n 0, 1) := dk_42 (dk_at dksX24_waysBy_1 13 rfl rfl)
theorem dX24_waysBy_37 : decode cX24_waysBy 37 = .ok (.getfield 32, 3) := dk_180 0 32 (dk_at dksX24_waysBy_1 14 rfl rfl)
theorem dX24_waysBy_40 : decode cX24_waysBy 40 = .ok (.iload 5, 2) := dk_21 5 (dk_at dksX24_waysBy_1 17 rfl rfl)
theorem dX24_waysBy_42 : decode cX24_waysBy 42 = .ok (.iaload, 1) := dk_46 (dk_at dksX24_waysBy_1 19 rfl rfl)
theorem dX24_waysBy_43 : decode cX24_waysBy 43 = .ok (.invokestatic 383, 3) := dk_184 1 127 (dk_at dksX24_waysBy_1 20 rfl rfl)
theorem dX24_waysBy_46 : decode cX24_waysBy 46 = .ok (.ifCond .eq 33, 3) := dk_153 0 33 (dk_at dksX24_waysBy_2 0 rfl rfl)
theorem dX24_waysBy_49 : decode cX24_waysBy 49 = .ok (.iload_n 3, 1) := dk_29 (dk_at dksX24_waysBy_2 3 rfl rfl)
theorem dX24_waysBy_50 : decode cX24_waysBy 50 = .ok (.aload_n 0, 1) := dk_42 (dk_at dksX24_waysBy_2 4 rfl rfl)
theorem dX24_waysBy_51 : decode cX24_waysBy 51 = .ok (.getfield 35, 3) := dk_180 0 35 (dk_at dksX24_waysBy_2 5 rfl rfl)
theorem dX24_waysBy_54 : decode cX24_waysBy 54 = .ok (.iload 5, 2) := dk_21 5 (dk_at dksX24_waysBy_2 8 rfl rfl)
theorem dX24_waysBy_56 : decode cX24_waysBy 56 = .ok (.iaload, 1) := dk_46 (dk_at dksX24_waysBy_2 10 rfl rfl)
theorem dX24_waysBy_57 : decode cX24_waysBy 57 = .ok (.invokestatic 383, 3) := dk_184 1 127 (dk_at dksX24_waysBy_2 11 rfl rfl)
theorem dX24_waysBy_60 : decode cX24_waysBy 60 = .ok (.ifCond .eq 19, 3) := dk_153 0 19 (dk_at dksX24_waysBy_2 14 rfl rfl)
theorem dX24_waysBy_63 : decode cX24_waysBy 63 = .ok (.aload_n 0, 1) := dk_42 (dk_at dksX24_waysBy_2 17 rfl rfl)
theorem dX24_waysBy_64 : decode cX24_waysBy 64 = .ok (.iconst 1, 1) := dk_4 (dk_at dksX24_waysBy_2 18 rfl rfl)
theorem dX24_waysBy_65 : decode cX24_waysBy 65 = .ok (.iload_n 1, 1) := dk_27 (dk_at dksX24_waysBy_2 19 rfl rfl)
theorem dX24_waysBy_66 : decode cX24_waysBy 66 = .ok (.iconst (-1), 1) := dk_2 (dk_at dksX24_waysBy_2 20 rfl rfl)
theorem dX24_waysBy_67 : decode cX24_waysBy 67 = .ok (.iconst (-1), 1) := dk_2 (dk_at dksX24_waysBy_2 21 rfl rfl)
theorem dX24_waysBy_68 : decode cX24_waysBy 68 = .ok (.iconst (-1), 1) := dk_2 (dk_at dksX24_waysBy_2 22 rfl rfl)
theorem dX24_waysBy_69 : decode cX24_waysBy 69 = .ok (.iload 4, 2) := dk_21 4 (dk_at dksX24_waysBy_3 0 rfl rfl)
theorem dX24_waysBy_71 : decode cX24_waysBy 71 = .ok (.i2l, 1) := dk_133 (dk_at dksX24_waysBy_3 2 rfl rfl)
theorem dX24_waysBy_72 : decode cX24_waysBy 72 = .ok (.lconst 0, 1) := dk_9 (dk_at dksX24_waysBy_3 3 rfl rfl)
theorem dX24_waysBy_73 : decode cX24_waysBy 73 = .ok (.iload 4, 2) := dk_21 4 (dk_at dksX24_waysBy_3 4 rfl rfl)
theorem dX24_waysBy_75 : decode cX24_waysBy 75 = .ok (.i2l, 1) := dk_133 (dk_at dksX24_waysBy_3 6 rfl rfl)
theorem dX24_waysBy_76 : decode cX24_waysBy 76 = .ok (.invokevirtual 386, 3) := dk_182 1 130 (dk_at dksX24_waysBy_3 7 rfl rfl)
theorem dX24_waysBy_79 : decode cX24_waysBy 79 = .ok (.return_, 1) := dk_177 (dk_at dksX24_waysBy_3 10 rfl rfl)
theorem dX24_waysBy_80 : decode cX24_waysBy 80 = .ok (.aload_n 0, 1) := dk_42 (dk_at dksX24_waysBy_3 11 rfl rfl)
theorem dX24_waysBy_81 : decode cX24_waysBy 81 = .ok (.aload_n 0, 1) := dk_42 (dk_at dksX24_waysBy_3 12 rfl rfl)
theorem dX24_waysBy_82 : decode cX24_waysBy 82 = .ok (.getfield 44, 3) := dk_180 0 44 (dk_at dksX24_waysBy_3 13 rfl rfl)
theorem dX24_waysBy_85 : decode cX24_waysBy 85 = .ok (.iload_n 1, 1) := dk_27 (dk_at dksX24_waysBy_3 16 rfl rfl)
theorem dX24_waysBy_86 : decode cX24_waysBy 86 = .ok (.iaload, 1) := dk_46 (dk_at dksX24_waysBy_3 17 rfl rfl)
theorem dX24_waysBy_87 : decode cX24_waysBy 87 = .ok (.invokevirtual 225, 3) := dk_182 0 225 (dk_at dksX24_waysBy_3 18 rfl rfl)
theorem dX24_waysBy_90 : decode cX24_waysBy 90 = .ok (.istore 6, 2) := dk_54 6 (dk_at dksX24_waysBy_3 21 rfl rfl)
theorem dX24_waysBy_92 : decode cX24_waysBy 92 = .ok (.aload_n 0, 1) := dk_42 (dk_at dksX24_waysBy_3 23 rfl rfl)
theorem dX24_waysBy_93 : decode cX24_waysBy 93 = .ok (.getfield 38, 3) := dk_180 0 38 (dk_at dksX24_waysBy_4 0 rfl rfl)
theorem dX24_waysBy_96 : decode cX24_waysBy 96 = .ok (.iload_n 1, 1) := dk_27 (dk_at dksX24_waysBy_4 3 rfl rfl)
theorem dX24_waysBy_97 : decode cX24_waysBy 97 = .ok (.iaload, 1) := dk_46 (dk_at dksX24_waysBy_4 4 rfl rfl)
theorem dX24_waysBy_98 : decode cX24_waysBy 98 = .ok (.iconst 3, 1) := dk_6 (dk_at dksX24_waysBy_4 5 rfl rfl)
theorem dX24_waysBy_99 : decode cX24_waysBy 99 = .ok (.if_icmp .ne 31, 3) := dk_160 0 31 (dk_at dksX24_waysBy_4 6 rfl rfl)
theorem dX24_waysBy_102 : decode cX24_waysBy 102 = .ok (.aload_n 0, 1) := dk_42 (dk_at dksX24_waysBy_4 9 rfl rfl)
theorem dX24_waysBy_103 : decode cX24_waysBy 103 = .ok (.iconst 2, 1) := dk_5 (dk_at dksX24_waysBy_4 10 rfl rfl)
theorem dX24_waysBy_104 : decode cX24_waysBy 104 = .ok (.iload_n 1, 1) := dk_27 (dk_at dksX24_waysBy_4 11 rfl rfl)
theorem dX24_waysBy_105 : decode cX24_waysBy 105 = .ok (.iload 6, 2) := dk_21 6 (dk_at dksX24_waysBy_4 12 rfl rfl)
theorem dX24_waysBy_107 : decode cX24_waysBy 107 = .ok (.iload_n 2, 1) := dk_28 (dk_at dksX24_waysBy_4 14 rfl rfl)
theorem dX24_waysBy_108 : decode cX24_waysBy 108 = .ok (.iload_n 3, 1) := dk_29 (dk_at dksX24_waysBy_4 15 rfl rfl)
theorem dX24_waysBy_109 : decode cX24_waysBy 109 = .ok (.invokestatic 390, 3) := dk_184 1 134 (dk_at dksX24_waysBy_4 16 rfl rfl)
theorem dX24_waysBy_112 : decode cX24_waysBy 112 = .ok (.iconst (-1), 1) := dk_2 (dk_at dksX24_waysBy_4 19 rfl rfl)
theorem dX24_waysBy_113 : decode cX24_waysBy 113 = .ok (.iconst (-1), 1) := dk_2 (dk_at dksX24_waysBy_4 20 rfl rfl)
theorem dX24_waysBy_114 : decode cX24_waysBy 114 = .ok (.aload_n 0, 1) := dk_42 (dk_at dksX24_waysBy_4 21 rfl rfl)
theorem dX24_waysBy_115 : decode cX24_waysBy 115 = .ok (.getfield 85, 3) := dk_180 0 85 (dk_at dksX24_waysBy_5 0 rfl rfl)
theorem dX24_waysBy_118 : decode cX24_waysBy 118 = .ok (.iload 6, 2) := dk_21 6 (dk_at dksX24_waysBy_5 3 rfl rfl)
theorem dX24_waysBy_120 : decode cX24_waysBy 120 = .ok (.iaload, 1) := dk_46 (dk_at dksX24_waysBy_5 5 rfl rfl)
theorem dX24_waysBy_121 : decode cX24_waysBy 121 = .ok (.i2l, 1) := dk_133 (dk_at dksX24_waysBy_5 6 rfl rfl)
theorem dX24_waysBy_122 : decode cX24_waysBy 122 = .ok (.lconst 0, 1) := dk_9 (dk_at dksX24_waysBy_5 7 rfl rfl)
theorem dX24_waysBy_123 : decode cX24_waysBy 123 = .ok (.iload 4, 2) := dk_21 4 (dk_at dksX24_waysBy_5 8 rfl rfl)
theorem dX24_waysBy_125 : decode cX24_waysBy 125 = .ok (.i2l, 1) := dk_133 (dk_at dksX24_waysBy_5 10 rfl rfl)
theorem dX24_waysBy_126 : decode cX24_waysBy 126 = .ok (.invokevirtual 386, 3) := dk_182 1 130 (dk_at dksX24_waysBy_5 11 rfl rfl)
theorem dX24_waysBy_129 : decode cX24_waysBy 129 = .ok (.return_, 1) := dk_177 (dk_at dksX24_waysBy_5 14 rfl rfl)
theorem dX24_waysBy_130 : decode cX24_waysBy 130 = .ok (.aload_n 0, 1) := dk_42 (dk_at dksX24_waysBy_5 15 rfl rfl)
theorem dX24_waysBy_131 : decode cX24_waysBy 131 = .ok (.getfield 38, 3) := dk_180 0 38 (dk_at dksX24_waysBy_5 16 rfl rfl)
theorem dX24_waysBy_134 : decode cX24_waysBy 134 = .ok (.iload_n 1, 1) := dk_27 (dk_at dksX24_waysBy_5 19 rfl rfl)
theorem dX24_waysBy_135 : decode cX24_waysBy 135 = .ok (.iaload, 1) := dk_46 (dk_at dksX24_waysBy_5 20 rfl rfl)
theorem dX24_waysBy_136 : decode cX24_waysBy 136 = .ok (.iconst 5, 1) := dk_8 (dk_at dksX24_waysBy_5 21 rfl rfl)
theorem dX24_waysBy_137 : decode cX24_waysBy 137 = .ok (.if_icmp .lt 16, 3) := dk_161 0 16 (dk_at dksX24_waysBy_6 0 rfl rfl)
theorem dX24_waysBy_140 : decode cX24_waysBy 140 = .ok (.aload_n 0, 1) := dk_42 (dk_at dksX24_waysBy_6 3 rfl rfl)
theorem dX24_waysBy_141 : decode cX24_waysBy 141 = .ok (.aload_n 0, 1) := dk_42 (dk_at dksX24_waysBy_6 4 rfl rfl)
theorem dX24_waysBy_142 : decode cX24_waysBy 142 = .ok (.getfield 47, 3) := dk_180 0 47 (dk_at dksX24_waysBy_6 5 rfl rfl)
theorem dX24_waysBy_145 : decode cX24_waysBy 145 = .ok (.iload_n 1, 1) := dk_27 (dk_at dksX24_waysBy_6 8 rfl rfl)
theorem dX24_waysBy_146 : decode cX24_waysBy 146 = .ok (.iaload, 1) := dk_46 (dk_at dksX24_waysBy_6 9 rfl rfl)
theorem dX24_waysBy_147 : decode cX24_waysBy 147 = .ok (.invokevirtual 225, 3) := dk_182 0 225 (dk_at dksX24_waysBy_6 10 rfl rfl)
theorem dX24_waysBy_150 : decode cX24_waysBy 150 = .ok (.goto 4, 3) := dk_167 0 4 (dk_at dksX24_waysBy_6 13 rfl rfl)
theorem dX24_waysBy_153 : decode cX24_waysBy 153 = .ok (.iconst (-1), 1) := dk_2 (dk_at dksX24_waysBy_6 16 rfl rfl)
theorem dX24_waysBy_154 : decode cX24_waysBy 154 = .ok (.istore 7, 2) := dk_54 7 (dk_at dksX24_waysBy_6 17 rfl rfl)
theorem dX24_waysBy_156 : decode cX24_waysBy 156 = .ok (.iload 7, 2) := dk_21 7 (dk_at dksX24_waysBy_6 19 rfl rfl)
theorem dX24_waysBy_158 : decode cX24_waysBy 158 = .ok (.iconst (-1), 1) := dk_2 (dk_at dksX24_waysBy_6 21 rfl rfl)
theorem dX24_waysBy_159 : decode cX24_waysBy 159 = .ok (.if_icmp .ne 8, 3) := dk_160 0 8 (dk_at dksX24_waysBy_7 0 rfl rfl)
theorem dX24_waysBy_162 : decode cX24_waysBy 162 = .ok (.bipush 9, 2) := dk_16 9 (dk_at dksX24_waysBy_7 3 rfl rfl)
theorem dX24_waysBy_164 : decode cX24_waysBy 164 = .ok (.goto 5, 3) := dk_167 0 5 (dk_at dksX24_waysBy_7 5 rfl rfl)
theorem dX24_waysBy_167 : decode cX24_waysBy 167 = .ok (.bipush 6, 2) := dk_16 6 (dk_at dksX24_waysBy_7 8 rfl rfl)
theorem dX24_waysBy_169 : decode cX24_waysBy 169 = .ok (.istore 8, 2) := dk_54 8 (dk_at dksX24_waysBy_7 10 rfl rfl)
theorem dX24_waysBy_171 : decode cX24_waysBy 171 = .ok (.iload 7, 2) := dk_21 7 (dk_at dksX24_waysBy_7 12 rfl rfl)
theorem dX24_waysBy_173 : decode cX24_waysBy 173 = .ok (.iconst (-1), 1) := dk_2 (dk_at dksX24_waysBy_7 14 rfl rfl)
theorem dX24_waysBy_174 : decode cX24_waysBy 174 = .ok (.if_icmp .ne 8, 3) := dk_160 0 8 (dk_at dksX24_waysBy_7 15 rfl rfl)
theorem dX24_waysBy_177 : decode cX24_waysBy 177 = .ok (.bipush 8, 2) := dk_16 8 (dk_at dksX24_waysBy_7 18 rfl rfl)
theorem dX24_waysBy_179 : decode cX24_waysBy 179 = .ok (.goto 4, 3) := dk_167 0 4 (dk_at dksX24_waysBy_7 20 rfl rfl)
theorem dX24_waysBy_182 : decode cX24_waysBy 182 = .ok (.iconst 4, 1) := dk_7 (dk_at dksX24_waysBy_7 23 rfl rfl)
theorem dX24_waysBy_183 : decode cX24_waysBy 183 = .ok (.istore 9, 2) := dk_54 9 (dk_at dksX24_waysBy_8 0 rfl rfl)
theorem dX24_waysBy_185 : decode cX24_waysBy 185 = .ok (.iload 9, 2) := dk_21 9 (dk_at dksX24_waysBy_8 2 rfl rfl)
theorem dX24_waysBy_187 : decode cX24_waysBy 187 = .ok (.iload 8, 2) := dk_21 8 (dk_at dksX24_waysBy_8 4 rfl rfl)
theorem dX24_waysBy_189 : decode cX24_waysBy 189 = .ok (.if_icmp .gt 220, 3) := dk_163 0 220 (dk_at dksX24_waysBy_8 6 rfl rfl)
theorem dX24_waysBy_192 : decode cX24_waysBy 192 = .ok (.iconst 0, 1) := dk_3 (dk_at dksX24_waysBy_8 9 rfl rfl)
theorem dX24_waysBy_193 : decode cX24_waysBy 193 = .ok (.istore 10, 2) := dk_54 10 (dk_at dksX24_waysBy_8 10 rfl rfl)
theorem dX24_waysBy_195 : decode cX24_waysBy 195 = .ok (.iload 10, 2) := dk_21 10 (dk_at dksX24_waysBy_8 12 rfl rfl)
theorem dX24_waysBy_197 : decode cX24_waysBy 197 = .ok (.iconst 2, 1) := dk_5 (dk_at dksX24_waysBy_8 14 rfl rfl)
theorem dX24_waysBy_198 : decode cX24_waysBy 198 = .ok (.if_icmp .ge 205, 3) := dk_162 0 205 (dk_at dksX24_waysBy_8 15 rfl rfl)
theorem dX24_waysBy_201 : decode cX24_waysBy 201 = .ok (.iload 10, 2) := dk_21 10 (dk_at dksX24_waysBy_8 18 rfl rfl)
theorem dX24_waysBy_203 : decode cX24_waysBy 203 = .ok (.ifCond .ne 8, 3) := dk_154 0 8 (dk_at dksX24_waysBy_8 20 rfl rfl)
theorem dX24_waysBy_206 : decode cX24_waysBy 206 = .ok (.iload 5, 2) := dk_21 5 (dk_at dksX24_waysBy_9 0 rfl rfl)
theorem dX24_waysBy_208 : decode cX24_waysBy 208 = .ok (.goto 4, 3) := dk_167 0 4 (dk_at dksX24_waysBy_9 2 rfl rfl)
theorem dX24_waysBy_211 : decode cX24_waysBy 211 = .ok (.iconst 4, 1) := dk_7 (dk_at dksX24_waysBy_9 5 rfl rfl)
theorem dX24_waysBy_212 : decode cX24_waysBy 212 = .ok (.istore 11, 2) := dk_54 11 (dk_at dksX24_waysBy_9 6 rfl rfl)
theorem dX24_waysBy_214 : decode cX24_waysBy 214 = .ok (.iload_n 3, 1) := dk_29 (dk_at dksX24_waysBy_9 8 rfl rfl)
theorem dX24_waysBy_215 : decode cX24_waysBy 215 = .ok (.iload 11, 2) := dk_21 11 (dk_at dksX24_waysBy_9 9 rfl rfl)
theorem dX24_waysBy_217 : decode cX24_waysBy 217 = .ok (.invokestatic 383, 3) := dk_184 1 127 (dk_at dksX24_waysBy_9 11 rfl rfl)
theorem dX24_waysBy_220 : decode cX24_waysBy 220 = .ok (.ifCond .ne 6, 3) := dk_154 0 6 (dk_at dksX24_waysBy_9 14 rfl rfl)
theorem dX24_waysBy_223 : decode cX24_waysBy 223 = .ok (.goto 174, 3) := dk_167 0 174 (dk_at dksX24_waysBy_9 17 rfl rfl)
theorem dX24_waysBy_226 : decode cX24_waysBy 226 = .ok (.iload 9, 2) := dk_21 9 (dk_at dksX24_waysBy_9 20 rfl rfl)
theorem dX24_waysBy_228 : decode cX24_waysBy 228 = .ok (.iconst 4, 1) := dk_7 (dk_at dksX24_waysBy_9 22 rfl rfl)
theorem dX24_waysBy_229 : decode cX24_waysBy 229 = .ok (.if_icmp .eq 10, 3) := dk_159 0 10 (dk_at dksX24_waysBy_10 0 rfl rfl)
theorem dX24_waysBy_232 : decode cX24_waysBy 232 = .ok (.iload 9, 2) := dk_21 9 (dk_at dksX24_waysBy_10 3 rfl rfl)
theorem dX24_waysBy_234 : decode cX24_waysBy 234 = .ok (.bipush 8, 2) := dk_16 8 (dk_at dksX24_waysBy_10 5 rfl rfl)
theorem dX24_waysBy_236 : decode cX24_waysBy 236 = .ok (.if_icmp .ne 8, 3) := dk_160 0 8 (dk_at dksX24_waysBy_10 7 rfl rfl)
theorem dX24_waysBy_239 : decode cX24_waysBy 239 = .ok (.iload_n 2, 1) := dk_28 (dk_at dksX24_waysBy_10 10 rfl rfl)
theorem dX24_waysBy_240 : decode cX24_waysBy 240 = .ok (.iconst (-1), 1) := dk_2 (dk_at dksX24_waysBy_10 11 rfl rfl)
theorem dX24_waysBy_241 : decode cX24_waysBy 241 = .ok (.if_icmp .ne 156, 3) := dk_160 0 156 (dk_at dksX24_waysBy_10 12 rfl rfl)
theorem dX24_waysBy_244 : decode cX24_waysBy 244 = .ok (.iload 9, 2) := dk_21 9 (dk_at dksX24_waysBy_10 15 rfl rfl)
theorem dX24_waysBy_246 : decode cX24_waysBy 246 = .ok (.iconst 5, 1) := dk_8 (dk_at dksX24_waysBy_10 17 rfl rfl)
theorem dX24_waysBy_247 : decode cX24_waysBy 247 = .ok (.if_icmp .eq 10, 3) := dk_159 0 10 (dk_at dksX24_waysBy_10 18 rfl rfl)
theorem dX24_waysBy_250 : decode cX24_waysBy 250 = .ok (.iload 9, 2) := dk_21 9 (dk_at dksX24_waysBy_10 21 rfl rfl)
theorem dX24_waysBy_252 : decode cX24_waysBy 252 = .ok (.bipush 9, 2) := dk_16 9 (dk_at dksX24_waysBy_11 0 rfl rfl)
theorem dX24_waysBy_254 : decode cX24_waysBy 254 = .ok (.if_icmp .ne 15, 3) := dk_160 0 15 (dk_at dksX24_waysBy_11 2 rfl rfl)
theorem dX24_waysBy_257 : decode cX24_waysBy 257 = .ok (.iload_n 2, 1) := dk_28 (dk_at dksX24_waysBy_11 5 rfl rfl)
theorem dX24_waysBy_258 : decode cX24_waysBy 258 = .ok (.iload 5, 2) := dk_21 5 (dk_at dksX24_waysBy_11 6 rfl rfl)
theorem dX24_waysBy_260 : decode cX24_waysBy 260 = .ok (.invokestatic 383, 3) := dk_184 1 127 (dk_at dksX24_waysBy_11 8 rfl rfl)
theorem dX24_waysBy_263 : decode cX24_waysBy 263 = .ok (.ifCond .ne 6, 3) := dk_154 0 6 (dk_at dksX24_waysBy_11 11 rfl rfl)
theorem dX24_waysBy_266 : decode cX24_waysBy 266 = .ok (.goto 131, 3) := dk_167 0 131 (dk_at dksX24_waysBy_11 14 rfl rfl)
theorem dX24_waysBy_269 : decode cX24_waysBy 269 = .ok (.iload 9, 2) := dk_21 9 (dk_at dksX24_waysBy_11 17 rfl rfl)
theorem dX24_waysBy_271 : decode cX24_waysBy 271 = .ok (.iconst 5, 1) := dk_8 (dk_at dksX24_waysBy_11 19 rfl rfl)
theorem dX24_waysBy_272 : decode cX24_waysBy 272 = .ok (.if_icmp .eq 10, 3) := dk_159 0 10 (dk_at dksX24_waysBy_11 20 rfl rfl)
theorem dX24_waysBy_275 : decode cX24_waysBy 275 = .ok (.iload 9, 2) := dk_21 9 (dk_at dksX24_waysBy_12 0 rfl rfl)
theorem dX24_waysBy_277 : decode cX24_waysBy 277 = .ok (.bipush 9, 2) := dk_16 9 (dk_at dksX24_waysBy_12 2 rfl rfl)
theorem dX24_waysBy_279 : decode cX24_waysBy 279 = .ok (.if_icmp .ne 8, 3) := dk_160 0 8 (dk_at dksX24_waysBy_12 4 rfl rfl)
theorem dX24_waysBy_282 : decode cX24_waysBy 282 = .ok (.iload 5, 2) := dk_21 5 (dk_at dksX24_waysBy_12 7 rfl rfl)
theorem dX24_waysBy_284 : decode cX24_waysBy 284 = .ok (.goto 15, 3) := dk_167 0 15 (dk_at dksX24_waysBy_12 9 rfl rfl)
theorem dX24_waysBy_287 : decode cX24_waysBy 287 = .ok (.iload 9, 2) := dk_21 9 (dk_at dksX24_waysBy_12 12 rfl rfl)
theorem dX24_waysBy_289 : decode cX24_waysBy 289 = .ok (.bipush 6, 2) := dk_16 6 (dk_at dksX24_waysBy_12 14 rfl rfl)
theorem dX24_waysBy_291 : decode cX24_waysBy 291 = .ok (.if_icmp .ne 7, 3) := dk_160 0 7 (dk_at dksX24_waysBy_12 16 rfl rfl)
theorem dX24_waysBy_294 : decode cX24_waysBy 294 = .ok (.iload_n 2, 1) := dk_28 (dk_at dksX24_waysBy_12 19 rfl rfl)
theorem dX24_waysBy_295 : decode cX24_waysBy 295 = .ok (.goto 4, 3) := dk_167 0 4 (dk_at dksX24_waysBy_12 20 rfl rfl)
theorem dX24_waysBy_298 : decode cX24_waysBy 298 = .ok (.iconst (-1), 1) := dk_2 (dk_at dksX24_waysBy_12 23 rfl rfl)
theorem dX24_waysBy_299 : decode cX24_waysBy 299 = .ok (.istore 12, 2) := dk_54 12 (dk_at dksX24_waysBy_13 0 rfl rfl)
theorem dX24_waysBy_301 : decode cX24_waysBy 301 = .ok (.iload 7, 2) := dk_21 7 (dk_at dksX24_waysBy_13 2 rfl rfl)
theorem dX24_waysBy_303 : decode cX24_waysBy 303 = .ok (.iconst (-1), 1) := dk_2 (dk_at dksX24_waysBy_13 4 rfl rfl)
theorem dX24_waysBy_304 : decode cX24_waysBy 304 = .ok (.if_icmp .ne 37, 3) := dk_160 0 37 (dk_at dksX24_waysBy_13 5 rfl rfl)
theorem dX24_waysBy_307 : decode cX24_waysBy 307 = .ok (.aload_n 0, 1) := dk_42 (dk_at dksX24_waysBy_13 8 rfl rfl)
theorem dX24_waysBy_308 : decode cX24_waysBy 308 = .ok (.iload 9, 2) := dk_21 9 (dk_at dksX24_waysBy_13 9 rfl rfl)
theorem dX24_waysBy_310 : decode cX24_waysBy 310 = .ok (.iload_n 1, 1) := dk_27 (dk_at dksX24_waysBy_13 11 rfl rfl)
theorem dX24_waysBy_311 : decode cX24_waysBy 311 = .ok (.iload 6, 2) := dk_21 6 (dk_at dksX24_waysBy_13 12 rfl rfl)
theorem dX24_waysBy_313 : decode cX24_waysBy 313 = .ok (.iload 12, 2) := dk_21 12 (dk_at dksX24_waysBy_13 14 rfl rfl)
theorem dX24_waysBy_315 : decode cX24_waysBy 315 = .ok (.iload 11, 2) := dk_21 11 (dk_at dksX24_waysBy_13 16 rfl rfl)
theorem dX24_waysBy_317 : decode cX24_waysBy 317 = .ok (.invokestatic 390, 3) := dk_184 1 134 (dk_at dksX24_waysBy_13 18 rfl rfl)
theorem dX24_waysBy_320 : decode cX24_waysBy 320 = .ok (.iconst (-1), 1) := dk_2 (dk_at dksX24_waysBy_13 21 rfl rfl)
theorem dX24_waysBy_321 : decode cX24_waysBy 321 = .ok (.iload 11, 2) := dk_21 11 (dk_at dksX24_waysBy_13 22 rfl rfl)
theorem dX24_waysBy_323 : decode cX24_waysBy 323 = .ok (.aload_n 0, 1) := dk_42 (dk_at dksX24_waysBy_14 0 rfl rfl)
theorem dX24_waysBy_324 : decode cX24_waysBy 324 = .ok (.getfield 85, 3) := dk_180 0 85 (dk_at dksX24_waysBy_14 1 rfl rfl)
theorem dX24_waysBy_327 : decode cX24_waysBy 327 = .ok (.iload 6, 2) := dk_21 6 (dk_at dksX24_waysBy_14 4 rfl rfl)
theorem dX24_waysBy_329 : decode cX24_waysBy 329 = .ok (.iaload, 1) := dk_46 (dk_at dksX24_waysBy_14 6 rfl rfl)
theorem dX24_waysBy_330 : decode cX24_waysBy 330 = .ok (.i2l, 1) := dk_133 (dk_at dksX24_waysBy_14 7 rfl rfl)
theorem dX24_waysBy_331 : decode cX24_waysBy 331 = .ok (.lconst 0, 1) := dk_9 (dk_at dksX24_waysBy_14 8 rfl rfl)
theorem dX24_waysBy_332 : decode cX24_waysBy 332 = .ok (.iload 4, 2) := dk_21 4 (dk_at dksX24_waysBy_14 9 rfl rfl)
theorem dX24_waysBy_334 : decode cX24_waysBy 334 = .ok (.i2l, 1) := dk_133 (dk_at dksX24_waysBy_14 11 rfl rfl)
theorem dX24_waysBy_335 : decode cX24_waysBy 335 = .ok (.invokevirtual 386, 3) := dk_182 1 130 (dk_at dksX24_waysBy_14 12 rfl rfl)
theorem dX24_waysBy_338 : decode cX24_waysBy 338 = .ok (.goto 59, 3) := dk_167 0 59 (dk_at dksX24_waysBy_14 15 rfl rfl)
theorem dX24_waysBy_341 : decode cX24_waysBy 341 = .ok (.aload_n 0, 1) := dk_42 (dk_at dksX24_waysBy_14 18 rfl rfl)
theorem dX24_waysBy_342 : decode cX24_waysBy 342 = .ok (.iload 9, 2) := dk_21 9 (dk_at dksX24_waysBy_14 19 rfl rfl)
theorem dX24_waysBy_344 : decode cX24_waysBy 344 = .ok (.iload_n 1, 1) := dk_27 (dk_at dksX24_waysBy_14 21 rfl rfl)
theorem dX24_waysBy_345 : decode cX24_waysBy 345 = .ok (.iload 6, 2) := dk_21 6 (dk_at dksX24_waysBy_14 22 rfl rfl)
theorem dX24_waysBy_347 : decode cX24_waysBy 347 = .ok (.iload 12, 2) := dk_21 12 (dk_at dksX24_waysBy_15 0 rfl rfl)
theorem dX24_waysBy_349 : decode cX24_waysBy 349 = .ok (.iload 11, 2) := dk_21 11 (dk_at dksX24_waysBy_15 2 rfl rfl)
theorem dX24_waysBy_351 : decode cX24_waysBy 351 = .ok (.invokestatic 390, 3) := dk_184 1 134 (dk_at dksX24_waysBy_15 4 rfl rfl)
theorem dX24_waysBy_354 : decode cX24_waysBy 354 = .ok (.iload 7, 2) := dk_21 7 (dk_at dksX24_waysBy_15 7 rfl rfl)
theorem dX24_waysBy_356 : decode cX24_waysBy 356 = .ok (.iload 9, 2) := dk_21 9 (dk_at dksX24_waysBy_15 9 rfl rfl)
theorem dX24_waysBy_358 : decode cX24_waysBy 358 = .ok (.iconst 5, 1) := dk_8 (dk_at dksX24_waysBy_15 11 rfl rfl)
theorem dX24_waysBy_359 : decode cX24_waysBy 359 = .ok (.if_icmp .ne 8, 3) := dk_160 0 8 (dk_at dksX24_waysBy_15 12 rfl rfl)
theorem dX24_waysBy_362 : decode cX24_waysBy 362 = .ok (.iload 5, 2) := dk_21 5 (dk_at dksX24_waysBy_15 15 rfl rfl)
theorem dX24_waysBy_364 : decode cX24_waysBy 364 = .ok (.goto 4, 3) := dk_167 0 4 (dk_at dksX24_waysBy_15 17 rfl rfl)
theorem dX24_waysBy_367 : decode cX24_waysBy 367 = .ok (.iconst (-1), 1) := dk_2 (dk_at dksX24_waysBy_15 20 rfl rfl)
theorem dX24_waysBy_368 : decode cX24_waysBy 368 = .ok (.iload 11, 2) := dk_21 11 (dk_at dksX24_waysBy_15 21 rfl rfl)
theorem dX24_waysBy_370 : decode cX24_waysBy 370 = .ok (.invokestatic 390, 3) := dk_184 1 134 (dk_at dksX24_waysBy_16 0 rfl rfl)
theorem dX24_waysBy_373 : decode cX24_waysBy 373 = .ok (.iload 11, 2) := dk_21 11 (dk_at dksX24_waysBy_16 3 rfl rfl)
theorem dX24_waysBy_375 : decode cX24_waysBy 375 = .ok (.aload_n 0, 1) := dk_42 (dk_at dksX24_waysBy_16 5 rfl rfl)
theorem dX24_waysBy_376 : decode cX24_waysBy 376 = .ok (.getfield 85, 3) := dk_180 0 85 (dk_at dksX24_waysBy_16 6 rfl rfl)
theorem dX24_waysBy_379 : decode cX24_waysBy 379 = .ok (.iload 6, 2) := dk_21 6 (dk_at dksX24_waysBy_16 9 rfl rfl)
theorem dX24_waysBy_381 : decode cX24_waysBy 381 = .ok (.iaload, 1) := dk_46 (dk_at dksX24_waysBy_16 11 rfl rfl)
theorem dX24_waysBy_382 : decode cX24_waysBy 382 = .ok (.i2l, 1) := dk_133 (dk_at dksX24_waysBy_16 12 rfl rfl)
theorem dX24_waysBy_383 : decode cX24_waysBy 383 = .ok (.aload_n 0, 1) := dk_42 (dk_at dksX24_waysBy_16 13 rfl rfl)
theorem dX24_waysBy_384 : decode cX24_waysBy 384 = .ok (.getfield 85, 3) := dk_180 0 85 (dk_at dksX24_waysBy_16 14 rfl rfl)
theorem dX24_waysBy_387 : decode cX24_waysBy 387 = .ok (.iload 7, 2) := dk_21 7 (dk_at dksX24_waysBy_16 17 rfl rfl)
theorem dX24_waysBy_389 : decode cX24_waysBy 389 = .ok (.iaload, 1) := dk_46 (dk_at dksX24_waysBy_16 19 rfl rfl)
theorem dX24_waysBy_390 : decode cX24_waysBy 390 = .ok (.i2l, 1) := dk_133 (dk_at dksX24_waysBy_16 20 rfl rfl)
theorem dX24_waysBy_391 : decode cX24_waysBy 391 = .ok (.iload 4, 2) := dk_21 4 (dk_at dksX24_waysBy_16 21 rfl rfl)
theorem dX24_waysBy_393 : decode cX24_waysBy 393 = .ok (.i2l, 1) := dk_133 (dk_at dksX24_waysBy_16 23 rfl rfl)
theorem dX24_waysBy_394 : decode cX24_waysBy 394 = .ok (.invokevirtual 386, 3) := dk_182 1 130 (dk_at dksX24_waysBy_17 0 rfl rfl)
theorem dX24_waysBy_397 : decode cX24_waysBy 397 = .ok (.iinc 10 1, 3) := dk_132 10 1 (dk_at dksX24_waysBy_17 3 rfl rfl)
theorem dX24_waysBy_400 : decode cX24_waysBy 400 = .ok (.goto (-205), 3) := dk_167 255 51 (dk_at dksX24_waysBy_17 6 rfl rfl)
theorem dX24_waysBy_403 : decode cX24_waysBy 403 = .ok (.iinc 9 1, 3) := dk_132 9 1 (dk_at dksX24_waysBy_17 9 rfl rfl)
theorem dX24_waysBy_406 : decode cX24_waysBy 406 = .ok (.goto (-221), 3) := dk_167 255 35 (dk_at dksX24_waysBy_17 12 rfl rfl)
theorem dX24_waysBy_409 : decode cX24_waysBy 409 = .ok (.return_, 1) := dk_177 (dk_at dksX24_waysBy_17 15 rfl rfl)
abbrev cX24_meets : ByteArray := prog_53_method_65_code
def yX24_meets : MethodName := ⟨RX24, "meets", "(II)Z"⟩
def dkwX24_meets_0 : List UInt8 := [26, 2, 159, 0, 8, 26, 27, 160, 0, 7, 4, 167, 0, 4, 3, 172]
abbrev dktX24_meets_0 : List UInt8 := dkwX24_meets_0 ++ []
theorem dksX24_meets_0 : cX24_meets.data.toList.drop 0 = dktX24_meets_0 := by decide +kernel
theorem dX24_meets_0 : decode cX24_meets 0 = .ok (.iload_n 0, 1) := dk_26 (dk_at dksX24_meets_0 0 rfl rfl)
theorem dX24_meets_1 : decode cX24_meets 1 = .ok (.iconst (-1), 1) := dk_2 (dk_at dksX24_meets_0 1 rfl rfl)
theorem dX24_meets_2 : decode cX24_meets 2 = .ok (.if_icmp .eq 8, 3) := dk_159 0 8 (dk_at dksX24_meets_0 2 rfl rfl)
theorem dX24_meets_5 : decode cX24_meets 5 = .ok (.iload_n 0, 1) := dk_26 (dk_at dksX24_meets_0 5 rfl rfl)
theorem dX24_meets_6 : decode cX24_meets 6 = .ok (.iload_n 1, 1) := dk_27 (dk_at dksX24_meets_0 6 rfl rfl)
theorem dX24_meets_7 : decode cX24_meets 7 = .ok (.if_icmp .ne 7, 3) := dk_160 0 7 (dk_at dksX24_meets_0 7 rfl rfl)
theorem dX24_meets_10 : decode cX24_meets 10 = .ok (.iconst 1, 1) := dk_4 (dk_at dksX24_meets_0 10 rfl rfl)
theorem dX24_meets_11 : decode cX24_meets 11 = .ok (.goto 4, 3) := dk_167 0 4 (dk_at dksX24_meets_0 11 rfl rfl)
theorem dX24_meets_14 : decode cX24_meets 14 = .ok (.iconst 0, 1) := dk_3 (dk_at dksX24_meets_0 14 rfl rfl)
theorem dX24_meets_15 : decode cX24_meets 15 = .ok (.ireturn, 1) := dk_172 (dk_at dksX24_meets_0 15 rfl rfl)
abbrev cX24_way : ByteArray := prog_53_method_64_code
def yX24_way : MethodName := ⟨RX24, "way", "(IIIIIJJJ)V"⟩
def dkwX24_way_4 : List UInt8 := [181, 1, 121, 177]
abbrev dktX24_way_4 : List UInt8 := dkwX24_way_4 ++ []
def dkwX24_way_3 : List UInt8 := [180, 1, 121, 42, 27, 22, 6, 22, 8, 22, 10, 182, 1, 124, 80, 42, 89, 180, 1, 121, 4, 96]
abbrev dktX24_way_3 : List UInt8 := dkwX24_way_3 ++ dktX24_way_4
def dkwX24_way_2 : List UInt8 := [180, 1, 121, 21, 4, 79, 42, 180, 0, 112, 42, 180, 1, 121, 21, 5, 79, 42, 180, 0, 115, 42]
abbrev dktX24_way_2 : List UInt8 := dkwX24_way_2 ++ dktX24_way_3
def dkwX24_way_1 : List UInt8 := [180, 0, 103, 42, 180, 1, 121, 28, 79, 42, 180, 0, 106, 42, 180, 1, 121, 29, 79, 42, 180, 0, 109, 42]
abbrev dktX24_way_1 : List UInt8 := dkwX24_way_1 ++ dktX24_way_2
def dkwX24_way_0 : List UInt8 := [42, 180, 0, 7, 27, 122, 4, 126, 154, 0, 4, 177, 42, 180, 0, 100, 42, 180, 1, 121, 27, 79, 42]
abbrev dktX24_way_0 : List UInt8 := dkwX24_way_0 ++ dktX24_way_1
theorem dksX24_way_0 : cX24_way.data.toList.drop 0 = dktX24_way_0 := by decide +kernel
theorem dksX24_way_1 : cX24_way.data.toList.drop 23 = dktX24_way_1 := dk_seg dksX24_way_0 23 rfl rfl
theorem dksX24_way_2 : cX24_way.data.toList.drop 47 = dktX24_way_2 := dk_seg dksX24_way_1 24 rfl rfl
theorem dksX24_way_3 : cX24_way.data.toList.drop 69 = dktX24_way_3 := dk_seg dksX24_way_2 22 rfl rfl
theorem dksX24_way_4 : cX24_way.data.toList.drop 91 = dktX24_way_4 := dk_seg dksX24_way_3 22 rfl rfl
theorem dX24_way_0 : decode cX24_way 0 = .ok (.aload_n 0, 1) := dk_42 (dk_at dksX24_way_0 0 rfl rfl)
theorem dX24_way_1 : decode cX24_way 1 = .ok (.getfield 7, 3) := dk_180 0 7 (dk_at dksX24_way_0 1 rfl rfl)
theorem dX24_way_4 : decode cX24_way 4 = .ok (.iload_n 1, 1) := dk_27 (dk_at dksX24_way_0 4 rfl rfl)
theorem dX24_way_5 : decode cX24_way 5 = .ok (.ishr, 1) := dk_122 (dk_at dksX24_way_0 5 rfl rfl)
theorem dX24_way_6 : decode cX24_way 6 = .ok (.iconst 1, 1) := dk_4 (dk_at dksX24_way_0 6 rfl rfl)
theorem dX24_way_7 : decode cX24_way 7 = .ok (.iand, 1) := dk_126 (dk_at dksX24_way_0 7 rfl rfl)
theorem dX24_way_8 : decode cX24_way 8 = .ok (.ifCond .ne 4, 3) := dk_154 0 4 (dk_at dksX24_way_0 8 rfl rfl)
theorem dX24_way_11 : decode cX24_way 11 = .ok (.return_, 1) := dk_177 (dk_at dksX24_way_0 11 rfl rfl)
theorem dX24_way_12 : decode cX24_way 12 = .ok (.aload_n 0, 1) := dk_42 (dk_at dksX24_way_0 12 rfl rfl)
theorem dX24_way_13 : decode cX24_way 13 = .ok (.getfield 100, 3) := dk_180 0 100 (dk_at dksX24_way_0 13 rfl rfl)
theorem dX24_way_16 : decode cX24_way 16 = .ok (.aload_n 0, 1) := dk_42 (dk_at dksX24_way_0 16 rfl rfl)
theorem dX24_way_17 : decode cX24_way 17 = .ok (.getfield 377, 3) := dk_180 1 121 (dk_at dksX24_way_0 17 rfl rfl)
theorem dX24_way_20 : decode cX24_way 20 = .ok (.iload_n 1, 1) := dk_27 (dk_at dksX24_way_0 20 rfl rfl)
theorem dX24_way_21 : decode cX24_way 21 = .ok (.iastore, 1) := dk_79 (dk_at dksX24_way_0 21 rfl rfl)
theorem dX24_way_22 : decode cX24_way 22 = .ok (.aload_n 0, 1) := dk_42 (dk_at dksX24_way_0 22 rfl rfl)
theorem dX24_way_23 : decode cX24_way 23 = .ok (.getfield 103, 3) := dk_180 0 103 (dk_at dksX24_way_1 0 rfl rfl)
theorem dX24_way_26 : decode cX24_way 26 = .ok (.aload_n 0, 1) := dk_42 (dk_at dksX24_way_1 3 rfl rfl)
theorem dX24_way_27 : decode cX24_way 27 = .ok (.getfield 377, 3) := dk_180 1 121 (dk_at dksX24_way_1 4 rfl rfl)
theorem dX24_way_30 : decode cX24_way 30 = .ok (.iload_n 2, 1) := dk_28 (dk_at dksX24_way_1 7 rfl rfl)
theorem dX24_way_31 : decode cX24_way 31 = .ok (.iastore, 1) := dk_79 (dk_at dksX24_way_1 8 rfl rfl)
theorem dX24_way_32 : decode cX24_way 32 = .ok (.aload_n 0, 1) := dk_42 (dk_at dksX24_way_1 9 rfl rfl)
theorem dX24_way_33 : decode cX24_way 33 = .ok (.getfield 106, 3) := dk_180 0 106 (dk_at dksX24_way_1 10 rfl rfl)
theorem dX24_way_36 : decode cX24_way 36 = .ok (.aload_n 0, 1) := dk_42 (dk_at dksX24_way_1 13 rfl rfl)
theorem dX24_way_37 : decode cX24_way 37 = .ok (.getfield 377, 3) := dk_180 1 121 (dk_at dksX24_way_1 14 rfl rfl)
theorem dX24_way_40 : decode cX24_way 40 = .ok (.iload_n 3, 1) := dk_29 (dk_at dksX24_way_1 17 rfl rfl)
theorem dX24_way_41 : decode cX24_way 41 = .ok (.iastore, 1) := dk_79 (dk_at dksX24_way_1 18 rfl rfl)
theorem dX24_way_42 : decode cX24_way 42 = .ok (.aload_n 0, 1) := dk_42 (dk_at dksX24_way_1 19 rfl rfl)
theorem dX24_way_43 : decode cX24_way 43 = .ok (.getfield 109, 3) := dk_180 0 109 (dk_at dksX24_way_1 20 rfl rfl)
theorem dX24_way_46 : decode cX24_way 46 = .ok (.aload_n 0, 1) := dk_42 (dk_at dksX24_way_1 23 rfl rfl)
theorem dX24_way_47 : decode cX24_way 47 = .ok (.getfield 377, 3) := dk_180 1 121 (dk_at dksX24_way_2 0 rfl rfl)
theorem dX24_way_50 : decode cX24_way 50 = .ok (.iload 4, 2) := dk_21 4 (dk_at dksX24_way_2 3 rfl rfl)
theorem dX24_way_52 : decode cX24_way 52 = .ok (.iastore, 1) := dk_79 (dk_at dksX24_way_2 5 rfl rfl)
theorem dX24_way_53 : decode cX24_way 53 = .ok (.aload_n 0, 1) := dk_42 (dk_at dksX24_way_2 6 rfl rfl)
theorem dX24_way_54 : decode cX24_way 54 = .ok (.getfield 112, 3) := dk_180 0 112 (dk_at dksX24_way_2 7 rfl rfl)
theorem dX24_way_57 : decode cX24_way 57 = .ok (.aload_n 0, 1) := dk_42 (dk_at dksX24_way_2 10 rfl rfl)
theorem dX24_way_58 : decode cX24_way 58 = .ok (.getfield 377, 3) := dk_180 1 121 (dk_at dksX24_way_2 11 rfl rfl)
theorem dX24_way_61 : decode cX24_way 61 = .ok (.iload 5, 2) := dk_21 5 (dk_at dksX24_way_2 14 rfl rfl)
theorem dX24_way_63 : decode cX24_way 63 = .ok (.iastore, 1) := dk_79 (dk_at dksX24_way_2 16 rfl rfl)
theorem dX24_way_64 : decode cX24_way 64 = .ok (.aload_n 0, 1) := dk_42 (dk_at dksX24_way_2 17 rfl rfl)
theorem dX24_way_65 : decode cX24_way 65 = .ok (.getfield 115, 3) := dk_180 0 115 (dk_at dksX24_way_2 18 rfl rfl)
theorem dX24_way_68 : decode cX24_way 68 = .ok (.aload_n 0, 1) := dk_42 (dk_at dksX24_way_2 21 rfl rfl)
theorem dX24_way_69 : decode cX24_way 69 = .ok (.getfield 377, 3) := dk_180 1 121 (dk_at dksX24_way_3 0 rfl rfl)
theorem dX24_way_72 : decode cX24_way 72 = .ok (.aload_n 0, 1) := dk_42 (dk_at dksX24_way_3 3 rfl rfl)
theorem dX24_way_73 : decode cX24_way 73 = .ok (.iload_n 1, 1) := dk_27 (dk_at dksX24_way_3 4 rfl rfl)
theorem dX24_way_74 : decode cX24_way 74 = .ok (.lload 6, 2) := dk_22 6 (dk_at dksX24_way_3 5 rfl rfl)
theorem dX24_way_76 : decode cX24_way 76 = .ok (.lload 8, 2) := dk_22 8 (dk_at dksX24_way_3 7 rfl rfl)
theorem dX24_way_78 : decode cX24_way 78 = .ok (.lload 10, 2) := dk_22 10 (dk_at dksX24_way_3 9 rfl rfl)
theorem dX24_way_80 : decode cX24_way 80 = .ok (.invokevirtual 380, 3) := dk_182 1 124 (dk_at dksX24_way_3 11 rfl rfl)
theorem dX24_way_83 : decode cX24_way 83 = .ok (.lastore, 1) := dk_80 (dk_at dksX24_way_3 14 rfl rfl)
theorem dX24_way_84 : decode cX24_way 84 = .ok (.aload_n 0, 1) := dk_42 (dk_at dksX24_way_3 15 rfl rfl)
theorem dX24_way_85 : decode cX24_way 85 = .ok (.dup, 1) := dk_89 (dk_at dksX24_way_3 16 rfl rfl)
theorem dX24_way_86 : decode cX24_way 86 = .ok (.getfield 377, 3) := dk_180 1 121 (dk_at dksX24_way_3 17 rfl rfl)
theorem dX24_way_89 : decode cX24_way 89 = .ok (.iconst 1, 1) := dk_4 (dk_at dksX24_way_3 20 rfl rfl)
theorem dX24_way_90 : decode cX24_way 90 = .ok (.iadd, 1) := dk_96 (dk_at dksX24_way_3 21 rfl rfl)
theorem dX24_way_91 : decode cX24_way 91 = .ok (.putfield 377, 3) := dk_181 1 121 (dk_at dksX24_way_4 0 rfl rfl)
theorem dX24_way_94 : decode cX24_way 94 = .ok (.return_, 1) := dk_177 (dk_at dksX24_way_4 3 rfl rfl)
abbrev cX24_silent : ByteArray := prog_53_method_61_code
def yX24_silent : MethodName := ⟨RX24, "silent", "(IJJJ)J"⟩
def dkwX24_silent_1 : List UInt8 := [42, 21, 8, 181, 1, 99, 22, 9, 173]
abbrev dktX24_silent_1 : List UInt8 := dkwX24_silent_1 ++ []
def dkwX24_silent_0 : List UInt8 := [42, 180, 1, 99, 54, 8, 42, 16, 20, 181, 1, 99, 42, 27, 32, 22, 4, 22, 6, 182, 1, 118, 55, 9]
abbrev dktX24_silent_0 : List UInt8 := dkwX24_silent_0 ++ dktX24_silent_1
theorem dksX24_silent_0 : cX24_silent.data.toList.drop 0 = dktX24_silent_0 := by decide +kernel
theorem dksX24_silent_1 : cX24_silent.data.toList.drop 24 = dktX24_silent_1 := dk_seg dksX24_silent_0 24 rfl rfl
theorem dX24_silent_0 : decode cX24_silent 0 = .ok (.aload_n 0, 1) := dk_42 (dk_at dksX24_silent_0 0 rfl rfl)
theorem dX24_silent_1 : decode cX24_silent 1 = .ok (.getfield 355, 3) := dk_180 1 99 (dk_at dksX24_silent_0 1 rfl rfl)
theorem dX24_silent_4 : decode cX24_silent 4 = .ok (.istore 8, 2) := dk_54 8 (dk_at dksX24_silent_0 4 rfl rfl)
theorem dX24_silent_6 : decode cX24_silent 6 = .ok (.aload_n 0, 1) := dk_42 (dk_at dksX24_silent_0 6 rfl rfl)
theorem dX24_silent_7 : decode cX24_silent 7 = .ok (.bipush 20, 2) := dk_16 20 (dk_at dksX24_silent_0 7 rfl rfl)
theorem dX24_silent_9 : decode cX24_silent 9 = .ok (.putfield 355, 3) := dk_181 1 99 (dk_at dksX24_silent_0 9 rfl rfl)
theorem dX24_silent_12 : decode cX24_silent 12 = .ok (.aload_n 0, 1) := dk_42 (dk_at dksX24_silent_0 12 rfl rfl)
theorem dX24_silent_13 : decode cX24_silent 13 = .ok (.iload_n 1, 1) := dk_27 (dk_at dksX24_silent_0 13 rfl rfl)
theorem dX24_silent_14 : decode cX24_silent 14 = .ok (.lload_n 2, 1) := dk_32 (dk_at dksX24_silent_0 14 rfl rfl)
theorem dX24_silent_15 : decode cX24_silent 15 = .ok (.lload 4, 2) := dk_22 4 (dk_at dksX24_silent_0 15 rfl rfl)
theorem dX24_silent_17 : decode cX24_silent 17 = .ok (.lload 6, 2) := dk_22 6 (dk_at dksX24_silent_0 17 rfl rfl)
theorem dX24_silent_19 : decode cX24_silent 19 = .ok (.invokevirtual 374, 3) := dk_182 1 118 (dk_at dksX24_silent_0 19 rfl rfl)
theorem dX24_silent_22 : decode cX24_silent 22 = .ok (.lstore 9, 2) := dk_55 9 (dk_at dksX24_silent_0 22 rfl rfl)
theorem dX24_silent_24 : decode cX24_silent 24 = .ok (.aload_n 0, 1) := dk_42 (dk_at dksX24_silent_1 0 rfl rfl)
theorem dX24_silent_25 : decode cX24_silent 25 = .ok (.iload 8, 2) := dk_21 8 (dk_at dksX24_silent_1 1 rfl rfl)
theorem dX24_silent_27 : decode cX24_silent 27 = .ok (.putfield 355, 3) := dk_181 1 99 (dk_at dksX24_silent_1 3 rfl rfl)
theorem dX24_silent_30 : decode cX24_silent 30 = .ok (.lload 9, 2) := dk_22 9 (dk_at dksX24_silent_1 6 rfl rfl)
theorem dX24_silent_32 : decode cX24_silent 32 = .ok (.lreturn, 1) := dk_173 (dk_at dksX24_silent_1 8 rfl rfl)
abbrev cX24_demand : ByteArray := prog_53_method_63_code
def yX24_demand : MethodName := ⟨RX24, "demand", "(III)I"⟩
def dkwX24_demand_0 : List UInt8 := [26, 16, 30, 104, 27, 4, 96, 16, 6, 104, 96, 28, 96, 4, 96, 172]
abbrev dktX24_demand_0 : List UInt8 := dkwX24_demand_0 ++ []
theorem dksX24_demand_0 : cX24_demand.data.toList.drop 0 = dktX24_demand_0 := by decide +kernel
theorem dX24_demand_0 : decode cX24_demand 0 = .ok (.iload_n 0, 1) := dk_26 (dk_at dksX24_demand_0 0 rfl rfl)
theorem dX24_demand_1 : decode cX24_demand 1 = .ok (.bipush 30, 2) := dk_16 30 (dk_at dksX24_demand_0 1 rfl rfl)
theorem dX24_demand_3 : decode cX24_demand 3 = .ok (.imul, 1) := dk_104 (dk_at dksX24_demand_0 3 rfl rfl)
theorem dX24_demand_4 : decode cX24_demand 4 = .ok (.iload_n 1, 1) := dk_27 (dk_at dksX24_demand_0 4 rfl rfl)
theorem dX24_demand_5 : decode cX24_demand 5 = .ok (.iconst 1, 1) := dk_4 (dk_at dksX24_demand_0 5 rfl rfl)
theorem dX24_demand_6 : decode cX24_demand 6 = .ok (.iadd, 1) := dk_96 (dk_at dksX24_demand_0 6 rfl rfl)
theorem dX24_demand_7 : decode cX24_demand 7 = .ok (.bipush 6, 2) := dk_16 6 (dk_at dksX24_demand_0 7 rfl rfl)
theorem dX24_demand_9 : decode cX24_demand 9 = .ok (.imul, 1) := dk_104 (dk_at dksX24_demand_0 9 rfl rfl)
theorem dX24_demand_10 : decode cX24_demand 10 = .ok (.iadd, 1) := dk_96 (dk_at dksX24_demand_0 10 rfl rfl)
theorem dX24_demand_11 : decode cX24_demand 11 = .ok (.iload_n 2, 1) := dk_28 (dk_at dksX24_demand_0 11 rfl rfl)
theorem dX24_demand_12 : decode cX24_demand 12 = .ok (.iadd, 1) := dk_96 (dk_at dksX24_demand_0 12 rfl rfl)
theorem dX24_demand_13 : decode cX24_demand 13 = .ok (.iconst 1, 1) := dk_4 (dk_at dksX24_demand_0 13 rfl rfl)
theorem dX24_demand_14 : decode cX24_demand 14 = .ok (.iadd, 1) := dk_96 (dk_at dksX24_demand_0 14 rfl rfl)
theorem dX24_demand_15 : decode cX24_demand 15 = .ok (.ireturn, 1) := dk_172 (dk_at dksX24_demand_0 15 rfl rfl)
abbrev cX24_sum : ByteArray := prog_53_method_68_code
def yX24_sum : MethodName := ⟨RX24, "sum", "(I)J"⟩
def dkwX24_sum_2 : List UInt8 := [180, 0, 109, 27, 46, 47, 97, 65, 32, 20, 1, 142, 148, 158, 0, 9, 20, 1, 144, 167, 0, 4, 32, 173]
abbrev dktX24_sum_2 : List UInt8 := dkwX24_sum_2 ++ []
def dkwX24_sum_1 : List UInt8 := [180, 0, 106, 27, 46, 47, 97, 65, 42, 180, 0, 109, 27, 46, 2, 159, 0, 17, 32, 42, 180, 0, 94, 42]
abbrev dktX24_sum_1 : List UInt8 := dkwX24_sum_1 ++ dktX24_sum_2
def dkwX24_sum_0 : List UInt8 := [42, 180, 0, 115, 27, 47, 65, 42, 180, 0, 106, 27, 46, 2, 159, 0, 17, 32, 42, 180, 0, 94, 42]
abbrev dktX24_sum_0 : List UInt8 := dkwX24_sum_0 ++ dktX24_sum_1
theorem dksX24_sum_0 : cX24_sum.data.toList.drop 0 = dktX24_sum_0 := by decide +kernel
theorem dksX24_sum_1 : cX24_sum.data.toList.drop 23 = dktX24_sum_1 := dk_seg dksX24_sum_0 23 rfl rfl
theorem dksX24_sum_2 : cX24_sum.data.toList.drop 47 = dktX24_sum_2 := dk_seg dksX24_sum_1 24 rfl rfl
theorem dX24_sum_0 : decode cX24_sum 0 = .ok (.aload_n 0, 1) := dk_42 (dk_at dksX24_sum_0 0 rfl rfl)
theorem dX24_sum_1 : decode cX24_sum 1 = .ok (.getfield 115, 3) := dk_180 0 115 (dk_at dksX24_sum_0 1 rfl rfl)
theorem dX24_sum_4 : decode cX24_sum 4 = .ok (.iload_n 1, 1) := dk_27 (dk_at dksX24_sum_0 4 rfl rfl)
theorem dX24_sum_5 : decode cX24_sum 5 = .ok (.laload, 1) := dk_47 (dk_at dksX24_sum_0 5 rfl rfl)
theorem dX24_sum_6 : decode cX24_sum 6 = .ok (.lstore_n 2, 1) := dk_65 (dk_at dksX24_sum_0 6 rfl rfl)
theorem dX24_sum_7 : decode cX24_sum 7 = .ok (.aload_n 0, 1) := dk_42 (dk_at dksX24_sum_0 7 rfl rfl)
theorem dX24_sum_8 : decode cX24_sum 8 = .ok (.getfield 106, 3) := dk_180 0 106 (dk_at dksX24_sum_0 8 rfl rfl)
theorem dX24_sum_11 : decode cX24_sum 11 = .ok (.iload_n 1, 1) := dk_27 (dk_at dksX24_sum_0 11 rfl rfl)
theorem dX24_sum_12 : decode cX24_sum 12 = .ok (.iaload, 1) := dk_46 (dk_at dksX24_sum_0 12 rfl rfl)
theorem dX24_sum_13 : decode cX24_sum 13 = .ok (.iconst (-1), 1) := dk_2 (dk_at dksX24_sum_0 13 rfl rfl)
theorem dX24_sum_14 : decode cX24_sum 14 = .ok (.if_icmp .eq 17, 3) := dk_159 0 17 (dk_at dksX24_sum_0 14 rfl rfl)
theorem dX24_sum_17 : decode cX24_sum 17 = .ok (.lload_n 2, 1) := dk_32 (dk_at dksX24_sum_0 17 rfl rfl)
theorem dX24_sum_18 : decode cX24_sum 18 = .ok (.aload_n 0, 1) := dk_42 (dk_at dksX24_sum_0 18 rfl rfl)
theorem dX24_sum_19 : decode cX24_sum 19 = .ok (.getfield 94, 3) := dk_180 0 94 (dk_at dksX24_sum_0 19 rfl rfl)
theorem dX24_sum_22 : decode cX24_sum 22 = .ok (.aload_n 0, 1) := dk_42 (dk_at dksX24_sum_0 22 rfl rfl)
theorem dX24_sum_23 : decode cX24_sum 23 = .ok (.getfield 106, 3) := dk_180 0 106 (dk_at dksX24_sum_1 0 rfl rfl)
theorem dX24_sum_26 : decode cX24_sum 26 = .ok (.iload_n 1, 1) := dk_27 (dk_at dksX24_sum_1 3 rfl rfl)
theorem dX24_sum_27 : decode cX24_sum 27 = .ok (.iaload, 1) := dk_46 (dk_at dksX24_sum_1 4 rfl rfl)
theorem dX24_sum_28 : decode cX24_sum 28 = .ok (.laload, 1) := dk_47 (dk_at dksX24_sum_1 5 rfl rfl)
theorem dX24_sum_29 : decode cX24_sum 29 = .ok (.ladd, 1) := dk_97 (dk_at dksX24_sum_1 6 rfl rfl)
theorem dX24_sum_30 : decode cX24_sum 30 = .ok (.lstore_n 2, 1) := dk_65 (dk_at dksX24_sum_1 7 rfl rfl)
theorem dX24_sum_31 : decode cX24_sum 31 = .ok (.aload_n 0, 1) := dk_42 (dk_at dksX24_sum_1 8 rfl rfl)
theorem dX24_sum_32 : decode cX24_sum 32 = .ok (.getfield 109, 3) := dk_180 0 109 (dk_at dksX24_sum_1 9 rfl rfl)
theorem dX24_sum_35 : decode cX24_sum 35 = .ok (.iload_n 1, 1) := dk_27 (dk_at dksX24_sum_1 12 rfl rfl)
theorem dX24_sum_36 : decode cX24_sum 36 = .ok (.iaload, 1) := dk_46 (dk_at dksX24_sum_1 13 rfl rfl)
theorem dX24_sum_37 : decode cX24_sum 37 = .ok (.iconst (-1), 1) := dk_2 (dk_at dksX24_sum_1 14 rfl rfl)
theorem dX24_sum_38 : decode cX24_sum 38 = .ok (.if_icmp .eq 17, 3) := dk_159 0 17 (dk_at dksX24_sum_1 15 rfl rfl)
theorem dX24_sum_41 : decode cX24_sum 41 = .ok (.lload_n 2, 1) := dk_32 (dk_at dksX24_sum_1 18 rfl rfl)
theorem dX24_sum_42 : decode cX24_sum 42 = .ok (.aload_n 0, 1) := dk_42 (dk_at dksX24_sum_1 19 rfl rfl)
theorem dX24_sum_43 : decode cX24_sum 43 = .ok (.getfield 94, 3) := dk_180 0 94 (dk_at dksX24_sum_1 20 rfl rfl)
theorem dX24_sum_46 : decode cX24_sum 46 = .ok (.aload_n 0, 1) := dk_42 (dk_at dksX24_sum_1 23 rfl rfl)
theorem dX24_sum_47 : decode cX24_sum 47 = .ok (.getfield 109, 3) := dk_180 0 109 (dk_at dksX24_sum_2 0 rfl rfl)
theorem dX24_sum_50 : decode cX24_sum 50 = .ok (.iload_n 1, 1) := dk_27 (dk_at dksX24_sum_2 3 rfl rfl)
theorem dX24_sum_51 : decode cX24_sum 51 = .ok (.iaload, 1) := dk_46 (dk_at dksX24_sum_2 4 rfl rfl)
theorem dX24_sum_52 : decode cX24_sum 52 = .ok (.laload, 1) := dk_47 (dk_at dksX24_sum_2 5 rfl rfl)
theorem dX24_sum_53 : decode cX24_sum 53 = .ok (.ladd, 1) := dk_97 (dk_at dksX24_sum_2 6 rfl rfl)
theorem dX24_sum_54 : decode cX24_sum 54 = .ok (.lstore_n 2, 1) := dk_65 (dk_at dksX24_sum_2 7 rfl rfl)
theorem dX24_sum_55 : decode cX24_sum 55 = .ok (.lload_n 2, 1) := dk_32 (dk_at dksX24_sum_2 8 rfl rfl)
theorem dX24_sum_56 : decode cX24_sum 56 = .ok (.ldc2_w 398, 3) := dk_20 1 142 (dk_at dksX24_sum_2 9 rfl rfl)
theorem dX24_sum_59 : decode cX24_sum 59 = .ok (.lcmp, 1) := dk_148 (dk_at dksX24_sum_2 12 rfl rfl)
theorem dX24_sum_60 : decode cX24_sum 60 = .ok (.ifCond .le 9, 3) := dk_158 0 9 (dk_at dksX24_sum_2 13 rfl rfl)
theorem dX24_sum_63 : decode cX24_sum 63 = .ok (.ldc2_w 400, 3) := dk_20 1 144 (dk_at dksX24_sum_2 16 rfl rfl)
theorem dX24_sum_66 : decode cX24_sum 66 = .ok (.goto 4, 3) := dk_167 0 4 (dk_at dksX24_sum_2 19 rfl rfl)
theorem dX24_sum_69 : decode cX24_sum 69 = .ok (.lload_n 2, 1) := dk_32 (dk_at dksX24_sum_2 22 rfl rfl)
theorem dX24_sum_70 : decode cX24_sum 70 = .ok (.lreturn, 1) := dk_173 (dk_at dksX24_sum_2 23 rfl rfl)
abbrev cX24_orNone : ByteArray := prog_53_method_71_code
def yX24_orNone : MethodName := ⟨RX24, "orNone", "(J)J"⟩
def dkwX24_orNone_0 : List UInt8 := [30, 20, 1, 142, 148, 158, 0, 9, 20, 1, 153, 167, 0, 4, 30, 173]
abbrev dktX24_orNone_0 : List UInt8 := dkwX24_orNone_0 ++ []
theorem dksX24_orNone_0 : cX24_orNone.data.toList.drop 0 = dktX24_orNone_0 := by decide +kernel
theorem dX24_orNone_0 : decode cX24_orNone 0 = .ok (.lload_n 0, 1) := dk_30 (dk_at dksX24_orNone_0 0 rfl rfl)
theorem dX24_orNone_1 : decode cX24_orNone 1 = .ok (.ldc2_w 398, 3) := dk_20 1 142 (dk_at dksX24_orNone_0 1 rfl rfl)
theorem dX24_orNone_4 : decode cX24_orNone 4 = .ok (.lcmp, 1) := dk_148 (dk_at dksX24_orNone_0 4 rfl rfl)
theorem dX24_orNone_5 : decode cX24_orNone 5 = .ok (.ifCond .le 9, 3) := dk_158 0 9 (dk_at dksX24_orNone_0 5 rfl rfl)
theorem dX24_orNone_8 : decode cX24_orNone 8 = .ok (.ldc2_w 409, 3) := dk_20 1 153 (dk_at dksX24_orNone_0 8 rfl rfl)
theorem dX24_orNone_11 : decode cX24_orNone 11 = .ok (.goto 4, 3) := dk_167 0 4 (dk_at dksX24_orNone_0 11 rfl rfl)
theorem dX24_orNone_14 : decode cX24_orNone 14 = .ok (.lload_n 0, 1) := dk_30 (dk_at dksX24_orNone_0 14 rfl rfl)
theorem dX24_orNone_15 : decode cX24_orNone 15 = .ok (.lreturn, 1) := dk_173 (dk_at dksX24_orNone_0 15 rfl rfl)
abbrev cX24_costBy : ByteArray := prog_53_method_75_code
def yX24_costBy : MethodName := ⟨RX24, "costBy", "(III)J"⟩
def dkwX24_costBy_4 : List UInt8 := [184, 1, 167, 173]
abbrev dktX24_costBy_4 : List UInt8 := dkwX24_costBy_4 ++ []
def dkwX24_costBy_3 : List UInt8 := [162, 0, 22, 22, 4, 42, 21, 6, 182, 1, 149, 184, 0, 237, 55, 4, 132, 6, 1, 167, 255, 231, 22, 4]
abbrev dktX24_costBy_3 : List UInt8 := dkwX24_costBy_3 ++ dktX24_costBy_4
def dkwX24_costBy_2 : List UInt8 := [181, 1, 121, 42, 27, 28, 29, 182, 1, 138, 20, 1, 144, 55, 4, 3, 54, 6, 21, 6, 42, 180, 1, 121]
abbrev dktX24_costBy_2 : List UInt8 := dkwX24_costBy_2 ++ dktX24_costBy_3
def dkwX24_costBy_1 : List UInt8 := [42, 28, 29, 182, 1, 161, 154, 0, 11, 42, 16, 250, 182, 1, 158, 133, 173, 42, 182, 1, 164, 42, 3]
abbrev dktX24_costBy_1 : List UInt8 := dkwX24_costBy_1 ++ dktX24_costBy_2
def dkwX24_costBy_0 : List UInt8 := [42, 27, 182, 0, 214, 153, 0, 12, 42, 180, 0, 56, 27, 51, 153, 0, 10, 42, 2, 182, 1, 158, 133, 173]
abbrev dktX24_costBy_0 : List UInt8 := dkwX24_costBy_0 ++ dktX24_costBy_1
theorem dksX24_costBy_0 : cX24_costBy.data.toList.drop 0 = dktX24_costBy_0 := by decide +kernel
theorem dksX24_costBy_1 : cX24_costBy.data.toList.drop 24 = dktX24_costBy_1 := dk_seg dksX24_costBy_0 24 rfl rfl
theorem dksX24_costBy_2 : cX24_costBy.data.toList.drop 47 = dktX24_costBy_2 := dk_seg dksX24_costBy_1 23 rfl rfl
theorem dksX24_costBy_3 : cX24_costBy.data.toList.drop 71 = dktX24_costBy_3 := dk_seg dksX24_costBy_2 24 rfl rfl
theorem dksX24_costBy_4 : cX24_costBy.data.toList.drop 95 = dktX24_costBy_4 := dk_seg dksX24_costBy_3 24 rfl rfl
theorem dX24_costBy_0 : decode cX24_costBy 0 = .ok (.aload_n 0, 1) := dk_42 (dk_at dksX24_costBy_0 0 rfl rfl)
theorem dX24_costBy_1 : decode cX24_costBy 1 = .ok (.iload_n 1, 1) := dk_27 (dk_at dksX24_costBy_0 1 rfl rfl)
theorem dX24_costBy_2 : decode cX24_costBy 2 = .ok (.invokevirtual 214, 3) := dk_182 0 214 (dk_at dksX24_costBy_0 2 rfl rfl)
theorem dX24_costBy_5 : decode cX24_costBy 5 = .ok (.ifCond .eq 12, 3) := dk_153 0 12 (dk_at dksX24_costBy_0 5 rfl rfl)
theorem dX24_costBy_8 : decode cX24_costBy 8 = .ok (.aload_n 0, 1) := dk_42 (dk_at dksX24_costBy_0 8 rfl rfl)
theorem dX24_costBy_9 : decode cX24_costBy 9 = .ok (.getfield 56, 3) := dk_180 0 56 (dk_at dksX24_costBy_0 9 rfl rfl)
theorem dX24_costBy_12 : decode cX24_costBy 12 = .ok (.iload_n 1, 1) := dk_27 (dk_at dksX24_costBy_0 12 rfl rfl)
theorem dX24_costBy_13 : decode cX24_costBy 13 = .ok (.baload, 1) := dk_51 (dk_at dksX24_costBy_0 13 rfl rfl)
theorem dX24_costBy_14 : decode cX24_costBy 14 = .ok (.ifCond .eq 10, 3) := dk_153 0 10 (dk_at dksX24_costBy_0 14 rfl rfl)
theorem dX24_costBy_17 : decode cX24_costBy 17 = .ok (.aload_n 0, 1) := dk_42 (dk_at dksX24_costBy_0 17 rfl rfl)
theorem dX24_costBy_18 : decode cX24_costBy 18 = .ok (.iconst (-1), 1) := dk_2 (dk_at dksX24_costBy_0 18 rfl rfl)
theorem dX24_costBy_19 : decode cX24_costBy 19 = .ok (.invokevirtual 414, 3) := dk_182 1 158 (dk_at dksX24_costBy_0 19 rfl rfl)
theorem dX24_costBy_22 : decode cX24_costBy 22 = .ok (.i2l, 1) := dk_133 (dk_at dksX24_costBy_0 22 rfl rfl)
theorem dX24_costBy_23 : decode cX24_costBy 23 = .ok (.lreturn, 1) := dk_173 (dk_at dksX24_costBy_0 23 rfl rfl)
theorem dX24_costBy_24 : decode cX24_costBy 24 = .ok (.aload_n 0, 1) := dk_42 (dk_at dksX24_costBy_1 0 rfl rfl)
theorem dX24_costBy_25 : decode cX24_costBy 25 = .ok (.iload_n 2, 1) := dk_28 (dk_at dksX24_costBy_1 1 rfl rfl)
theorem dX24_costBy_26 : decode cX24_costBy 26 = .ok (.iload_n 3, 1) := dk_29 (dk_at dksX24_costBy_1 2 rfl rfl)
theorem dX24_costBy_27 : decode cX24_costBy 27 = .ok (.invokevirtual 417, 3) := dk_182 1 161 (dk_at dksX24_costBy_1 3 rfl rfl)
theorem dX24_costBy_30 : decode cX24_costBy 30 = .ok (.ifCond .ne 11, 3) := dk_154 0 11 (dk_at dksX24_costBy_1 6 rfl rfl)
theorem dX24_costBy_33 : decode cX24_costBy 33 = .ok (.aload_n 0, 1) := dk_42 (dk_at dksX24_costBy_1 9 rfl rfl)
theorem dX24_costBy_34 : decode cX24_costBy 34 = .ok (.bipush (-6), 2) := dk_16 250 (dk_at dksX24_costBy_1 10 rfl rfl)
theorem dX24_costBy_36 : decode cX24_costBy 36 = .ok (.invokevirtual 414, 3) := dk_182 1 158 (dk_at dksX24_costBy_1 12 rfl rfl)
theorem dX24_costBy_39 : decode cX24_costBy 39 = .ok (.i2l, 1) := dk_133 (dk_at dksX24_costBy_1 15 rfl rfl)
theorem dX24_costBy_40 : decode cX24_costBy 40 = .ok (.lreturn, 1) := dk_173 (dk_at dksX24_costBy_1 16 rfl rfl)
theorem dX24_costBy_41 : decode cX24_costBy 41 = .ok (.aload_n 0, 1) := dk_42 (dk_at dksX24_costBy_1 17 rfl rfl)
theorem dX24_costBy_42 : decode cX24_costBy 42 = .ok (.invokevirtual 420, 3) := dk_182 1 164 (dk_at dksX24_costBy_1 18 rfl rfl)
theorem dX24_costBy_45 : decode cX24_costBy 45 = .ok (.aload_n 0, 1) := dk_42 (dk_at dksX24_costBy_1 21 rfl rfl)
theorem dX24_costBy_46 : decode cX24_costBy 46 = .ok (.iconst 0, 1) := dk_3 (dk_at dksX24_costBy_1 22 rfl rfl)
theorem dX24_costBy_47 : decode cX24_costBy 47 = .ok (.putfield 377, 3) := dk_181 1 121 (dk_at dksX24_costBy_2 0 rfl rfl)
theorem dX24_costBy_50 : decode cX24_costBy 50 = .ok (.aload_n 0, 1) := dk_42 (dk_at dksX24_costBy_2 3 rfl rfl)
theorem dX24_costBy_51 : decode cX24_costBy 51 = .ok (.iload_n 1, 1) := dk_27 (dk_at dksX24_costBy_2 4 rfl rfl)
theorem dX24_costBy_52 : decode cX24_costBy 52 = .ok (.iload_n 2, 1) := dk_28 (dk_at dksX24_costBy_2 5 rfl rfl)
theorem dX24_costBy_53 : decode cX24_costBy 53 = .ok (.iload_n 3, 1) := dk_29 (dk_at dksX24_costBy_2 6 rfl rfl)
theorem dX24_costBy_54 : decode cX24_costBy 54 = .ok (.invokevirtual 394, 3) := dk_182 1 138 (dk_at dksX24_costBy_2 7 rfl rfl)
theorem dX24_costBy_57 : decode cX24_costBy 57 = .ok (.ldc2_w 400, 3) := dk_20 1 144 (dk_at dksX24_costBy_2 10 rfl rfl)
theorem dX24_costBy_60 : decode cX24_costBy 60 = .ok (.lstore 4, 2) := dk_55 4 (dk_at dksX24_costBy_2 13 rfl rfl)
theorem dX24_costBy_62 : decode cX24_costBy 62 = .ok (.iconst 0, 1) := dk_3 (dk_at dksX24_costBy_2 15 rfl rfl)
theorem dX24_costBy_63 : decode cX24_costBy 63 = .ok (.istore 6, 2) := dk_54 6 (dk_at dksX24_costBy_2 16 rfl rfl)
theorem dX24_costBy_65 : decode cX24_costBy 65 = .ok (.iload 6, 2) := dk_21 6 (dk_at dksX24_costBy_2 18 rfl rfl)
theorem dX24_costBy_67 : decode cX24_costBy 67 = .ok (.aload_n 0, 1) := dk_42 (dk_at dksX24_costBy_2 20 rfl rfl)
theorem dX24_costBy_68 : decode cX24_costBy 68 = .ok (.getfield 377, 3) := dk_180 1 121 (dk_at dksX24_costBy_2 21 rfl rfl)
theorem dX24_costBy_71 : decode cX24_costBy 71 = .ok (.if_icmp .ge 22, 3) := dk_162 0 22 (dk_at dksX24_costBy_3 0 rfl rfl)
theorem dX24_costBy_74 : decode cX24_costBy 74 = .ok (.lload 4, 2) := dk_22 4 (dk_at dksX24_costBy_3 3 rfl rfl)
theorem dX24_costBy_76 : decode cX24_costBy 76 = .ok (.aload_n 0, 1) := dk_42 (dk_at dksX24_costBy_3 5 rfl rfl)
theorem dX24_costBy_77 : decode cX24_costBy 77 = .ok (.iload 6, 2) := dk_21 6 (dk_at dksX24_costBy_3 6 rfl rfl)
theorem dX24_costBy_79 : decode cX24_costBy 79 = .ok (.invokevirtual 405, 3) := dk_182 1 149 (dk_at dksX24_costBy_3 8 rfl rfl)
theorem dX24_costBy_82 : decode cX24_costBy 82 = .ok (.invokestatic 237, 3) := dk_184 0 237 (dk_at dksX24_costBy_3 11 rfl rfl)
theorem dX24_costBy_85 : decode cX24_costBy 85 = .ok (.lstore 4, 2) := dk_55 4 (dk_at dksX24_costBy_3 14 rfl rfl)
theorem dX24_costBy_87 : decode cX24_costBy 87 = .ok (.iinc 6 1, 3) := dk_132 6 1 (dk_at dksX24_costBy_3 16 rfl rfl)
theorem dX24_costBy_90 : decode cX24_costBy 90 = .ok (.goto (-25), 3) := dk_167 255 231 (dk_at dksX24_costBy_3 19 rfl rfl)
theorem dX24_costBy_93 : decode cX24_costBy 93 = .ok (.lload 4, 2) := dk_22 4 (dk_at dksX24_costBy_3 22 rfl rfl)
theorem dX24_costBy_95 : decode cX24_costBy 95 = .ok (.invokestatic 423, 3) := dk_184 1 167 (dk_at dksX24_costBy_4 0 rfl rfl)
theorem dX24_costBy_98 : decode cX24_costBy 98 = .ok (.lreturn, 1) := dk_173 (dk_at dksX24_costBy_4 3 rfl rfl)
abbrev cX24_demands : ByteArray := prog_53_method_77_code
def yX24_demands : MethodName := ⟨RX24, "demands", "(III)I"⟩
def dkwX24_demands_2 : List UInt8 := [172]
abbrev dktX24_demands_2 : List UInt8 := dkwX24_demands_2 ++ []
def dkwX24_demands_1 : List UInt8 := [16, 250, 182, 0, 206, 172, 42, 182, 1, 3, 42, 42, 27, 182, 0, 225, 28, 29, 184, 1, 134, 182, 1, 171]
abbrev dktX24_demands_1 : List UInt8 := dkwX24_demands_1 ++ dktX24_demands_2
def dkwX24_demands_0 : List UInt8 := [42, 27, 182, 1, 12, 154, 0, 9, 42, 2, 182, 0, 206, 172, 42, 28, 29, 182, 1, 161, 154, 0, 10, 42]
abbrev dktX24_demands_0 : List UInt8 := dkwX24_demands_0 ++ dktX24_demands_1
theorem dksX24_demands_0 : cX24_demands.data.toList.drop 0 = dktX24_demands_0 := by decide +kernel
theorem dksX24_demands_1 : cX24_demands.data.toList.drop 24 = dktX24_demands_1 := dk_seg dksX24_demands_0 24 rfl rfl
theorem dksX24_demands_2 : cX24_demands.data.toList.drop 48 = dktX24_demands_2 := dk_seg dksX24_demands_1 24 rfl rfl
theorem dX24_demands_0 : decode cX24_demands 0 = .ok (.aload_n 0, 1) := dk_42 (dk_at dksX24_demands_0 0 rfl rfl)
theorem dX24_demands_1 : decode cX24_demands 1 = .ok (.iload_n 1, 1) := dk_27 (dk_at dksX24_demands_0 1 rfl rfl)
theorem dX24_demands_2 : decode cX24_demands 2 = .ok (.invokevirtual 268, 3) := dk_182 1 12 (dk_at dksX24_demands_0 2 rfl rfl)
theorem dX24_demands_5 : decode cX24_demands 5 = .ok (.ifCond .ne 9, 3) := dk_154 0 9 (dk_at dksX24_demands_0 5 rfl rfl)
theorem dX24_demands_8 : decode cX24_demands 8 = .ok (.aload_n 0, 1) := dk_42 (dk_at dksX24_demands_0 8 rfl rfl)
theorem dX24_demands_9 : decode cX24_demands 9 = .ok (.iconst (-1), 1) := dk_2 (dk_at dksX24_demands_0 9 rfl rfl)
theorem dX24_demands_10 : decode cX24_demands 10 = .ok (.invokevirtual 206, 3) := dk_182 0 206 (dk_at dksX24_demands_0 10 rfl rfl)
theorem dX24_demands_13 : decode cX24_demands 13 = .ok (.ireturn, 1) := dk_172 (dk_at dksX24_demands_0 13 rfl rfl)
theorem dX24_demands_14 : decode cX24_demands 14 = .ok (.aload_n 0, 1) := dk_42 (dk_at dksX24_demands_0 14 rfl rfl)
theorem dX24_demands_15 : decode cX24_demands 15 = .ok (.iload_n 2, 1) := dk_28 (dk_at dksX24_demands_0 15 rfl rfl)
theorem dX24_demands_16 : decode cX24_demands 16 = .ok (.iload_n 3, 1) := dk_29 (dk_at dksX24_demands_0 16 rfl rfl)
theorem dX24_demands_17 : decode cX24_demands 17 = .ok (.invokevirtual 417, 3) := dk_182 1 161 (dk_at dksX24_demands_0 17 rfl rfl)
theorem dX24_demands_20 : decode cX24_demands 20 = .ok (.ifCond .ne 10, 3) := dk_154 0 10 (dk_at dksX24_demands_0 20 rfl rfl)
theorem dX24_demands_23 : decode cX24_demands 23 = .ok (.aload_n 0, 1) := dk_42 (dk_at dksX24_demands_0 23 rfl rfl)
theorem dX24_demands_24 : decode cX24_demands 24 = .ok (.bipush (-6), 2) := dk_16 250 (dk_at dksX24_demands_1 0 rfl rfl)
theorem dX24_demands_26 : decode cX24_demands 26 = .ok (.invokevirtual 206, 3) := dk_182 0 206 (dk_at dksX24_demands_1 2 rfl rfl)
theorem dX24_demands_29 : decode cX24_demands 29 = .ok (.ireturn, 1) := dk_172 (dk_at dksX24_demands_1 5 rfl rfl)
theorem dX24_demands_30 : decode cX24_demands 30 = .ok (.aload_n 0, 1) := dk_42 (dk_at dksX24_demands_1 6 rfl rfl)
theorem dX24_demands_31 : decode cX24_demands 31 = .ok (.invokevirtual 259, 3) := dk_182 1 3 (dk_at dksX24_demands_1 7 rfl rfl)
theorem dX24_demands_34 : decode cX24_demands 34 = .ok (.aload_n 0, 1) := dk_42 (dk_at dksX24_demands_1 10 rfl rfl)
theorem dX24_demands_35 : decode cX24_demands 35 = .ok (.aload_n 0, 1) := dk_42 (dk_at dksX24_demands_1 11 rfl rfl)
theorem dX24_demands_36 : decode cX24_demands 36 = .ok (.iload_n 1, 1) := dk_27 (dk_at dksX24_demands_1 12 rfl rfl)
theorem dX24_demands_37 : decode cX24_demands 37 = .ok (.invokevirtual 225, 3) := dk_182 0 225 (dk_at dksX24_demands_1 13 rfl rfl)
theorem dX24_demands_40 : decode cX24_demands 40 = .ok (.iload_n 2, 1) := dk_28 (dk_at dksX24_demands_1 16 rfl rfl)
theorem dX24_demands_41 : decode cX24_demands 41 = .ok (.iload_n 3, 1) := dk_29 (dk_at dksX24_demands_1 17 rfl rfl)
theorem dX24_demands_42 : decode cX24_demands 42 = .ok (.invokestatic 390, 3) := dk_184 1 134 (dk_at dksX24_demands_1 18 rfl rfl)
theorem dX24_demands_45 : decode cX24_demands 45 = .ok (.invokevirtual 427, 3) := dk_182 1 171 (dk_at dksX24_demands_1 21 rfl rfl)
theorem dX24_demands_48 : decode cX24_demands 48 = .ok (.ireturn, 1) := dk_172 (dk_at dksX24_demands_2 0 rfl rfl)
abbrev cX24_closes : ByteArray := prog_53_method_76_code
def yX24_closes : MethodName := ⟨RX24, "closes", "(I)I"⟩
def dkwX24_closes_7 : List UInt8 := [132, 4, 1, 167, 255, 135, 167, 255, 123, 28, 172]
abbrev dktX24_closes_7 : List UInt8 := dkwX24_closes_7 ++ []
def dkwX24_closes_6 : List UInt8 := [180, 0, 187, 21, 7, 4, 84, 132, 2, 1, 4, 62, 132, 6, 1, 167, 255, 191, 132, 5, 1, 167, 255, 173]
abbrev dktX24_closes_6 : List UInt8 := dkwX24_closes_6 ++ dktX24_closes_7
def dkwX24_closes_5 : List UInt8 := [46, 54, 7, 21, 7, 2, 159, 0, 29, 42, 180, 0, 187, 21, 7, 51, 153, 0, 6, 167, 0, 16, 42]
abbrev dktX24_closes_5 : List UInt8 := dkwX24_closes_5 ++ dktX24_closes_6
def dkwX24_closes_4 : List UInt8 := [162, 0, 65, 21, 6, 154, 0, 13, 42, 180, 0, 106, 21, 5, 46, 167, 0, 10, 42, 180, 0, 109, 21, 5]
abbrev dktX24_closes_4 : List UInt8 := dkwX24_closes_4 ++ dktX24_closes_5
def dkwX24_closes_3 : List UInt8 := [21, 4, 182, 1, 146, 3, 54, 5, 21, 5, 42, 180, 1, 121, 162, 0, 80, 3, 54, 6, 21, 6, 5]
abbrev dktX24_closes_3 : List UInt8 := dkwX24_closes_3 ++ dktX24_closes_4
def dkwX24_closes_2 : List UInt8 := [21, 4, 42, 180, 0, 187, 190, 162, 0, 117, 42, 180, 0, 187, 21, 4, 51, 154, 0, 6, 167, 0, 98, 42]
abbrev dktX24_closes_2 : List UInt8 := dkwX24_closes_2 ++ dktX24_closes_3
def dkwX24_closes_1 : List UInt8 := [167, 0, 4, 3, 84, 132, 2, 1, 167, 255, 228, 4, 61, 4, 62, 29, 153, 0, 135, 3, 62, 3, 54, 4]
abbrev dktX24_closes_1 : List UInt8 := dkwX24_closes_1 ++ dktX24_closes_2
def dkwX24_closes_0 : List UInt8 := [3, 61, 28, 42, 180, 0, 187, 190, 162, 0, 25, 42, 180, 0, 187, 28, 28, 27, 160, 0, 7, 4]
abbrev dktX24_closes_0 : List UInt8 := dkwX24_closes_0 ++ dktX24_closes_1
theorem dksX24_closes_0 : cX24_closes.data.toList.drop 0 = dktX24_closes_0 := by decide +kernel
theorem dksX24_closes_1 : cX24_closes.data.toList.drop 22 = dktX24_closes_1 := dk_seg dksX24_closes_0 22 rfl rfl
theorem dksX24_closes_2 : cX24_closes.data.toList.drop 46 = dktX24_closes_2 := dk_seg dksX24_closes_1 24 rfl rfl
theorem dksX24_closes_3 : cX24_closes.data.toList.drop 70 = dktX24_closes_3 := dk_seg dksX24_closes_2 24 rfl rfl
theorem dksX24_closes_4 : cX24_closes.data.toList.drop 93 = dktX24_closes_4 := dk_seg dksX24_closes_3 23 rfl rfl
theorem dksX24_closes_5 : cX24_closes.data.toList.drop 117 = dktX24_closes_5 := dk_seg dksX24_closes_4 24 rfl rfl
theorem dksX24_closes_6 : cX24_closes.data.toList.drop 140 = dktX24_closes_6 := dk_seg dksX24_closes_5 23 rfl rfl
theorem dksX24_closes_7 : cX24_closes.data.toList.drop 164 = dktX24_closes_7 := dk_seg dksX24_closes_6 24 rfl rfl
theorem dX24_closes_0 : decode cX24_closes 0 = .ok (.iconst 0, 1) := dk_3 (dk_at dksX24_closes_0 0 rfl rfl)
theorem dX24_closes_1 : decode cX24_closes 1 = .ok (.istore_n 2, 1) := dk_61 (dk_at dksX24_closes_0 1 rfl rfl)
theorem dX24_closes_2 : decode cX24_closes 2 = .ok (.iload_n 2, 1) := dk_28 (dk_at dksX24_closes_0 2 rfl rfl)
theorem dX24_closes_3 : decode cX24_closes 3 = .ok (.aload_n 0, 1) := dk_42 (dk_at dksX24_closes_0 3 rfl rfl)
theorem dX24_closes_4 : decode cX24_closes 4 = .ok (.getfield 187, 3) := dk_180 0 187 (dk_at dksX24_closes_0 4 rfl rfl)
theorem dX24_closes_7 : decode cX24_closes 7 = .ok (.arraylength, 1) := dk_190 (dk_at dksX24_closes_0 7 rfl rfl)
theorem dX24_closes_8 : decode cX24_closes 8 = .ok (.if_icmp .ge 25, 3) := dk_162 0 25 (dk_at dksX24_closes_0 8 rfl rfl)
theorem dX24_closes_11 : decode cX24_closes 11 = .ok (.aload_n 0, 1) := dk_42 (dk_at dksX24_closes_0 11 rfl rfl)
theorem dX24_closes_12 : decode cX24_closes 12 = .ok (.getfield 187, 3) := dk_180 0 187 (dk_at dksX24_closes_0 12 rfl rfl)
theorem dX24_closes_15 : decode cX24_closes 15 = .ok (.iload_n 2, 1) := dk_28 (dk_at dksX24_closes_0 15 rfl rfl)
theorem dX24_closes_16 : decode cX24_closes 16 = .ok (.iload_n 2, 1) := dk_28 (dk_at dksX24_closes_0 16 rfl rfl)
theorem dX24_closes_17 : decode cX24_closes 17 = .ok (.iload_n 1, 1) := dk_27 (dk_at dksX24_closes_0 17 rfl rfl)
theorem dX24_closes_18 : decode cX24_closes 18 = .ok (.if_icmp .ne 7, 3) := dk_160 0 7 (dk_at dksX24_closes_0 18 rfl rfl)
theorem dX24_closes_21 : decode cX24_closes 21 = .ok (.iconst 1, 1) := dk_4 (dk_at dksX24_closes_0 21 rfl rfl)
theorem dX24_closes_22 : decode cX24_closes 22 = .ok (.goto 4, 3) := dk_167 0 4 (dk_at dksX24_closes_1 0 rfl rfl)
theorem dX24_closes_25 : decode cX24_closes 25 = .ok (.iconst 0, 1) := dk_3 (dk_at dksX24_closes_1 3 rfl rfl)
theorem dX24_closes_26 : decode cX24_closes 26 = .ok (.bastore, 1) := dk_84 (dk_at dksX24_closes_1 4 rfl rfl)
theorem dX24_closes_27 : decode cX24_closes 27 = .ok (.iinc 2 1, 3) := dk_132 2 1 (dk_at dksX24_closes_1 5 rfl rfl)
theorem dX24_closes_30 : decode cX24_closes 30 = .ok (.goto (-28), 3) := dk_167 255 228 (dk_at dksX24_closes_1 8 rfl rfl)
theorem dX24_closes_33 : decode cX24_closes 33 = .ok (.iconst 1, 1) := dk_4 (dk_at dksX24_closes_1 11 rfl rfl)
theorem dX24_closes_34 : decode cX24_closes 34 = .ok (.istore_n 2, 1) := dk_61 (dk_at dksX24_closes_1 12 rfl rfl)
theorem dX24_closes_35 : decode cX24_closes 35 = .ok (.iconst 1, 1) := dk_4 (dk_at dksX24_closes_1 13 rfl rfl)
theorem dX24_closes_36 : decode cX24_closes 36 = .ok (.istore_n 3, 1) := dk_62 (dk_at dksX24_closes_1 14 rfl rfl)
theorem dX24_closes_37 : decode cX24_closes 37 = .ok (.iload_n 3, 1) := dk_29 (dk_at dksX24_closes_1 15 rfl rfl)
theorem dX24_closes_38 : decode cX24_closes 38 = .ok (.ifCond .eq 135, 3) := dk_153 0 135 (dk_at dksX24_closes_1 16 rfl rfl)
theorem dX24_closes_41 : decode cX24_closes 41 = .ok (.iconst 0, 1) := dk_3 (dk_at dksX24_closes_1 19 rfl rfl)
theorem dX24_closes_42 : decode cX24_closes 42 = .ok (.istore_n 3, 1) := dk_62 (dk_at dksX24_closes_1 20 rfl rfl)
theorem dX24_closes_43 : decode cX24_closes 43 = .ok (.iconst 0, 1) := dk_3 (dk_at dksX24_closes_1 21 rfl rfl)
theorem dX24_closes_44 : decode cX24_closes 44 = .ok (.istore 4, 2) := dk_54 4 (dk_at dksX24_closes_1 22 rfl rfl)
theorem dX24_closes_46 : decode cX24_closes 46 = .ok (.iload 4, 2) := dk_21 4 (dk_at dksX24_closes_2 0 rfl rfl)
theorem dX24_closes_48 : decode cX24_closes 48 = .ok (.aload_n 0, 1) := dk_42 (dk_at dksX24_closes_2 2 rfl rfl)
theorem dX24_closes_49 : decode cX24_closes 49 = .ok (.getfield 187, 3) := dk_180 0 187 (dk_at dksX24_closes_2 3 rfl rfl)
theorem dX24_closes_52 : decode cX24_closes 52 = .ok (.arraylength, 1) := dk_190 (dk_at dksX24_closes_2 6 rfl rfl)
theorem dX24_closes_53 : decode cX24_closes 53 = .ok (.if_icmp .ge 117, 3) := dk_162 0 117 (dk_at dksX24_closes_2 7 rfl rfl)
theorem dX24_closes_56 : decode cX24_closes 56 = .ok (.aload_n 0, 1) := dk_42 (dk_at dksX24_closes_2 10 rfl rfl)
theorem dX24_closes_57 : decode cX24_closes 57 = .ok (.getfield 187, 3) := dk_180 0 187 (dk_at dksX24_closes_2 11 rfl rfl)
theorem dX24_closes_60 : decode cX24_closes 60 = .ok (.iload 4, 2) := dk_21 4 (dk_at dksX24_closes_2 14 rfl rfl)
theorem dX24_closes_62 : decode cX24_closes 62 = .ok (.baload, 1) := dk_51 (dk_at dksX24_closes_2 16 rfl rfl)
theorem dX24_closes_63 : decode cX24_closes 63 = .ok (.ifCond .ne 6, 3) := dk_154 0 6 (dk_at dksX24_closes_2 17 rfl rfl)
theorem dX24_closes_66 : decode cX24_closes 66 = .ok (.goto 98, 3) := dk_167 0 98 (dk_at dksX24_closes_2 20 rfl rfl)
theorem dX24_closes_69 : decode cX24_closes 69 = .ok (.aload_n 0, 1) := dk_42 (dk_at dksX24_closes_2 23 rfl rfl)
theorem dX24_closes_70 : decode cX24_closes 70 = .ok (.iload 4, 2) := dk_21 4 (dk_at dksX24_closes_3 0 rfl rfl)
theorem dX24_closes_72 : decode cX24_closes 72 = .ok (.invokevirtual 402, 3) := dk_182 1 146 (dk_at dksX24_closes_3 2 rfl rfl)
theorem dX24_closes_75 : decode cX24_closes 75 = .ok (.iconst 0, 1) := dk_3 (dk_at dksX24_closes_3 5 rfl rfl)
theorem dX24_closes_76 : decode cX24_closes 76 = .ok (.istore 5, 2) := dk_54 5 (dk_at dksX24_closes_3 6 rfl rfl)
theorem dX24_closes_78 : decode cX24_closes 78 = .ok (.iload 5, 2) := dk_21 5 (dk_at dksX24_closes_3 8 rfl rfl)
theorem dX24_closes_80 : decode cX24_closes 80 = .ok (.aload_n 0, 1) := dk_42 (dk_at dksX24_closes_3 10 rfl rfl)
theorem dX24_closes_81 : decode cX24_closes 81 = .ok (.getfield 377, 3) := dk_180 1 121 (dk_at dksX24_closes_3 11 rfl rfl)
theorem dX24_closes_84 : decode cX24_closes 84 = .ok (.if_icmp .ge 80, 3) := dk_162 0 80 (dk_at dksX24_closes_3 14 rfl rfl)
theorem dX24_closes_87 : decode cX24_closes 87 = .ok (.iconst 0, 1) := dk_3 (dk_at dksX24_closes_3 17 rfl rfl)
theorem dX24_closes_88 : decode cX24_closes 88 = .ok (.istore 6, 2) := dk_54 6 (dk_at dksX24_closes_3 18 rfl rfl)
theorem dX24_closes_90 : decode cX24_closes 90 = .ok (.iload 6, 2) := dk_21 6 (dk_at dksX24_closes_3 20 rfl rfl)
theorem dX24_closes_92 : decode cX24_closes 92 = .ok (.iconst 2, 1) := dk_5 (dk_at dksX24_closes_3 22 rfl rfl)
theorem dX24_closes_93 : decode cX24_closes 93 = .ok (.if_icmp .ge 65, 3) := dk_162 0 65 (dk_at dksX24_closes_4 0 rfl rfl)
theorem dX24_closes_96 : decode cX24_closes 96 = .ok (.iload 6, 2) := dk_21 6 (dk_at dksX24_closes_4 3 rfl rfl)
theorem dX24_closes_98 : decode cX24_closes 98 = .ok (.ifCond .ne 13, 3) := dk_154 0 13 (dk_at dksX24_closes_4 5 rfl rfl)
theorem dX24_closes_101 : decode cX24_closes 101 = .ok (.aload_n 0, 1) := dk_42 (dk_at dksX24_closes_4 8 rfl rfl)
theorem dX24_closes_102 : decode cX24_closes 102 = .ok (.getfield 106, 3) := dk_180 0 106 (dk_at dksX24_closes_4 9 rfl rfl)
theorem dX24_closes_105 : decode cX24_closes 105 = .ok (.iload 5, 2) := dk_21 5 (dk_at dksX24_closes_4 12 rfl rfl)
theorem dX24_closes_107 : decode cX24_closes 107 = .ok (.iaload, 1) := dk_46 (dk_at dksX24_closes_4 14 rfl rfl)
theorem dX24_closes_108 : decode cX24_closes 108 = .ok (.goto 10, 3) := dk_167 0 10 (dk_at dksX24_closes_4 15 rfl rfl)
theorem dX24_closes_111 : decode cX24_closes 111 = .ok (.aload_n 0, 1) := dk_42 (dk_at dksX24_closes_4 18 rfl rfl)
theorem dX24_closes_112 : decode cX24_closes 112 = .ok (.getfield 109, 3) := dk_180 0 109 (dk_at dksX24_closes_4 19 rfl rfl)
theorem dX24_closes_115 : decode cX24_closes 115 = .ok (.iload 5, 2) := dk_21 5 (dk_at dksX24_closes_4 22 rfl rfl)
theorem dX24_closes_117 : decode cX24_closes 117 = .ok (.iaload, 1) := dk_46 (dk_at dksX24_closes_5 0 rfl rfl)
theorem dX24_closes_118 : decode cX24_closes 118 = .ok (.istore 7, 2) := dk_54 7 (dk_at dksX24_closes_5 1 rfl rfl)
theorem dX24_closes_120 : decode cX24_closes 120 = .ok (.iload 7, 2) := dk_21 7 (dk_at dksX24_closes_5 3 rfl rfl)
theorem dX24_closes_122 : decode cX24_closes 122 = .ok (.iconst (-1), 1) := dk_2 (dk_at dksX24_closes_5 5 rfl rfl)
theorem dX24_closes_123 : decode cX24_closes 123 = .ok (.if_icmp .eq 29, 3) := dk_159 0 29 (dk_at dksX24_closes_5 6 rfl rfl)
theorem dX24_closes_126 : decode cX24_closes 126 = .ok (.aload_n 0, 1) := dk_42 (dk_at dksX24_closes_5 9 rfl rfl)
theorem dX24_closes_127 : decode cX24_closes 127 = .ok (.getfield 187, 3) := dk_180 0 187 (dk_at dksX24_closes_5 10 rfl rfl)
theorem dX24_closes_130 : decode cX24_closes 130 = .ok (.iload 7, 2) := dk_21 7 (dk_at dksX24_closes_5 13 rfl rfl)
theorem dX24_closes_132 : decode cX24_closes 132 = .ok (.baload, 1) := dk_51 (dk_at dksX24_closes_5 15 rfl rfl)
theorem dX24_closes_133 : decode cX24_closes 133 = .ok (.ifCond .eq 6, 3) := dk_153 0 6 (dk_at dksX24_closes_5 16 rfl rfl)
theorem dX24_closes_136 : decode cX24_closes 136 = .ok (.goto 16, 3) := dk_167 0 16 (dk_at dksX24_closes_5 19 rfl rfl)
theorem dX24_closes_139 : decode cX24_closes 139 = .ok (.aload_n 0, 1) := dk_42 (dk_at dksX24_closes_5 22 rfl rfl)
theorem dX24_closes_140 : decode cX24_closes 140 = .ok (.getfield 187, 3) := dk_180 0 187 (dk_at dksX24_closes_6 0 rfl rfl)
theorem dX24_closes_143 : decode cX24_closes 143 = .ok (.iload 7, 2) := dk_21 7 (dk_at dksX24_closes_6 3 rfl rfl)
theorem dX24_closes_145 : decode cX24_closes 145 = .ok (.iconst 1, 1) := dk_4 (dk_at dksX24_closes_6 5 rfl rfl)
theorem dX24_closes_146 : decode cX24_closes 146 = .ok (.bastore, 1) := dk_84 (dk_at dksX24_closes_6 6 rfl rfl)
theorem dX24_closes_147 : decode cX24_closes 147 = .ok (.iinc 2 1, 3) := dk_132 2 1 (dk_at dksX24_closes_6 7 rfl rfl)
theorem dX24_closes_150 : decode cX24_closes 150 = .ok (.iconst 1, 1) := dk_4 (dk_at dksX24_closes_6 10 rfl rfl)
theorem dX24_closes_151 : decode cX24_closes 151 = .ok (.istore_n 3, 1) := dk_62 (dk_at dksX24_closes_6 11 rfl rfl)
theorem dX24_closes_152 : decode cX24_closes 152 = .ok (.iinc 6 1, 3) := dk_132 6 1 (dk_at dksX24_closes_6 12 rfl rfl)
theorem dX24_closes_155 : decode cX24_closes 155 = .ok (.goto (-65), 3) := dk_167 255 191 (dk_at dksX24_closes_6 15 rfl rfl)
theorem dX24_closes_158 : decode cX24_closes 158 = .ok (.iinc 5 1, 3) := dk_132 5 1 (dk_at dksX24_closes_6 18 rfl rfl)
theorem dX24_closes_161 : decode cX24_closes 161 = .ok (.goto (-83), 3) := dk_167 255 173 (dk_at dksX24_closes_6 21 rfl rfl)
theorem dX24_closes_164 : decode cX24_closes 164 = .ok (.iinc 4 1, 3) := dk_132 4 1 (dk_at dksX24_closes_7 0 rfl rfl)
theorem dX24_closes_167 : decode cX24_closes 167 = .ok (.goto (-121), 3) := dk_167 255 135 (dk_at dksX24_closes_7 3 rfl rfl)
theorem dX24_closes_170 : decode cX24_closes 170 = .ok (.goto (-133), 3) := dk_167 255 123 (dk_at dksX24_closes_7 6 rfl rfl)
theorem dX24_closes_173 : decode cX24_closes 173 = .ok (.iload_n 2, 1) := dk_28 (dk_at dksX24_closes_7 9 rfl rfl)
theorem dX24_closes_174 : decode cX24_closes 174 = .ok (.ireturn, 1) := dk_172 (dk_at dksX24_closes_7 10 rfl rfl)
abbrev cX24_within : ByteArray := prog_53_method_78_code
def yX24_within : MethodName := ⟨RX24, "within", "(III)I"⟩
def dkwX24_within_5 : List UInt8 := [167, 0, 4, 3, 96, 54, 5, 132, 6, 1, 167, 255, 191, 21, 5, 172]
abbrev dktX24_within_5 : List UInt8 := dkwX24_within_5 ++ []
def dkwX24_within_4 : List UInt8 := [153, 0, 25, 42, 180, 0, 94, 21, 6, 47, 42, 180, 0, 94, 21, 4, 47, 148, 157, 0, 7, 4]
abbrev dktX24_within_4 : List UInt8 := dkwX24_within_4 ++ dktX24_within_5
def dkwX24_within_3 : List UInt8 := [180, 0, 94, 21, 4, 47, 20, 1, 142, 148, 157, 0, 47, 21, 5, 42, 180, 0, 187, 21, 6, 51]
abbrev dktX24_within_3 : List UInt8 := dkwX24_within_3 ++ dktX24_within_4
def dkwX24_within_2 : List UInt8 := [21, 4, 182, 1, 171, 87, 3, 54, 5, 3, 54, 6, 21, 6, 42, 180, 0, 187, 190, 162, 0, 61, 42]
abbrev dktX24_within_2 : List UInt8 := dkwX24_within_2 ++ dktX24_within_3
def dkwX24_within_1 : List UInt8 := [16, 250, 182, 0, 206, 172, 42, 182, 1, 164, 42, 27, 182, 0, 225, 28, 29, 184, 1, 134, 54, 4, 42]
abbrev dktX24_within_1 : List UInt8 := dkwX24_within_1 ++ dktX24_within_2
def dkwX24_within_0 : List UInt8 := [42, 27, 182, 1, 12, 154, 0, 9, 42, 2, 182, 0, 206, 172, 42, 28, 29, 182, 1, 161, 154, 0, 10, 42]
abbrev dktX24_within_0 : List UInt8 := dkwX24_within_0 ++ dktX24_within_1
theorem dksX24_within_0 : cX24_within.data.toList.drop 0 = dktX24_within_0 := by decide +kernel
theorem dksX24_within_1 : cX24_within.data.toList.drop 24 = dktX24_within_1 := dk_seg dksX24_within_0 24 rfl rfl
theorem dksX24_within_2 : cX24_within.data.toList.drop 47 = dktX24_within_2 := dk_seg dksX24_within_1 23 rfl rfl
theorem dksX24_within_3 : cX24_within.data.toList.drop 70 = dktX24_within_3 := dk_seg dksX24_within_2 23 rfl rfl
theorem dksX24_within_4 : cX24_within.data.toList.drop 92 = dktX24_within_4 := dk_seg dksX24_within_3 22 rfl rfl
theorem dksX24_within_5 : cX24_within.data.toList.drop 114 = dktX24_within_5 := dk_seg dksX24_within_4 22 rfl rfl
theorem dX24_within_0 : decode cX24_within 0 = .ok (.aload_n 0, 1) := dk_42 (dk_at dksX24_within_0 0 rfl rfl)
theorem dX24_within_1 : decode cX24_within 1 = .ok (.iload_n 1, 1) := dk_27 (dk_at dksX24_within_0 1 rfl rfl)
theorem dX24_within_2 : decode cX24_within 2 = .ok (.invokevirtual 268, 3) := dk_182 1 12 (dk_at dksX24_within_0 2 rfl rfl)
theorem dX24_within_5 : decode cX24_within 5 = .ok (.ifCond .ne 9, 3) := dk_154 0 9 (dk_at dksX24_within_0 5 rfl rfl)
theorem dX24_within_8 : decode cX24_within 8 = .ok (.aload_n 0, 1) := dk_42 (dk_at dksX24_within_0 8 rfl rfl)
theorem dX24_within_9 : decode cX24_within 9 = .ok (.iconst (-1), 1) := dk_2 (dk_at dksX24_within_0 9 rfl rfl)
theorem dX24_within_10 : decode cX24_within 10 = .ok (.invokevirtual 206, 3) := dk_182 0 206 (dk_at dksX24_within_0 10 rfl rfl)
theorem dX24_within_13 : decode cX24_within 13 = .ok (.ireturn, 1) := dk_172 (dk_at dksX24_within_0 13 rfl rfl)
theorem dX24_within_14 : decode cX24_within 14 = .ok (.aload_n 0, 1) := dk_42 (dk_at dksX24_within_0 14 rfl rfl)
theorem dX24_within_15 : decode cX24_within 15 = .ok (.iload_n 2, 1) := dk_28 (dk_at dksX24_within_0 15 rfl rfl)
theorem dX24_within_16 : decode cX24_within 16 = .ok (.iload_n 3, 1) := dk_29 (dk_at dksX24_within_0 16 rfl rfl)
theorem dX24_within_17 : decode cX24_within 17 = .ok (.invokevirtual 417, 3) := dk_182 1 161 (dk_at dksX24_within_0 17 rfl rfl)
theorem dX24_within_20 : decode cX24_within 20 = .ok (.ifCond .ne 10, 3) := dk_154 0 10 (dk_at dksX24_within_0 20 rfl rfl)
theorem dX24_within_23 : decode cX24_within 23 = .ok (.aload_n 0, 1) := dk_42 (dk_at dksX24_within_0 23 rfl rfl)
theorem dX24_within_24 : decode cX24_within 24 = .ok (.bipush (-6), 2) := dk_16 250 (dk_at dksX24_within_1 0 rfl rfl)
theorem dX24_within_26 : decode cX24_within 26 = .ok (.invokevirtual 206, 3) := dk_182 0 206 (dk_at dksX24_within_1 2 rfl rfl)
theorem dX24_within_29 : decode cX24_within 29 = .ok (.ireturn, 1) := dk_172 (dk_at dksX24_within_1 5 rfl rfl)
theorem dX24_within_30 : decode cX24_within 30 = .ok (.aload_n 0, 1) := dk_42 (dk_at dksX24_within_1 6 rfl rfl)
theorem dX24_within_31 : decode cX24_within 31 = .ok (.invokevirtual 420, 3) := dk_182 1 164 (dk_at dksX24_within_1 7 rfl rfl)
theorem dX24_within_34 : decode cX24_within 34 = .ok (.aload_n 0, 1) := dk_42 (dk_at dksX24_within_1 10 rfl rfl)
theorem dX24_within_35 : decode cX24_within 35 = .ok (.iload_n 1, 1) := dk_27 (dk_at dksX24_within_1 11 rfl rfl)
theorem dX24_within_36 : decode cX24_within 36 = .ok (.invokevirtual 225, 3) := dk_182 0 225 (dk_at dksX24_within_1 12 rfl rfl)
theorem dX24_within_39 : decode cX24_within 39 = .ok (.iload_n 2, 1) := dk_28 (dk_at dksX24_within_1 15 rfl rfl)
theorem dX24_within_40 : decode cX24_within 40 = .ok (.iload_n 3, 1) := dk_29 (dk_at dksX24_within_1 16 rfl rfl)
theorem dX24_within_41 : decode cX24_within 41 = .ok (.invokestatic 390, 3) := dk_184 1 134 (dk_at dksX24_within_1 17 rfl rfl)
theorem dX24_within_44 : decode cX24_within 44 = .ok (.istore 4, 2) := dk_54 4 (dk_at dksX24_within_1 20 rfl rfl)
theorem dX24_within_46 : decode cX24_within 46 = .ok (.aload_n 0, 1) := dk_42 (dk_at dksX24_within_1 22 rfl rfl)
theorem dX24_within_47 : decode cX24_within 47 = .ok (.iload 4, 2) := dk_21 4 (dk_at dksX24_within_2 0 rfl rfl)
theorem dX24_within_49 : decode cX24_within 49 = .ok (.invokevirtual 427, 3) := dk_182 1 171 (dk_at dksX24_within_2 2 rfl rfl)
theorem dX24_within_52 : decode cX24_within 52 = .ok (.pop, 1) := dk_87 (dk_at dksX24_within_2 5 rfl rfl)
theorem dX24_within_53 : decode cX24_within 53 = .ok (.iconst 0, 1) := dk_3 (dk_at dksX24_within_2 6 rfl rfl)
theorem dX24_within_54 : decode cX24_within 54 = .ok (.istore 5, 2) := dk_54 5 (dk_at dksX24_within_2 7 rfl rfl)
theorem dX24_within_56 : decode cX24_within 56 = .ok (.iconst 0, 1) := dk_3 (dk_at dksX24_within_2 9 rfl rfl)
theorem dX24_within_57 : decode cX24_within 57 = .ok (.istore 6, 2) := dk_54 6 (dk_at dksX24_within_2 10 rfl rfl)
theorem dX24_within_59 : decode cX24_within 59 = .ok (.iload 6, 2) := dk_21 6 (dk_at dksX24_within_2 12 rfl rfl)
theorem dX24_within_61 : decode cX24_within 61 = .ok (.aload_n 0, 1) := dk_42 (dk_at dksX24_within_2 14 rfl rfl)
theorem dX24_within_62 : decode cX24_within 62 = .ok (.getfield 187, 3) := dk_180 0 187 (dk_at dksX24_within_2 15 rfl rfl)
theorem dX24_within_65 : decode cX24_within 65 = .ok (.arraylength, 1) := dk_190 (dk_at dksX24_within_2 18 rfl rfl)
theorem dX24_within_66 : decode cX24_within 66 = .ok (.if_icmp .ge 61, 3) := dk_162 0 61 (dk_at dksX24_within_2 19 rfl rfl)
theorem dX24_within_69 : decode cX24_within 69 = .ok (.aload_n 0, 1) := dk_42 (dk_at dksX24_within_2 22 rfl rfl)
theorem dX24_within_70 : decode cX24_within 70 = .ok (.getfield 94, 3) := dk_180 0 94 (dk_at dksX24_within_3 0 rfl rfl)
theorem dX24_within_73 : decode cX24_within 73 = .ok (.iload 4, 2) := dk_21 4 (dk_at dksX24_within_3 3 rfl rfl)
theorem dX24_within_75 : decode cX24_within 75 = .ok (.laload, 1) := dk_47 (dk_at dksX24_within_3 5 rfl rfl)
theorem dX24_within_76 : decode cX24_within 76 = .ok (.ldc2_w 398, 3) := dk_20 1 142 (dk_at dksX24_within_3 6 rfl rfl)
theorem dX24_within_79 : decode cX24_within 79 = .ok (.lcmp, 1) := dk_148 (dk_at dksX24_within_3 9 rfl rfl)
theorem dX24_within_80 : decode cX24_within 80 = .ok (.ifCond .gt 47, 3) := dk_157 0 47 (dk_at dksX24_within_3 10 rfl rfl)
theorem dX24_within_83 : decode cX24_within 83 = .ok (.iload 5, 2) := dk_21 5 (dk_at dksX24_within_3 13 rfl rfl)
theorem dX24_within_85 : decode cX24_within 85 = .ok (.aload_n 0, 1) := dk_42 (dk_at dksX24_within_3 15 rfl rfl)
theorem dX24_within_86 : decode cX24_within 86 = .ok (.getfield 187, 3) := dk_180 0 187 (dk_at dksX24_within_3 16 rfl rfl)
theorem dX24_within_89 : decode cX24_within 89 = .ok (.iload 6, 2) := dk_21 6 (dk_at dksX24_within_3 19 rfl rfl)
theorem dX24_within_91 : decode cX24_within 91 = .ok (.baload, 1) := dk_51 (dk_at dksX24_within_3 21 rfl rfl)
theorem dX24_within_92 : decode cX24_within 92 = .ok (.ifCond .eq 25, 3) := dk_153 0 25 (dk_at dksX24_within_4 0 rfl rfl)
theorem dX24_within_95 : decode cX24_within 95 = .ok (.aload_n 0, 1) := dk_42 (dk_at dksX24_within_4 3 rfl rfl)
theorem dX24_within_96 : decode cX24_within 96 = .ok (.getfield 94, 3) := dk_180 0 94 (dk_at dksX24_within_4 4 rfl rfl)
theorem dX24_within_99 : decode cX24_within 99 = .ok (.iload 6, 2) := dk_21 6 (dk_at dksX24_within_4 7 rfl rfl)
theorem dX24_within_101 : decode cX24_within 101 = .ok (.laload, 1) := dk_47 (dk_at dksX24_within_4 9 rfl rfl)
theorem dX24_within_102 : decode cX24_within 102 = .ok (.aload_n 0, 1) := dk_42 (dk_at dksX24_within_4 10 rfl rfl)
theorem dX24_within_103 : decode cX24_within 103 = .ok (.getfield 94, 3) := dk_180 0 94 (dk_at dksX24_within_4 11 rfl rfl)
theorem dX24_within_106 : decode cX24_within 106 = .ok (.iload 4, 2) := dk_21 4 (dk_at dksX24_within_4 14 rfl rfl)
theorem dX24_within_108 : decode cX24_within 108 = .ok (.laload, 1) := dk_47 (dk_at dksX24_within_4 16 rfl rfl)
theorem dX24_within_109 : decode cX24_within 109 = .ok (.lcmp, 1) := dk_148 (dk_at dksX24_within_4 17 rfl rfl)
theorem dX24_within_110 : decode cX24_within 110 = .ok (.ifCond .gt 7, 3) := dk_157 0 7 (dk_at dksX24_within_4 18 rfl rfl)
theorem dX24_within_113 : decode cX24_within 113 = .ok (.iconst 1, 1) := dk_4 (dk_at dksX24_within_4 21 rfl rfl)
theorem dX24_within_114 : decode cX24_within 114 = .ok (.goto 4, 3) := dk_167 0 4 (dk_at dksX24_within_5 0 rfl rfl)
theorem dX24_within_117 : decode cX24_within 117 = .ok (.iconst 0, 1) := dk_3 (dk_at dksX24_within_5 3 rfl rfl)
theorem dX24_within_118 : decode cX24_within 118 = .ok (.iadd, 1) := dk_96 (dk_at dksX24_within_5 4 rfl rfl)
theorem dX24_within_119 : decode cX24_within 119 = .ok (.istore 5, 2) := dk_54 5 (dk_at dksX24_within_5 5 rfl rfl)
theorem dX24_within_121 : decode cX24_within 121 = .ok (.iinc 6 1, 3) := dk_132 6 1 (dk_at dksX24_within_5 7 rfl rfl)
theorem dX24_within_124 : decode cX24_within 124 = .ok (.goto (-65), 3) := dk_167 255 191 (dk_at dksX24_within_5 10 rfl rfl)
theorem dX24_within_127 : decode cX24_within 127 = .ok (.iload 5, 2) := dk_21 5 (dk_at dksX24_within_5 13 rfl rfl)
theorem dX24_within_129 : decode cX24_within 129 = .ok (.ireturn, 1) := dk_172 (dk_at dksX24_within_5 15 rfl rfl)
abbrev cX24_where : ByteArray := prog_53_method_79_code
def yX24_where : MethodName := ⟨RX24, "where", "(II)I"⟩
def dkwX24_where_3 : List UInt8 := [22, 4, 148, 156, 0, 10, 22, 7, 55, 4, 21, 6, 62, 132, 6, 1, 167, 255, 214, 29, 172]
abbrev dktX24_where_3 : List UInt8 := dkwX24_where_3 ++ []
def dkwX24_where_2 : List UInt8 := [162, 0, 42, 42, 180, 0, 94, 42, 27, 182, 0, 225, 28, 21, 6, 184, 1, 134, 47, 55, 7, 22, 7]
abbrev dktX24_where_2 : List UInt8 := dkwX24_where_2 ++ dktX24_where_3
def dkwX24_where_1 : List UInt8 := [42, 16, 250, 182, 1, 158, 172, 42, 182, 1, 164, 2, 62, 20, 1, 174, 55, 4, 3, 54, 6, 21, 6, 8]
abbrev dktX24_where_1 : List UInt8 := dkwX24_where_1 ++ dktX24_where_2
def dkwX24_where_0 : List UInt8 := [42, 27, 182, 1, 12, 154, 0, 9, 42, 2, 182, 1, 158, 172, 42, 28, 2, 6, 182, 0, 217, 154, 0, 10]
abbrev dktX24_where_0 : List UInt8 := dkwX24_where_0 ++ dktX24_where_1
theorem dksX24_where_0 : cX24_where.data.toList.drop 0 = dktX24_where_0 := by decide +kernel
theorem dksX24_where_1 : cX24_where.data.toList.drop 24 = dktX24_where_1 := dk_seg dksX24_where_0 24 rfl rfl
theorem dksX24_where_2 : cX24_where.data.toList.drop 48 = dktX24_where_2 := dk_seg dksX24_where_1 24 rfl rfl
theorem dksX24_where_3 : cX24_where.data.toList.drop 71 = dktX24_where_3 := dk_seg dksX24_where_2 23 rfl rfl
theorem dX24_where_0 : decode cX24_where 0 = .ok (.aload_n 0, 1) := dk_42 (dk_at dksX24_where_0 0 rfl rfl)
theorem dX24_where_1 : decode cX24_where 1 = .ok (.iload_n 1, 1) := dk_27 (dk_at dksX24_where_0 1 rfl rfl)
theorem dX24_where_2 : decode cX24_where 2 = .ok (.invokevirtual 268, 3) := dk_182 1 12 (dk_at dksX24_where_0 2 rfl rfl)
theorem dX24_where_5 : decode cX24_where 5 = .ok (.ifCond .ne 9, 3) := dk_154 0 9 (dk_at dksX24_where_0 5 rfl rfl)
theorem dX24_where_8 : decode cX24_where 8 = .ok (.aload_n 0, 1) := dk_42 (dk_at dksX24_where_0 8 rfl rfl)
theorem dX24_where_9 : decode cX24_where 9 = .ok (.iconst (-1), 1) := dk_2 (dk_at dksX24_where_0 9 rfl rfl)
theorem dX24_where_10 : decode cX24_where 10 = .ok (.invokevirtual 414, 3) := dk_182 1 158 (dk_at dksX24_where_0 10 rfl rfl)
theorem dX24_where_13 : decode cX24_where 13 = .ok (.ireturn, 1) := dk_172 (dk_at dksX24_where_0 13 rfl rfl)
theorem dX24_where_14 : decode cX24_where 14 = .ok (.aload_n 0, 1) := dk_42 (dk_at dksX24_where_0 14 rfl rfl)
theorem dX24_where_15 : decode cX24_where 15 = .ok (.iload_n 2, 1) := dk_28 (dk_at dksX24_where_0 15 rfl rfl)
theorem dX24_where_16 : decode cX24_where 16 = .ok (.iconst (-1), 1) := dk_2 (dk_at dksX24_where_0 16 rfl rfl)
theorem dX24_where_17 : decode cX24_where 17 = .ok (.iconst 3, 1) := dk_6 (dk_at dksX24_where_0 17 rfl rfl)
theorem dX24_where_18 : decode cX24_where 18 = .ok (.invokevirtual 217, 3) := dk_182 0 217 (dk_at dksX24_where_0 18 rfl rfl)
theorem dX24_where_21 : decode cX24_where 21 = .ok (.ifCond .ne 10, 3) := dk_154 0 10 (dk_at dksX24_where_0 21 rfl rfl)
theorem dX24_where_24 : decode cX24_where 24 = .ok (.aload_n 0, 1) := dk_42 (dk_at dksX24_where_1 0 rfl rfl)
theorem dX24_where_25 : decode cX24_where 25 = .ok (.bipush (-6), 2) := dk_16 250 (dk_at dksX24_where_1 1 rfl rfl)
theorem dX24_where_27 : decode cX24_where 27 = .ok (.invokevirtual 414, 3) := dk_182 1 158 (dk_at dksX24_where_1 3 rfl rfl)
theorem dX24_where_30 : decode cX24_where 30 = .ok (.ireturn, 1) := dk_172 (dk_at dksX24_where_1 6 rfl rfl)
theorem dX24_where_31 : decode cX24_where 31 = .ok (.aload_n 0, 1) := dk_42 (dk_at dksX24_where_1 7 rfl rfl)
theorem dX24_where_32 : decode cX24_where 32 = .ok (.invokevirtual 420, 3) := dk_182 1 164 (dk_at dksX24_where_1 8 rfl rfl)
theorem dX24_where_35 : decode cX24_where 35 = .ok (.iconst (-1), 1) := dk_2 (dk_at dksX24_where_1 11 rfl rfl)
theorem dX24_where_36 : decode cX24_where 36 = .ok (.istore_n 3, 1) := dk_62 (dk_at dksX24_where_1 12 rfl rfl)
theorem dX24_where_37 : decode cX24_where 37 = .ok (.ldc2_w 430, 3) := dk_20 1 174 (dk_at dksX24_where_1 13 rfl rfl)
theorem dX24_where_40 : decode cX24_where 40 = .ok (.lstore 4, 2) := dk_55 4 (dk_at dksX24_where_1 16 rfl rfl)
theorem dX24_where_42 : decode cX24_where 42 = .ok (.iconst 0, 1) := dk_3 (dk_at dksX24_where_1 18 rfl rfl)
theorem dX24_where_43 : decode cX24_where 43 = .ok (.istore 6, 2) := dk_54 6 (dk_at dksX24_where_1 19 rfl rfl)
theorem dX24_where_45 : decode cX24_where 45 = .ok (.iload 6, 2) := dk_21 6 (dk_at dksX24_where_1 21 rfl rfl)
theorem dX24_where_47 : decode cX24_where 47 = .ok (.iconst 5, 1) := dk_8 (dk_at dksX24_where_1 23 rfl rfl)
theorem dX24_where_48 : decode cX24_where 48 = .ok (.if_icmp .ge 42, 3) := dk_162 0 42 (dk_at dksX24_where_2 0 rfl rfl)
theorem dX24_where_51 : decode cX24_where 51 = .ok (.aload_n 0, 1) := dk_42 (dk_at dksX24_where_2 3 rfl rfl)
theorem dX24_where_52 : decode cX24_where 52 = .ok (.getfield 94, 3) := dk_180 0 94 (dk_at dksX24_where_2 4 rfl rfl)
theorem dX24_where_55 : decode cX24_where 55 = .ok (.aload_n 0, 1) := dk_42 (dk_at dksX24_where_2 7 rfl rfl)
theorem dX24_where_56 : decode cX24_where 56 = .ok (.iload_n 1, 1) := dk_27 (dk_at dksX24_where_2 8 rfl rfl)
theorem dX24_where_57 : decode cX24_where 57 = .ok (.invokevirtual 225, 3) := dk_182 0 225 (dk_at dksX24_where_2 9 rfl rfl)
theorem dX24_where_60 : decode cX24_where 60 = .ok (.iload_n 2, 1) := dk_28 (dk_at dksX24_where_2 12 rfl rfl)
theorem dX24_where_61 : decode cX24_where 61 = .ok (.iload 6, 2) := dk_21 6 (dk_at dksX24_where_2 13 rfl rfl)
theorem dX24_where_63 : decode cX24_where 63 = .ok (.invokestatic 390, 3) := dk_184 1 134 (dk_at dksX24_where_2 15 rfl rfl)
theorem dX24_where_66 : decode cX24_where 66 = .ok (.laload, 1) := dk_47 (dk_at dksX24_where_2 18 rfl rfl)
theorem dX24_where_67 : decode cX24_where 67 = .ok (.lstore 7, 2) := dk_55 7 (dk_at dksX24_where_2 19 rfl rfl)
theorem dX24_where_69 : decode cX24_where 69 = .ok (.lload 7, 2) := dk_22 7 (dk_at dksX24_where_2 21 rfl rfl)
theorem dX24_where_71 : decode cX24_where 71 = .ok (.lload 4, 2) := dk_22 4 (dk_at dksX24_where_3 0 rfl rfl)
theorem dX24_where_73 : decode cX24_where 73 = .ok (.lcmp, 1) := dk_148 (dk_at dksX24_where_3 2 rfl rfl)
theorem dX24_where_74 : decode cX24_where 74 = .ok (.ifCond .ge 10, 3) := dk_156 0 10 (dk_at dksX24_where_3 3 rfl rfl)
theorem dX24_where_77 : decode cX24_where 77 = .ok (.lload 7, 2) := dk_22 7 (dk_at dksX24_where_3 6 rfl rfl)
theorem dX24_where_79 : decode cX24_where 79 = .ok (.lstore 4, 2) := dk_55 4 (dk_at dksX24_where_3 8 rfl rfl)
theorem dX24_where_81 : decode cX24_where 81 = .ok (.iload 6, 2) := dk_21 6 (dk_at dksX24_where_3 10 rfl rfl)
theorem dX24_where_83 : decode cX24_where 83 = .ok (.istore_n 3, 1) := dk_62 (dk_at dksX24_where_3 12 rfl rfl)
theorem dX24_where_84 : decode cX24_where 84 = .ok (.iinc 6 1, 3) := dk_132 6 1 (dk_at dksX24_where_3 13 rfl rfl)
theorem dX24_where_87 : decode cX24_where 87 = .ok (.goto (-42), 3) := dk_167 255 214 (dk_at dksX24_where_3 16 rfl rfl)
theorem dX24_where_90 : decode cX24_where 90 = .ok (.iload_n 3, 1) := dk_29 (dk_at dksX24_where_3 19 rfl rfl)
theorem dX24_where_91 : decode cX24_where 91 = .ok (.ireturn, 1) := dk_172 (dk_at dksX24_where_3 20 rfl rfl)
abbrev cX24_worth : ByteArray := prog_53_method_80_code
def yX24_worth : MethodName := ⟨RX24, "worth", "(IIII)J"⟩
def dkwX24_worth_5 : List UInt8 := [20, 1, 142, 148, 158, 0, 9, 20, 1, 153, 167, 0, 8, 22, 9, 22, 7, 101, 173]
abbrev dktX24_worth_5 : List UInt8 := dkwX24_worth_5 ++ []
def dkwX24_worth_4 : List UInt8 := [21, 5, 47, 55, 9, 42, 21, 6, 181, 0, 7, 22, 7, 20, 1, 142, 148, 157, 0, 12, 22, 9]
abbrev dktX24_worth_4 : List UInt8 := dkwX24_worth_4 ++ dktX24_worth_5
def dkwX24_worth_3 : List UInt8 := [42, 89, 180, 0, 7, 4, 21, 4, 120, 2, 130, 126, 181, 0, 7, 42, 182, 1, 164, 42, 180, 0, 94]
abbrev dktX24_worth_3 : List UInt8 := dkwX24_worth_3 ++ dktX24_worth_4
def dkwX24_worth_2 : List UInt8 := [184, 1, 134, 54, 5, 42, 180, 0, 7, 54, 6, 42, 182, 1, 164, 42, 180, 0, 94, 21, 5, 47, 55, 7]
abbrev dktX24_worth_2 : List UInt8 := dkwX24_worth_2 ++ dktX24_worth_3
def dkwX24_worth_1 : List UInt8 := [42, 28, 29, 182, 1, 161, 154, 0, 11, 42, 16, 250, 182, 1, 158, 133, 173, 42, 27, 182, 0, 225, 28, 29]
abbrev dktX24_worth_1 : List UInt8 := dkwX24_worth_1 ++ dktX24_worth_2
def dkwX24_worth_0 : List UInt8 := [42, 27, 182, 1, 12, 153, 0, 12, 42, 21, 4, 182, 1, 155, 154, 0, 10, 42, 2, 182, 1, 158, 133, 173]
abbrev dktX24_worth_0 : List UInt8 := dkwX24_worth_0 ++ dktX24_worth_1
theorem dksX24_worth_0 : cX24_worth.data.toList.drop 0 = dktX24_worth_0 := by decide +kernel
theorem dksX24_worth_1 : cX24_worth.data.toList.drop 24 = dktX24_worth_1 := dk_seg dksX24_worth_0 24 rfl rfl
theorem dksX24_worth_2 : cX24_worth.data.toList.drop 48 = dktX24_worth_2 := dk_seg dksX24_worth_1 24 rfl rfl
theorem dksX24_worth_3 : cX24_worth.data.toList.drop 72 = dktX24_worth_3 := dk_seg dksX24_worth_2 24 rfl rfl
theorem dksX24_worth_4 : cX24_worth.data.toList.drop 95 = dktX24_worth_4 := dk_seg dksX24_worth_3 23 rfl rfl
theorem dksX24_worth_5 : cX24_worth.data.toList.drop 117 = dktX24_worth_5 := dk_seg dksX24_worth_4 22 rfl rfl
theorem dX24_worth_0 : decode cX24_worth 0 = .ok (.aload_n 0, 1) := dk_42 (dk_at dksX24_worth_0 0 rfl rfl)
theorem dX24_worth_1 : decode cX24_worth 1 = .ok (.iload_n 1, 1) := dk_27 (dk_at dksX24_worth_0 1 rfl rfl)
theorem dX24_worth_2 : decode cX24_worth 2 = .ok (.invokevirtual 268, 3) := dk_182 1 12 (dk_at dksX24_worth_0 2 rfl rfl)
theorem dX24_worth_5 : decode cX24_worth 5 = .ok (.ifCond .eq 12, 3) := dk_153 0 12 (dk_at dksX24_worth_0 5 rfl rfl)
theorem dX24_worth_8 : decode cX24_worth 8 = .ok (.aload_n 0, 1) := dk_42 (dk_at dksX24_worth_0 8 rfl rfl)
theorem dX24_worth_9 : decode cX24_worth 9 = .ok (.iload 4, 2) := dk_21 4 (dk_at dksX24_worth_0 9 rfl rfl)
theorem dX24_worth_11 : decode cX24_worth 11 = .ok (.invokevirtual 411, 3) := dk_182 1 155 (dk_at dksX24_worth_0 11 rfl rfl)
theorem dX24_worth_14 : decode cX24_worth 14 = .ok (.ifCond .ne 10, 3) := dk_154 0 10 (dk_at dksX24_worth_0 14 rfl rfl)
theorem dX24_worth_17 : decode cX24_worth 17 = .ok (.aload_n 0, 1) := dk_42 (dk_at dksX24_worth_0 17 rfl rfl)
theorem dX24_worth_18 : decode cX24_worth 18 = .ok (.iconst (-1), 1) := dk_2 (dk_at dksX24_worth_0 18 rfl rfl)
theorem dX24_worth_19 : decode cX24_worth 19 = .ok (.invokevirtual 414, 3) := dk_182 1 158 (dk_at dksX24_worth_0 19 rfl rfl)
theorem dX24_worth_22 : decode cX24_worth 22 = .ok (.i2l, 1) := dk_133 (dk_at dksX24_worth_0 22 rfl rfl)
theorem dX24_worth_23 : decode cX24_worth 23 = .ok (.lreturn, 1) := dk_173 (dk_at dksX24_worth_0 23 rfl rfl)
theorem dX24_worth_24 : decode cX24_worth 24 = .ok (.aload_n 0, 1) := dk_42 (dk_at dksX24_worth_1 0 rfl rfl)
theorem dX24_worth_25 : decode cX24_worth 25 = .ok (.iload_n 2, 1) := dk_28 (dk_at dksX24_worth_1 1 rfl rfl)
theorem dX24_worth_26 : decode cX24_worth 26 = .ok (.iload_n 3, 1) := dk_29 (dk_at dksX24_worth_1 2 rfl rfl)
theorem dX24_worth_27 : decode cX24_worth 27 = .ok (.invokevirtual 417, 3) := dk_182 1 161 (dk_at dksX24_worth_1 3 rfl rfl)
theorem dX24_worth_30 : decode cX24_worth 30 = .ok (.ifCond .ne 11, 3) := dk_154 0 11 (dk_at dksX24_worth_1 6 rfl rfl)
theorem dX24_worth_33 : decode cX24_worth 33 = .ok (.aload_n 0, 1) := dk_42 (dk_at dksX24_worth_1 9 rfl rfl)
theorem dX24_worth_34 : decode cX24_worth 34 = .ok (.bipush (-6), 2) := dk_16 250 (dk_at dksX24_worth_1 10 rfl rfl)
theorem dX24_worth_36 : decode cX24_worth 36 = .ok (.invokevirtual 414, 3) := dk_182 1 158 (dk_at dksX24_worth_1 12 rfl rfl)
theorem dX24_worth_39 : decode cX24_worth 39 = .ok (.i2l, 1) := dk_133 (dk_at dksX24_worth_1 15 rfl rfl)
theorem dX24_worth_40 : decode cX24_worth 40 = .ok (.lreturn, 1) := dk_173 (dk_at dksX24_worth_1 16 rfl rfl)
theorem dX24_worth_41 : decode cX24_worth 41 = .ok (.aload_n 0, 1) := dk_42 (dk_at dksX24_worth_1 17 rfl rfl)
theorem dX24_worth_42 : decode cX24_worth 42 = .ok (.iload_n 1, 1) := dk_27 (dk_at dksX24_worth_1 18 rfl rfl)
theorem dX24_worth_43 : decode cX24_worth 43 = .ok (.invokevirtual 225, 3) := dk_182 0 225 (dk_at dksX24_worth_1 19 rfl rfl)
theorem dX24_worth_46 : decode cX24_worth 46 = .ok (.iload_n 2, 1) := dk_28 (dk_at dksX24_worth_1 22 rfl rfl)
theorem dX24_worth_47 : decode cX24_worth 47 = .ok (.iload_n 3, 1) := dk_29 (dk_at dksX24_worth_1 23 rfl rfl)
theorem dX24_worth_48 : decode cX24_worth 48 = .ok (.invokestatic 390, 3) := dk_184 1 134 (dk_at dksX24_worth_2 0 rfl rfl)
theorem dX24_worth_51 : decode cX24_worth 51 = .ok (.istore 5, 2) := dk_54 5 (dk_at dksX24_worth_2 3 rfl rfl)
theorem dX24_worth_53 : decode cX24_worth 53 = .ok (.aload_n 0, 1) := dk_42 (dk_at dksX24_worth_2 5 rfl rfl)
theorem dX24_worth_54 : decode cX24_worth 54 = .ok (.getfield 7, 3) := dk_180 0 7 (dk_at dksX24_worth_2 6 rfl rfl)
theorem dX24_worth_57 : decode cX24_worth 57 = .ok (.istore 6, 2) := dk_54 6 (dk_at dksX24_worth_2 9 rfl rfl)
theorem dX24_worth_59 : decode cX24_worth 59 = .ok (.aload_n 0, 1) := dk_42 (dk_at dksX24_worth_2 11 rfl rfl)
theorem dX24_worth_60 : decode cX24_worth 60 = .ok (.invokevirtual 420, 3) := dk_182 1 164 (dk_at dksX24_worth_2 12 rfl rfl)
theorem dX24_worth_63 : decode cX24_worth 63 = .ok (.aload_n 0, 1) := dk_42 (dk_at dksX24_worth_2 15 rfl rfl)
theorem dX24_worth_64 : decode cX24_worth 64 = .ok (.getfield 94, 3) := dk_180 0 94 (dk_at dksX24_worth_2 16 rfl rfl)
theorem dX24_worth_67 : decode cX24_worth 67 = .ok (.iload 5, 2) := dk_21 5 (dk_at dksX24_worth_2 19 rfl rfl)
theorem dX24_worth_69 : decode cX24_worth 69 = .ok (.laload, 1) := dk_47 (dk_at dksX24_worth_2 21 rfl rfl)
theorem dX24_worth_70 : decode cX24_worth 70 = .ok (.lstore 7, 2) := dk_55 7 (dk_at dksX24_worth_2 22 rfl rfl)
theorem dX24_worth_72 : decode cX24_worth 72 = .ok (.aload_n 0, 1) := dk_42 (dk_at dksX24_worth_3 0 rfl rfl)
theorem dX24_worth_73 : decode cX24_worth 73 = .ok (.dup, 1) := dk_89 (dk_at dksX24_worth_3 1 rfl rfl)
theorem dX24_worth_74 : decode cX24_worth 74 = .ok (.getfield 7, 3) := dk_180 0 7 (dk_at dksX24_worth_3 2 rfl rfl)
theorem dX24_worth_77 : decode cX24_worth 77 = .ok (.iconst 1, 1) := dk_4 (dk_at dksX24_worth_3 5 rfl rfl)
theorem dX24_worth_78 : decode cX24_worth 78 = .ok (.iload 4, 2) := dk_21 4 (dk_at dksX24_worth_3 6 rfl rfl)
theorem dX24_worth_80 : decode cX24_worth 80 = .ok (.ishl, 1) := dk_120 (dk_at dksX24_worth_3 8 rfl rfl)
theorem dX24_worth_81 : decode cX24_worth 81 = .ok (.iconst (-1), 1) := dk_2 (dk_at dksX24_worth_3 9 rfl rfl)
theorem dX24_worth_82 : decode cX24_worth 82 = .ok (.ixor, 1) := dk_130 (dk_at dksX24_worth_3 10 rfl rfl)
theorem dX24_worth_83 : decode cX24_worth 83 = .ok (.iand, 1) := dk_126 (dk_at dksX24_worth_3 11 rfl rfl)
theorem dX24_worth_84 : decode cX24_worth 84 = .ok (.putfield 7, 3) := dk_181 0 7 (dk_at dksX24_worth_3 12 rfl rfl)
theorem dX24_worth_87 : decode cX24_worth 87 = .ok (.aload_n 0, 1) := dk_42 (dk_at dksX24_worth_3 15 rfl rfl)
theorem dX24_worth_88 : decode cX24_worth 88 = .ok (.invokevirtual 420, 3) := dk_182 1 164 (dk_at dksX24_worth_3 16 rfl rfl)
theorem dX24_worth_91 : decode cX24_worth 91 = .ok (.aload_n 0, 1) := dk_42 (dk_at dksX24_worth_3 19 rfl rfl)
theorem dX24_worth_92 : decode cX24_worth 92 = .ok (.getfield 94, 3) := dk_180 0 94 (dk_at dksX24_worth_3 20 rfl rfl)
theorem dX24_worth_95 : decode cX24_worth 95 = .ok (.iload 5, 2) := dk_21 5 (dk_at dksX24_worth_4 0 rfl rfl)
theorem dX24_worth_97 : decode cX24_worth 97 = .ok (.laload, 1) := dk_47 (dk_at dksX24_worth_4 2 rfl rfl)
theorem dX24_worth_98 : decode cX24_worth 98 = .ok (.lstore 9, 2) := dk_55 9 (dk_at dksX24_worth_4 3 rfl rfl)
theorem dX24_worth_100 : decode cX24_worth 100 = .ok (.aload_n 0, 1) := dk_42 (dk_at dksX24_worth_4 5 rfl rfl)
theorem dX24_worth_101 : decode cX24_worth 101 = .ok (.iload 6, 2) := dk_21 6 (dk_at dksX24_worth_4 6 rfl rfl)
theorem dX24_worth_103 : decode cX24_worth 103 = .ok (.putfield 7, 3) := dk_181 0 7 (dk_at dksX24_worth_4 8 rfl rfl)
theorem dX24_worth_106 : decode cX24_worth 106 = .ok (.lload 7, 2) := dk_22 7 (dk_at dksX24_worth_4 11 rfl rfl)
theorem dX24_worth_108 : decode cX24_worth 108 = .ok (.ldc2_w 398, 3) := dk_20 1 142 (dk_at dksX24_worth_4 13 rfl rfl)
theorem dX24_worth_111 : decode cX24_worth 111 = .ok (.lcmp, 1) := dk_148 (dk_at dksX24_worth_4 16 rfl rfl)
theorem dX24_worth_112 : decode cX24_worth 112 = .ok (.ifCond .gt 12, 3) := dk_157 0 12 (dk_at dksX24_worth_4 17 rfl rfl)
theorem dX24_worth_115 : decode cX24_worth 115 = .ok (.lload 9, 2) := dk_22 9 (dk_at dksX24_worth_4 20 rfl rfl)
theorem dX24_worth_117 : decode cX24_worth 117 = .ok (.ldc2_w 398, 3) := dk_20 1 142 (dk_at dksX24_worth_5 0 rfl rfl)
theorem dX24_worth_120 : decode cX24_worth 120 = .ok (.lcmp, 1) := dk_148 (dk_at dksX24_worth_5 3 rfl rfl)
theorem dX24_worth_121 : decode cX24_worth 121 = .ok (.ifCond .le 9, 3) := dk_158 0 9 (dk_at dksX24_worth_5 4 rfl rfl)
theorem dX24_worth_124 : decode cX24_worth 124 = .ok (.ldc2_w 409, 3) := dk_20 1 153 (dk_at dksX24_worth_5 7 rfl rfl)
theorem dX24_worth_127 : decode cX24_worth 127 = .ok (.goto 8, 3) := dk_167 0 8 (dk_at dksX24_worth_5 10 rfl rfl)
theorem dX24_worth_130 : decode cX24_worth 130 = .ok (.lload 9, 2) := dk_22 9 (dk_at dksX24_worth_5 13 rfl rfl)
theorem dX24_worth_132 : decode cX24_worth 132 = .ok (.lload 7, 2) := dk_22 7 (dk_at dksX24_worth_5 15 rfl rfl)
theorem dX24_worth_134 : decode cX24_worth 134 = .ok (.lsub, 1) := dk_101 (dk_at dksX24_worth_5 17 rfl rfl)
theorem dX24_worth_135 : decode cX24_worth 135 = .ok (.lreturn, 1) := dk_173 (dk_at dksX24_worth_5 18 rfl rfl)
abbrev cX24_plan : ByteArray := prog_53_method_82_code
def yX24_plan : MethodName := ⟨RX24, "plan", "(III)I"⟩
def dkwX24_plan_10 : List UInt8 := [21, 5, 47, 80, 132, 5, 1, 167, 255, 118, 42, 180, 1, 182, 172]
abbrev dktX24_plan_10 : List UInt8 := dkwX24_plan_10 ++ []
def dkwX24_plan_9 : List UInt8 := [180, 0, 139, 21, 5, 42, 180, 0, 169, 21, 5, 46, 79, 42, 180, 0, 145, 21, 5, 42, 180, 0, 172]
abbrev dktX24_plan_9 : List UInt8 := dkwX24_plan_9 ++ dktX24_plan_10
def dkwX24_plan_8 : List UInt8 := [42, 180, 0, 163, 21, 5, 46, 79, 42, 180, 0, 136, 21, 5, 42, 180, 0, 166, 21, 5, 46, 79, 42]
abbrev dktX24_plan_8 : List UInt8 := dkwX24_plan_8 ++ dktX24_plan_9
def dkwX24_plan_7 : List UInt8 := [21, 5, 46, 79, 42, 180, 0, 130, 21, 5, 42, 180, 0, 160, 21, 5, 46, 79, 42, 180, 0, 133, 21, 5]
abbrev dktX24_plan_7 : List UInt8 := dkwX24_plan_7 ++ dktX24_plan_8
def dkwX24_plan_6 : List UInt8 := [180, 0, 124, 21, 5, 42, 180, 0, 154, 21, 5, 46, 79, 42, 180, 0, 127, 21, 5, 42, 180, 0, 157]
abbrev dktX24_plan_6 : List UInt8 := dkwX24_plan_6 ++ dktX24_plan_7
def dkwX24_plan_5 : List UInt8 := [180, 0, 148, 21, 5, 46, 79, 42, 180, 0, 121, 21, 5, 42, 180, 0, 151, 21, 5, 46, 79, 42]
abbrev dktX24_plan_5 : List UInt8 := dkwX24_plan_5 ++ dktX24_plan_6
def dkwX24_plan_4 : List UInt8 := [181, 1, 182, 3, 54, 5, 21, 5, 42, 180, 1, 182, 162, 0, 135, 42, 180, 0, 118, 21, 5, 42]
abbrev dktX24_plan_4 : List UInt8 := dkwX24_plan_4 ++ dktX24_plan_5
def dkwX24_plan_3 : List UInt8 := [181, 1, 176, 42, 21, 4, 182, 1, 179, 154, 0, 10, 42, 16, 249, 182, 0, 206, 172, 42, 42, 180, 1, 176]
abbrev dktX24_plan_3 : List UInt8 := dkwX24_plan_3 ++ dktX24_plan_4
def dkwX24_plan_2 : List UInt8 := [180, 0, 94, 21, 4, 47, 20, 1, 142, 148, 158, 0, 10, 42, 16, 251, 182, 0, 206, 172, 42, 3]
abbrev dktX24_plan_2 : List UInt8 := dkwX24_plan_2 ++ dktX24_plan_3
def dkwX24_plan_1 : List UInt8 := [16, 250, 182, 0, 206, 172, 42, 182, 1, 164, 42, 27, 182, 0, 225, 28, 29, 184, 1, 134, 54, 4, 42]
abbrev dktX24_plan_1 : List UInt8 := dkwX24_plan_1 ++ dktX24_plan_2
def dkwX24_plan_0 : List UInt8 := [42, 27, 182, 1, 12, 154, 0, 9, 42, 2, 182, 0, 206, 172, 42, 28, 29, 182, 1, 161, 154, 0, 10, 42]
abbrev dktX24_plan_0 : List UInt8 := dkwX24_plan_0 ++ dktX24_plan_1
theorem dksX24_plan_0 : cX24_plan.data.toList.drop 0 = dktX24_plan_0 := by decide +kernel
theorem dksX24_plan_1 : cX24_plan.data.toList.drop 24 = dktX24_plan_1 := dk_seg dksX24_plan_0 24 rfl rfl
theorem dksX24_plan_2 : cX24_plan.data.toList.drop 47 = dktX24_plan_2 := dk_seg dksX24_plan_1 23 rfl rfl
theorem dksX24_plan_3 : cX24_plan.data.toList.drop 69 = dktX24_plan_3 := dk_seg dksX24_plan_2 22 rfl rfl
theorem dksX24_plan_4 : cX24_plan.data.toList.drop 93 = dktX24_plan_4 := dk_seg dksX24_plan_3 24 rfl rfl
theorem dksX24_plan_5 : cX24_plan.data.toList.drop 115 = dktX24_plan_5 := dk_seg dksX24_plan_4 22 rfl rfl
theorem dksX24_plan_6 : cX24_plan.data.toList.drop 137 = dktX24_plan_6 := dk_seg dksX24_plan_5 22 rfl rfl
theorem dksX24_plan_7 : cX24_plan.data.toList.drop 160 = dktX24_plan_7 := dk_seg dksX24_plan_6 23 rfl rfl
theorem dksX24_plan_8 : cX24_plan.data.toList.drop 184 = dktX24_plan_8 := dk_seg dksX24_plan_7 24 rfl rfl
theorem dksX24_plan_9 : cX24_plan.data.toList.drop 207 = dktX24_plan_9 := dk_seg dksX24_plan_8 23 rfl rfl
theorem dksX24_plan_10 : cX24_plan.data.toList.drop 230 = dktX24_plan_10 := dk_seg dksX24_plan_9 23 rfl rfl
theorem dX24_plan_0 : decode cX24_plan 0 = .ok (.aload_n 0, 1) := dk_42 (dk_at dksX24_plan_0 0 rfl rfl)
theorem dX24_plan_1 : decode cX24_plan 1 = .ok (.iload_n 1, 1) := dk_27 (dk_at dksX24_plan_0 1 rfl rfl)
theorem dX24_plan_2 : decode cX24_plan 2 = .ok (.invokevirtual 268, 3) := dk_182 1 12 (dk_at dksX24_plan_0 2 rfl rfl)
theorem dX24_plan_5 : decode cX24_plan 5 = .ok (.ifCond .ne 9, 3) := dk_154 0 9 (dk_at dksX24_plan_0 5 rfl rfl)
theorem dX24_plan_8 : decode cX24_plan 8 = .ok (.aload_n 0, 1) := dk_42 (dk_at dksX24_plan_0 8 rfl rfl)
theorem dX24_plan_9 : decode cX24_plan 9 = .ok (.iconst (-1), 1) := dk_2 (dk_at dksX24_plan_0 9 rfl rfl)
theorem dX24_plan_10 : decode cX24_plan 10 = .ok (.invokevirtual 206, 3) := dk_182 0 206 (dk_at dksX24_plan_0 10 rfl rfl)
theorem dX24_plan_13 : decode cX24_plan 13 = .ok (.ireturn, 1) := dk_172 (dk_at dksX24_plan_0 13 rfl rfl)
theorem dX24_plan_14 : decode cX24_plan 14 = .ok (.aload_n 0, 1) := dk_42 (dk_at dksX24_plan_0 14 rfl rfl)
theorem dX24_plan_15 : decode cX24_plan 15 = .ok (.iload_n 2, 1) := dk_28 (dk_at dksX24_plan_0 15 rfl rfl)
theorem dX24_plan_16 : decode cX24_plan 16 = .ok (.iload_n 3, 1) := dk_29 (dk_at dksX24_plan_0 16 rfl rfl)
theorem dX24_plan_17 : decode cX24_plan 17 = .ok (.invokevirtual 417, 3) := dk_182 1 161 (dk_at dksX24_plan_0 17 rfl rfl)
theorem dX24_plan_20 : decode cX24_plan 20 = .ok (.ifCond .ne 10, 3) := dk_154 0 10 (dk_at dksX24_plan_0 20 rfl rfl)
theorem dX24_plan_23 : decode cX24_plan 23 = .ok (.aload_n 0, 1) := dk_42 (dk_at dksX24_plan_0 23 rfl rfl)
theorem dX24_plan_24 : decode cX24_plan 24 = .ok (.bipush (-6), 2) := dk_16 250 (dk_at dksX24_plan_1 0 rfl rfl)
theorem dX24_plan_26 : decode cX24_plan 26 = .ok (.invokevirtual 206, 3) := dk_182 0 206 (dk_at dksX24_plan_1 2 rfl rfl)
theorem dX24_plan_29 : decode cX24_plan 29 = .ok (.ireturn, 1) := dk_172 (dk_at dksX24_plan_1 5 rfl rfl)
theorem dX24_plan_30 : decode cX24_plan 30 = .ok (.aload_n 0, 1) := dk_42 (dk_at dksX24_plan_1 6 rfl rfl)
theorem dX24_plan_31 : decode cX24_plan 31 = .ok (.invokevirtual 420, 3) := dk_182 1 164 (dk_at dksX24_plan_1 7 rfl rfl)
theorem dX24_plan_34 : decode cX24_plan 34 = .ok (.aload_n 0, 1) := dk_42 (dk_at dksX24_plan_1 10 rfl rfl)
theorem dX24_plan_35 : decode cX24_plan 35 = .ok (.iload_n 1, 1) := dk_27 (dk_at dksX24_plan_1 11 rfl rfl)
theorem dX24_plan_36 : decode cX24_plan 36 = .ok (.invokevirtual 225, 3) := dk_182 0 225 (dk_at dksX24_plan_1 12 rfl rfl)
theorem dX24_plan_39 : decode cX24_plan 39 = .ok (.iload_n 2, 1) := dk_28 (dk_at dksX24_plan_1 15 rfl rfl)
theorem dX24_plan_40 : decode cX24_plan 40 = .ok (.iload_n 3, 1) := dk_29 (dk_at dksX24_plan_1 16 rfl rfl)
theorem dX24_plan_41 : decode cX24_plan 41 = .ok (.invokestatic 390, 3) := dk_184 1 134 (dk_at dksX24_plan_1 17 rfl rfl)
theorem dX24_plan_44 : decode cX24_plan 44 = .ok (.istore 4, 2) := dk_54 4 (dk_at dksX24_plan_1 20 rfl rfl)
theorem dX24_plan_46 : decode cX24_plan 46 = .ok (.aload_n 0, 1) := dk_42 (dk_at dksX24_plan_1 22 rfl rfl)
theorem dX24_plan_47 : decode cX24_plan 47 = .ok (.getfield 94, 3) := dk_180 0 94 (dk_at dksX24_plan_2 0 rfl rfl)
theorem dX24_plan_50 : decode cX24_plan 50 = .ok (.iload 4, 2) := dk_21 4 (dk_at dksX24_plan_2 3 rfl rfl)
theorem dX24_plan_52 : decode cX24_plan 52 = .ok (.laload, 1) := dk_47 (dk_at dksX24_plan_2 5 rfl rfl)
theorem dX24_plan_53 : decode cX24_plan 53 = .ok (.ldc2_w 398, 3) := dk_20 1 142 (dk_at dksX24_plan_2 6 rfl rfl)
theorem dX24_plan_56 : decode cX24_plan 56 = .ok (.lcmp, 1) := dk_148 (dk_at dksX24_plan_2 9 rfl rfl)
theorem dX24_plan_57 : decode cX24_plan 57 = .ok (.ifCond .le 10, 3) := dk_158 0 10 (dk_at dksX24_plan_2 10 rfl rfl)
theorem dX24_plan_60 : decode cX24_plan 60 = .ok (.aload_n 0, 1) := dk_42 (dk_at dksX24_plan_2 13 rfl rfl)
theorem dX24_plan_61 : decode cX24_plan 61 = .ok (.bipush (-5), 2) := dk_16 251 (dk_at dksX24_plan_2 14 rfl rfl)
theorem dX24_plan_63 : decode cX24_plan 63 = .ok (.invokevirtual 206, 3) := dk_182 0 206 (dk_at dksX24_plan_2 16 rfl rfl)
theorem dX24_plan_66 : decode cX24_plan 66 = .ok (.ireturn, 1) := dk_172 (dk_at dksX24_plan_2 19 rfl rfl)
theorem dX24_plan_67 : decode cX24_plan 67 = .ok (.aload_n 0, 1) := dk_42 (dk_at dksX24_plan_2 20 rfl rfl)
theorem dX24_plan_68 : decode cX24_plan 68 = .ok (.iconst 0, 1) := dk_3 (dk_at dksX24_plan_2 21 rfl rfl)
theorem dX24_plan_69 : decode cX24_plan 69 = .ok (.putfield 432, 3) := dk_181 1 176 (dk_at dksX24_plan_3 0 rfl rfl)
theorem dX24_plan_72 : decode cX24_plan 72 = .ok (.aload_n 0, 1) := dk_42 (dk_at dksX24_plan_3 3 rfl rfl)
theorem dX24_plan_73 : decode cX24_plan 73 = .ok (.iload 4, 2) := dk_21 4 (dk_at dksX24_plan_3 4 rfl rfl)
theorem dX24_plan_75 : decode cX24_plan 75 = .ok (.invokevirtual 435, 3) := dk_182 1 179 (dk_at dksX24_plan_3 6 rfl rfl)
theorem dX24_plan_78 : decode cX24_plan 78 = .ok (.ifCond .ne 10, 3) := dk_154 0 10 (dk_at dksX24_plan_3 9 rfl rfl)
theorem dX24_plan_81 : decode cX24_plan 81 = .ok (.aload_n 0, 1) := dk_42 (dk_at dksX24_plan_3 12 rfl rfl)
theorem dX24_plan_82 : decode cX24_plan 82 = .ok (.bipush (-7), 2) := dk_16 249 (dk_at dksX24_plan_3 13 rfl rfl)
theorem dX24_plan_84 : decode cX24_plan 84 = .ok (.invokevirtual 206, 3) := dk_182 0 206 (dk_at dksX24_plan_3 15 rfl rfl)
theorem dX24_plan_87 : decode cX24_plan 87 = .ok (.ireturn, 1) := dk_172 (dk_at dksX24_plan_3 18 rfl rfl)
theorem dX24_plan_88 : decode cX24_plan 88 = .ok (.aload_n 0, 1) := dk_42 (dk_at dksX24_plan_3 19 rfl rfl)
theorem dX24_plan_89 : decode cX24_plan 89 = .ok (.aload_n 0, 1) := dk_42 (dk_at dksX24_plan_3 20 rfl rfl)
theorem dX24_plan_90 : decode cX24_plan 90 = .ok (.getfield 432, 3) := dk_180 1 176 (dk_at dksX24_plan_3 21 rfl rfl)
theorem dX24_plan_93 : decode cX24_plan 93 = .ok (.putfield 438, 3) := dk_181 1 182 (dk_at dksX24_plan_4 0 rfl rfl)
theorem dX24_plan_96 : decode cX24_plan 96 = .ok (.iconst 0, 1) := dk_3 (dk_at dksX24_plan_4 3 rfl rfl)
theorem dX24_plan_97 : decode cX24_plan 97 = .ok (.istore 5, 2) := dk_54 5 (dk_at dksX24_plan_4 4 rfl rfl)
theorem dX24_plan_99 : decode cX24_plan 99 = .ok (.iload 5, 2) := dk_21 5 (dk_at dksX24_plan_4 6 rfl rfl)
theorem dX24_plan_101 : decode cX24_plan 101 = .ok (.aload_n 0, 1) := dk_42 (dk_at dksX24_plan_4 8 rfl rfl)
theorem dX24_plan_102 : decode cX24_plan 102 = .ok (.getfield 438, 3) := dk_180 1 182 (dk_at dksX24_plan_4 9 rfl rfl)
theorem dX24_plan_105 : decode cX24_plan 105 = .ok (.if_icmp .ge 135, 3) := dk_162 0 135 (dk_at dksX24_plan_4 12 rfl rfl)
theorem dX24_plan_108 : decode cX24_plan 108 = .ok (.aload_n 0, 1) := dk_42 (dk_at dksX24_plan_4 15 rfl rfl)
theorem dX24_plan_109 : decode cX24_plan 109 = .ok (.getfield 118, 3) := dk_180 0 118 (dk_at dksX24_plan_4 16 rfl rfl)
theorem dX24_plan_112 : decode cX24_plan 112 = .ok (.iload 5, 2) := dk_21 5 (dk_at dksX24_plan_4 19 rfl rfl)
theorem dX24_plan_114 : decode cX24_plan 114 = .ok (.aload_n 0, 1) := dk_42 (dk_at dksX24_plan_4 21 rfl rfl)
theorem dX24_plan_115 : decode cX24_plan 115 = .ok (.getfield 148, 3) := dk_180 0 148 (dk_at dksX24_plan_5 0 rfl rfl)
theorem dX24_plan_118 : decode cX24_plan 118 = .ok (.iload 5, 2) := dk_21 5 (dk_at dksX24_plan_5 3 rfl rfl)
theorem dX24_plan_120 : decode cX24_plan 120 = .ok (.iaload, 1) := dk_46 (dk_at dksX24_plan_5 5 rfl rfl)
theorem dX24_plan_121 : decode cX24_plan 121 = .ok (.iastore, 1) := dk_79 (dk_at dksX24_plan_5 6 rfl rfl)
theorem dX24_plan_122 : decode cX24_plan 122 = .ok (.aload_n 0, 1) := dk_42 (dk_at dksX24_plan_5 7 rfl rfl)
theorem dX24_plan_123 : decode cX24_plan 123 = .ok (.getfield 121, 3) := dk_180 0 121 (dk_at dksX24_plan_5 8 rfl rfl)
theorem dX24_plan_126 : decode cX24_plan 126 = .ok (.iload 5, 2) := dk_21 5 (dk_at dksX24_plan_5 11 rfl rfl)
theorem dX24_plan_128 : decode cX24_plan 128 = .ok (.aload_n 0, 1) := dk_42 (dk_at dksX24_plan_5 13 rfl rfl)
theorem dX24_plan_129 : decode cX24_plan 129 = .ok (.getfield 151, 3) := dk_180 0 151 (dk_at dksX24_plan_5 14 rfl rfl)
theorem dX24_plan_132 : decode cX24_plan 132 = .ok (.iload 5, 2) := dk_21 5 (dk_at dksX24_plan_5 17 rfl rfl)
theorem dX24_plan_134 : decode cX24_plan 134 = .ok (.iaload, 1) := dk_46 (dk_at dksX24_plan_5 19 rfl rfl)
theorem dX24_plan_135 : decode cX24_plan 135 = .ok (.iastore, 1) := dk_79 (dk_at dksX24_plan_5 20 rfl rfl)
theorem dX24_plan_136 : decode cX24_plan 136 = .ok (.aload_n 0, 1) := dk_42 (dk_at dksX24_plan_5 21 rfl rfl)
theorem dX24_plan_137 : decode cX24_plan 137 = .ok (.getfield 124, 3) := dk_180 0 124 (dk_at dksX24_plan_6 0 rfl rfl)
theorem dX24_plan_140 : decode cX24_plan 140 = .ok (.iload 5, 2) := dk_21 5 (dk_at dksX24_plan_6 3 rfl rfl)
theorem dX24_plan_142 : decode cX24_plan 142 = .ok (.aload_n 0, 1) := dk_42 (dk_at dksX24_plan_6 5 rfl rfl)
theorem dX24_plan_143 : decode cX24_plan 143 = .ok (.getfield 154, 3) := dk_180 0 154 (dk_at dksX24_plan_6 6 rfl rfl)
theorem dX24_plan_146 : decode cX24_plan 146 = .ok (.iload 5, 2) := dk_21 5 (dk_at dksX24_plan_6 9 rfl rfl)
theorem dX24_plan_148 : decode cX24_plan 148 = .ok (.iaload, 1) := dk_46 (dk_at dksX24_plan_6 11 rfl rfl)
theorem dX24_plan_149 : decode cX24_plan 149 = .ok (.iastore, 1) := dk_79 (dk_at dksX24_plan_6 12 rfl rfl)
theorem dX24_plan_150 : decode cX24_plan 150 = .ok (.aload_n 0, 1) := dk_42 (dk_at dksX24_plan_6 13 rfl rfl)
theorem dX24_plan_151 : decode cX24_plan 151 = .ok (.getfield 127, 3) := dk_180 0 127 (dk_at dksX24_plan_6 14 rfl rfl)
theorem dX24_plan_154 : decode cX24_plan 154 = .ok (.iload 5, 2) := dk_21 5 (dk_at dksX24_plan_6 17 rfl rfl)
theorem dX24_plan_156 : decode cX24_plan 156 = .ok (.aload_n 0, 1) := dk_42 (dk_at dksX24_plan_6 19 rfl rfl)
theorem dX24_plan_157 : decode cX24_plan 157 = .ok (.getfield 157, 3) := dk_180 0 157 (dk_at dksX24_plan_6 20 rfl rfl)
theorem dX24_plan_160 : decode cX24_plan 160 = .ok (.iload 5, 2) := dk_21 5 (dk_at dksX24_plan_7 0 rfl rfl)
theorem dX24_plan_162 : decode cX24_plan 162 = .ok (.iaload, 1) := dk_46 (dk_at dksX24_plan_7 2 rfl rfl)
theorem dX24_plan_163 : decode cX24_plan 163 = .ok (.iastore, 1) := dk_79 (dk_at dksX24_plan_7 3 rfl rfl)
theorem dX24_plan_164 : decode cX24_plan 164 = .ok (.aload_n 0, 1) := dk_42 (dk_at dksX24_plan_7 4 rfl rfl)
theorem dX24_plan_165 : decode cX24_plan 165 = .ok (.getfield 130, 3) := dk_180 0 130 (dk_at dksX24_plan_7 5 rfl rfl)
theorem dX24_plan_168 : decode cX24_plan 168 = .ok (.iload 5, 2) := dk_21 5 (dk_at dksX24_plan_7 8 rfl rfl)
theorem dX24_plan_170 : decode cX24_plan 170 = .ok (.aload_n 0, 1) := dk_42 (dk_at dksX24_plan_7 10 rfl rfl)
theorem dX24_plan_171 : decode cX24_plan 171 = .ok (.getfield 160, 3) := dk_180 0 160 (dk_at dksX24_plan_7 11 rfl rfl)
theorem dX24_plan_174 : decode cX24_plan 174 = .ok (.iload 5, 2) := dk_21 5 (dk_at dksX24_plan_7 14 rfl rfl)
theorem dX24_plan_176 : decode cX24_plan 176 = .ok (.iaload, 1) := dk_46 (dk_at dksX24_plan_7 16 rfl rfl)
theorem dX24_plan_177 : decode cX24_plan 177 = .ok (.iastore, 1) := dk_79 (dk_at dksX24_plan_7 17 rfl rfl)
theorem dX24_plan_178 : decode cX24_plan 178 = .ok (.aload_n 0, 1) := dk_42 (dk_at dksX24_plan_7 18 rfl rfl)
theorem dX24_plan_179 : decode cX24_plan 179 = .ok (.getfield 133, 3) := dk_180 0 133 (dk_at dksX24_plan_7 19 rfl rfl)
theorem dX24_plan_182 : decode cX24_plan 182 = .ok (.iload 5, 2) := dk_21 5 (dk_at dksX24_plan_7 22 rfl rfl)
theorem dX24_plan_184 : decode cX24_plan 184 = .ok (.aload_n 0, 1) := dk_42 (dk_at dksX24_plan_8 0 rfl rfl)
theorem dX24_plan_185 : decode cX24_plan 185 = .ok (.getfield 163, 3) := dk_180 0 163 (dk_at dksX24_plan_8 1 rfl rfl)
theorem dX24_plan_188 : decode cX24_plan 188 = .ok (.iload 5, 2) := dk_21 5 (dk_at dksX24_plan_8 4 rfl rfl)
theorem dX24_plan_190 : decode cX24_plan 190 = .ok (.iaload, 1) := dk_46 (dk_at dksX24_plan_8 6 rfl rfl)
theorem dX24_plan_191 : decode cX24_plan 191 = .ok (.iastore, 1) := dk_79 (dk_at dksX24_plan_8 7 rfl rfl)
theorem dX24_plan_192 : decode cX24_plan 192 = .ok (.aload_n 0, 1) := dk_42 (dk_at dksX24_plan_8 8 rfl rfl)
theorem dX24_plan_193 : decode cX24_plan 193 = .ok (.getfield 136, 3) := dk_180 0 136 (dk_at dksX24_plan_8 9 rfl rfl)
theorem dX24_plan_196 : decode cX24_plan 196 = .ok (.iload 5, 2) := dk_21 5 (dk_at dksX24_plan_8 12 rfl rfl)
theorem dX24_plan_198 : decode cX24_plan 198 = .ok (.aload_n 0, 1) := dk_42 (dk_at dksX24_plan_8 14 rfl rfl)
theorem dX24_plan_199 : decode cX24_plan 199 = .ok (.getfield 166, 3) := dk_180 0 166 (dk_at dksX24_plan_8 15 rfl rfl)
theorem dX24_plan_202 : decode cX24_plan 202 = .ok (.iload 5, 2) := dk_21 5 (dk_at dksX24_plan_8 18 rfl rfl)
theorem dX24_plan_204 : decode cX24_plan 204 = .ok (.iaload, 1) := dk_46 (dk_at dksX24_plan_8 20 rfl rfl)
theorem dX24_plan_205 : decode cX24_plan 205 = .ok (.iastore, 1) := dk_79 (dk_at dksX24_plan_8 21 rfl rfl)
theorem dX24_plan_206 : decode cX24_plan 206 = .ok (.aload_n 0, 1) := dk_42 (dk_at dksX24_plan_8 22 rfl rfl)
theorem dX24_plan_207 : decode cX24_plan 207 = .ok (.getfield 139, 3) := dk_180 0 139 (dk_at dksX24_plan_9 0 rfl rfl)
theorem dX24_plan_210 : decode cX24_plan 210 = .ok (.iload 5, 2) := dk_21 5 (dk_at dksX24_plan_9 3 rfl rfl)
theorem dX24_plan_212 : decode cX24_plan 212 = .ok (.aload_n 0, 1) := dk_42 (dk_at dksX24_plan_9 5 rfl rfl)
theorem dX24_plan_213 : decode cX24_plan 213 = .ok (.getfield 169, 3) := dk_180 0 169 (dk_at dksX24_plan_9 6 rfl rfl)
theorem dX24_plan_216 : decode cX24_plan 216 = .ok (.iload 5, 2) := dk_21 5 (dk_at dksX24_plan_9 9 rfl rfl)
theorem dX24_plan_218 : decode cX24_plan 218 = .ok (.iaload, 1) := dk_46 (dk_at dksX24_plan_9 11 rfl rfl)
theorem dX24_plan_219 : decode cX24_plan 219 = .ok (.iastore, 1) := dk_79 (dk_at dksX24_plan_9 12 rfl rfl)
theorem dX24_plan_220 : decode cX24_plan 220 = .ok (.aload_n 0, 1) := dk_42 (dk_at dksX24_plan_9 13 rfl rfl)
theorem dX24_plan_221 : decode cX24_plan 221 = .ok (.getfield 145, 3) := dk_180 0 145 (dk_at dksX24_plan_9 14 rfl rfl)
theorem dX24_plan_224 : decode cX24_plan 224 = .ok (.iload 5, 2) := dk_21 5 (dk_at dksX24_plan_9 17 rfl rfl)
theorem dX24_plan_226 : decode cX24_plan 226 = .ok (.aload_n 0, 1) := dk_42 (dk_at dksX24_plan_9 19 rfl rfl)
theorem dX24_plan_227 : decode cX24_plan 227 = .ok (.getfield 172, 3) := dk_180 0 172 (dk_at dksX24_plan_9 20 rfl rfl)
theorem dX24_plan_230 : decode cX24_plan 230 = .ok (.iload 5, 2) := dk_21 5 (dk_at dksX24_plan_10 0 rfl rfl)
theorem dX24_plan_232 : decode cX24_plan 232 = .ok (.laload, 1) := dk_47 (dk_at dksX24_plan_10 2 rfl rfl)
theorem dX24_plan_233 : decode cX24_plan 233 = .ok (.lastore, 1) := dk_80 (dk_at dksX24_plan_10 3 rfl rfl)
theorem dX24_plan_234 : decode cX24_plan 234 = .ok (.iinc 5 1, 3) := dk_132 5 1 (dk_at dksX24_plan_10 4 rfl rfl)
theorem dX24_plan_237 : decode cX24_plan 237 = .ok (.goto (-138), 3) := dk_167 255 118 (dk_at dksX24_plan_10 7 rfl rfl)
theorem dX24_plan_240 : decode cX24_plan 240 = .ok (.aload_n 0, 1) := dk_42 (dk_at dksX24_plan_10 10 rfl rfl)
theorem dX24_plan_241 : decode cX24_plan 241 = .ok (.getfield 438, 3) := dk_180 1 182 (dk_at dksX24_plan_10 11 rfl rfl)
theorem dX24_plan_244 : decode cX24_plan 244 = .ok (.ireturn, 1) := dk_172 (dk_at dksX24_plan_10 14 rfl rfl)
abbrev cX24_plans : ByteArray := prog_53_method_81_code
def yX24_plans : MethodName := ⟨RX24, "plans", "(I)Z"⟩
def dkwX24_plans_11 : List UInt8 := [182, 1, 179, 154, 0, 5, 3, 172, 42, 180, 0, 166, 28, 42, 180, 1, 176, 28, 100, 79, 4, 172]
abbrev dktX24_plans_11 : List UInt8 := dkwX24_plans_11 ++ []
def dkwX24_plans_10 : List UInt8 := [21, 6, 2, 159, 0, 12, 42, 21, 6, 182, 1, 179, 153, 0, 18, 21, 7, 2, 159, 0, 14, 42, 21, 7]
abbrev dktX24_plans_10 : List UInt8 := dkwX24_plans_10 ++ dktX24_plans_11
def dkwX24_plans_9 : List UInt8 := [16, 6, 160, 0, 7, 4, 167, 0, 4, 3, 79, 42, 180, 0, 172, 28, 42, 180, 0, 94, 27, 47, 80]
abbrev dktX24_plans_9 : List UInt8 := dkwX24_plans_9 ++ dktX24_plans_10
def dkwX24_plans_8 : List UInt8 := [180, 0, 112, 29, 46, 79, 42, 180, 0, 169, 28, 21, 5, 2, 159, 0, 19, 42, 180, 0, 38, 21, 5, 46]
abbrev dktX24_plans_8 : List UInt8 := dkwX24_plans_8 ++ dktX24_plans_9
def dkwX24_plans_7 : List UInt8 := [180, 0, 160, 28, 46, 167, 0, 10, 42, 180, 0, 41, 21, 5, 46, 79, 42, 180, 0, 163, 28, 42]
abbrev dktX24_plans_7 : List UInt8 := dkwX24_plans_7 ++ dktX24_plans_8
def dkwX24_plans_6 : List UInt8 := [16, 10, 160, 0, 12, 42, 180, 0, 157, 28, 46, 167, 0, 26, 21, 4, 16, 11, 160, 0, 12, 42]
abbrev dktX24_plans_6 : List UInt8 := dkwX24_plans_6 ++ dktX24_plans_7
def dkwX24_plans_5 : List UInt8 := [108, 4, 100, 79, 42, 180, 0, 160, 28, 27, 16, 6, 112, 4, 100, 79, 42, 180, 0, 151, 28, 21, 4]
abbrev dktX24_plans_5 : List UInt8 := dkwX24_plans_5 ++ dktX24_plans_6
def dkwX24_plans_4 : List UInt8 := [21, 4, 79, 42, 180, 0, 154, 28, 27, 16, 30, 108, 79, 42, 180, 0, 157, 28, 27, 16, 30, 112, 16, 6]
abbrev dktX24_plans_4 : List UInt8 := dkwX24_plans_4 ++ dktX24_plans_5
def dkwX24_plans_3 : List UInt8 := [54, 5, 42, 180, 0, 106, 29, 46, 54, 6, 42, 180, 0, 109, 29, 46, 54, 7, 42, 180, 0, 148, 28]
abbrev dktX24_plans_3 : List UInt8 := dkwX24_plans_3 ++ dktX24_plans_4
def dkwX24_plans_2 : List UInt8 := [153, 0, 9, 132, 3, 1, 167, 255, 238, 42, 180, 0, 100, 29, 46, 54, 4, 42, 180, 0, 103, 29, 46]
abbrev dktX24_plans_2 : List UInt8 := dkwX24_plans_2 ++ dktX24_plans_3
def dkwX24_plans_1 : List UInt8 := [181, 1, 176, 42, 27, 182, 1, 146, 3, 62, 42, 29, 182, 1, 149, 42, 180, 0, 94, 27, 47, 148]
abbrev dktX24_plans_1 : List UInt8 := dkwX24_plans_1 ++ dktX24_plans_2
def dkwX24_plans_0 : List UInt8 := [42, 180, 1, 176, 16, 120, 160, 0, 5, 3, 172, 42, 180, 1, 176, 61, 42, 89, 180, 1, 176, 4, 96]
abbrev dktX24_plans_0 : List UInt8 := dkwX24_plans_0 ++ dktX24_plans_1
theorem dksX24_plans_0 : cX24_plans.data.toList.drop 0 = dktX24_plans_0 := by decide +kernel
theorem dksX24_plans_1 : cX24_plans.data.toList.drop 23 = dktX24_plans_1 := dk_seg dksX24_plans_0 23 rfl rfl
theorem dksX24_plans_2 : cX24_plans.data.toList.drop 45 = dktX24_plans_2 := dk_seg dksX24_plans_1 22 rfl rfl
theorem dksX24_plans_3 : cX24_plans.data.toList.drop 68 = dktX24_plans_3 := dk_seg dksX24_plans_2 23 rfl rfl
theorem dksX24_plans_4 : cX24_plans.data.toList.drop 91 = dktX24_plans_4 := dk_seg dksX24_plans_3 23 rfl rfl
theorem dksX24_plans_5 : cX24_plans.data.toList.drop 115 = dktX24_plans_5 := dk_seg dksX24_plans_4 24 rfl rfl
theorem dksX24_plans_6 : cX24_plans.data.toList.drop 138 = dktX24_plans_6 := dk_seg dksX24_plans_5 23 rfl rfl
theorem dksX24_plans_7 : cX24_plans.data.toList.drop 160 = dktX24_plans_7 := dk_seg dksX24_plans_6 22 rfl rfl
theorem dksX24_plans_8 : cX24_plans.data.toList.drop 182 = dktX24_plans_8 := dk_seg dksX24_plans_7 22 rfl rfl
theorem dksX24_plans_9 : cX24_plans.data.toList.drop 206 = dktX24_plans_9 := dk_seg dksX24_plans_8 24 rfl rfl
theorem dksX24_plans_10 : cX24_plans.data.toList.drop 229 = dktX24_plans_10 := dk_seg dksX24_plans_9 23 rfl rfl
theorem dksX24_plans_11 : cX24_plans.data.toList.drop 253 = dktX24_plans_11 := dk_seg dksX24_plans_10 24 rfl rfl
theorem dX24_plans_0 : decode cX24_plans 0 = .ok (.aload_n 0, 1) := dk_42 (dk_at dksX24_plans_0 0 rfl rfl)
theorem dX24_plans_1 : decode cX24_plans 1 = .ok (.getfield 432, 3) := dk_180 1 176 (dk_at dksX24_plans_0 1 rfl rfl)
theorem dX24_plans_4 : decode cX24_plans 4 = .ok (.bipush 120, 2) := dk_16 120 (dk_at dksX24_plans_0 4 rfl rfl)
theorem dX24_plans_6 : decode cX24_plans 6 = .ok (.if_icmp .ne 5, 3) := dk_160 0 5 (dk_at dksX24_plans_0 6 rfl rfl)
theorem dX24_plans_9 : decode cX24_plans 9 = .ok (.iconst 0, 1) := dk_3 (dk_at dksX24_plans_0 9 rfl rfl)
theorem dX24_plans_10 : decode cX24_plans 10 = .ok (.ireturn, 1) := dk_172 (dk_at dksX24_plans_0 10 rfl rfl)
theorem dX24_plans_11 : decode cX24_plans 11 = .ok (.aload_n 0, 1) := dk_42 (dk_at dksX24_plans_0 11 rfl rfl)
theorem dX24_plans_12 : decode cX24_plans 12 = .ok (.getfield 432, 3) := dk_180 1 176 (dk_at dksX24_plans_0 12 rfl rfl)
theorem dX24_plans_15 : decode cX24_plans 15 = .ok (.istore_n 2, 1) := dk_61 (dk_at dksX24_plans_0 15 rfl rfl)
theorem dX24_plans_16 : decode cX24_plans 16 = .ok (.aload_n 0, 1) := dk_42 (dk_at dksX24_plans_0 16 rfl rfl)
theorem dX24_plans_17 : decode cX24_plans 17 = .ok (.dup, 1) := dk_89 (dk_at dksX24_plans_0 17 rfl rfl)
theorem dX24_plans_18 : decode cX24_plans 18 = .ok (.getfield 432, 3) := dk_180 1 176 (dk_at dksX24_plans_0 18 rfl rfl)
theorem dX24_plans_21 : decode cX24_plans 21 = .ok (.iconst 1, 1) := dk_4 (dk_at dksX24_plans_0 21 rfl rfl)
theorem dX24_plans_22 : decode cX24_plans 22 = .ok (.iadd, 1) := dk_96 (dk_at dksX24_plans_0 22 rfl rfl)
theorem dX24_plans_23 : decode cX24_plans 23 = .ok (.putfield 432, 3) := dk_181 1 176 (dk_at dksX24_plans_1 0 rfl rfl)
theorem dX24_plans_26 : decode cX24_plans 26 = .ok (.aload_n 0, 1) := dk_42 (dk_at dksX24_plans_1 3 rfl rfl)
theorem dX24_plans_27 : decode cX24_plans 27 = .ok (.iload_n 1, 1) := dk_27 (dk_at dksX24_plans_1 4 rfl rfl)
theorem dX24_plans_28 : decode cX24_plans 28 = .ok (.invokevirtual 402, 3) := dk_182 1 146 (dk_at dksX24_plans_1 5 rfl rfl)
theorem dX24_plans_31 : decode cX24_plans 31 = .ok (.iconst 0, 1) := dk_3 (dk_at dksX24_plans_1 8 rfl rfl)
theorem dX24_plans_32 : decode cX24_plans 32 = .ok (.istore_n 3, 1) := dk_62 (dk_at dksX24_plans_1 9 rfl rfl)
theorem dX24_plans_33 : decode cX24_plans 33 = .ok (.aload_n 0, 1) := dk_42 (dk_at dksX24_plans_1 10 rfl rfl)
theorem dX24_plans_34 : decode cX24_plans 34 = .ok (.iload_n 3, 1) := dk_29 (dk_at dksX24_plans_1 11 rfl rfl)
theorem dX24_plans_35 : decode cX24_plans 35 = .ok (.invokevirtual 405, 3) := dk_182 1 149 (dk_at dksX24_plans_1 12 rfl rfl)
theorem dX24_plans_38 : decode cX24_plans 38 = .ok (.aload_n 0, 1) := dk_42 (dk_at dksX24_plans_1 15 rfl rfl)
theorem dX24_plans_39 : decode cX24_plans 39 = .ok (.getfield 94, 3) := dk_180 0 94 (dk_at dksX24_plans_1 16 rfl rfl)
theorem dX24_plans_42 : decode cX24_plans 42 = .ok (.iload_n 1, 1) := dk_27 (dk_at dksX24_plans_1 19 rfl rfl)
theorem dX24_plans_43 : decode cX24_plans 43 = .ok (.laload, 1) := dk_47 (dk_at dksX24_plans_1 20 rfl rfl)
theorem dX24_plans_44 : decode cX24_plans 44 = .ok (.lcmp, 1) := dk_148 (dk_at dksX24_plans_1 21 rfl rfl)
theorem dX24_plans_45 : decode cX24_plans 45 = .ok (.ifCond .eq 9, 3) := dk_153 0 9 (dk_at dksX24_plans_2 0 rfl rfl)
theorem dX24_plans_48 : decode cX24_plans 48 = .ok (.iinc 3 1, 3) := dk_132 3 1 (dk_at dksX24_plans_2 3 rfl rfl)
theorem dX24_plans_51 : decode cX24_plans 51 = .ok (.goto (-18), 3) := dk_167 255 238 (dk_at dksX24_plans_2 6 rfl rfl)
theorem dX24_plans_54 : decode cX24_plans 54 = .ok (.aload_n 0, 1) := dk_42 (dk_at dksX24_plans_2 9 rfl rfl)
theorem dX24_plans_55 : decode cX24_plans 55 = .ok (.getfield 100, 3) := dk_180 0 100 (dk_at dksX24_plans_2 10 rfl rfl)
theorem dX24_plans_58 : decode cX24_plans 58 = .ok (.iload_n 3, 1) := dk_29 (dk_at dksX24_plans_2 13 rfl rfl)
theorem dX24_plans_59 : decode cX24_plans 59 = .ok (.iaload, 1) := dk_46 (dk_at dksX24_plans_2 14 rfl rfl)
theorem dX24_plans_60 : decode cX24_plans 60 = .ok (.istore 4, 2) := dk_54 4 (dk_at dksX24_plans_2 15 rfl rfl)
theorem dX24_plans_62 : decode cX24_plans 62 = .ok (.aload_n 0, 1) := dk_42 (dk_at dksX24_plans_2 17 rfl rfl)
theorem dX24_plans_63 : decode cX24_plans 63 = .ok (.getfield 103, 3) := dk_180 0 103 (dk_at dksX24_plans_2 18 rfl rfl)
theorem dX24_plans_66 : decode cX24_plans 66 = .ok (.iload_n 3, 1) := dk_29 (dk_at dksX24_plans_2 21 rfl rfl)
theorem dX24_plans_67 : decode cX24_plans 67 = .ok (.iaload, 1) := dk_46 (dk_at dksX24_plans_2 22 rfl rfl)
theorem dX24_plans_68 : decode cX24_plans 68 = .ok (.istore 5, 2) := dk_54 5 (dk_at dksX24_plans_3 0 rfl rfl)
theorem dX24_plans_70 : decode cX24_plans 70 = .ok (.aload_n 0, 1) := dk_42 (dk_at dksX24_plans_3 2 rfl rfl)
theorem dX24_plans_71 : decode cX24_plans 71 = .ok (.getfield 106, 3) := dk_180 0 106 (dk_at dksX24_plans_3 3 rfl rfl)
theorem dX24_plans_74 : decode cX24_plans 74 = .ok (.iload_n 3, 1) := dk_29 (dk_at dksX24_plans_3 6 rfl rfl)
theorem dX24_plans_75 : decode cX24_plans 75 = .ok (.iaload, 1) := dk_46 (dk_at dksX24_plans_3 7 rfl rfl)
theorem dX24_plans_76 : decode cX24_plans 76 = .ok (.istore 6, 2) := dk_54 6 (dk_at dksX24_plans_3 8 rfl rfl)
theorem dX24_plans_78 : decode cX24_plans 78 = .ok (.aload_n 0, 1) := dk_42 (dk_at dksX24_plans_3 10 rfl rfl)
theorem dX24_plans_79 : decode cX24_plans 79 = .ok (.getfield 109, 3) := dk_180 0 109 (dk_at dksX24_plans_3 11 rfl rfl)
theorem dX24_plans_82 : decode cX24_plans 82 = .ok (.iload_n 3, 1) := dk_29 (dk_at dksX24_plans_3 14 rfl rfl)
theorem dX24_plans_83 : decode cX24_plans 83 = .ok (.iaload, 1) := dk_46 (dk_at dksX24_plans_3 15 rfl rfl)
theorem dX24_plans_84 : decode cX24_plans 84 = .ok (.istore 7, 2) := dk_54 7 (dk_at dksX24_plans_3 16 rfl rfl)
theorem dX24_plans_86 : decode cX24_plans 86 = .ok (.aload_n 0, 1) := dk_42 (dk_at dksX24_plans_3 18 rfl rfl)
theorem dX24_plans_87 : decode cX24_plans 87 = .ok (.getfield 148, 3) := dk_180 0 148 (dk_at dksX24_plans_3 19 rfl rfl)
theorem dX24_plans_90 : decode cX24_plans 90 = .ok (.iload_n 2, 1) := dk_28 (dk_at dksX24_plans_3 22 rfl rfl)
theorem dX24_plans_91 : decode cX24_plans 91 = .ok (.iload 4, 2) := dk_21 4 (dk_at dksX24_plans_4 0 rfl rfl)
theorem dX24_plans_93 : decode cX24_plans 93 = .ok (.iastore, 1) := dk_79 (dk_at dksX24_plans_4 2 rfl rfl)
theorem dX24_plans_94 : decode cX24_plans 94 = .ok (.aload_n 0, 1) := dk_42 (dk_at dksX24_plans_4 3 rfl rfl)
theorem dX24_plans_95 : decode cX24_plans 95 = .ok (.getfield 154, 3) := dk_180 0 154 (dk_at dksX24_plans_4 4 rfl rfl)
theorem dX24_plans_98 : decode cX24_plans 98 = .ok (.iload_n 2, 1) := dk_28 (dk_at dksX24_plans_4 7 rfl rfl)
theorem dX24_plans_99 : decode cX24_plans 99 = .ok (.iload_n 1, 1) := dk_27 (dk_at dksX24_plans_4 8 rfl rfl)
theorem dX24_plans_100 : decode cX24_plans 100 = .ok (.bipush 30, 2) := dk_16 30 (dk_at dksX24_plans_4 9 rfl rfl)
theorem dX24_plans_102 : decode cX24_plans 102 = .ok (.idiv, 1) := dk_108 (dk_at dksX24_plans_4 11 rfl rfl)
theorem dX24_plans_103 : decode cX24_plans 103 = .ok (.iastore, 1) := dk_79 (dk_at dksX24_plans_4 12 rfl rfl)
theorem dX24_plans_104 : decode cX24_plans 104 = .ok (.aload_n 0, 1) := dk_42 (dk_at dksX24_plans_4 13 rfl rfl)
theorem dX24_plans_105 : decode cX24_plans 105 = .ok (.getfield 157, 3) := dk_180 0 157 (dk_at dksX24_plans_4 14 rfl rfl)
theorem dX24_plans_108 : decode cX24_plans 108 = .ok (.iload_n 2, 1) := dk_28 (dk_at dksX24_plans_4 17 rfl rfl)
theorem dX24_plans_109 : decode cX24_plans 109 = .ok (.iload_n 1, 1) := dk_27 (dk_at dksX24_plans_4 18 rfl rfl)
theorem dX24_plans_110 : decode cX24_plans 110 = .ok (.bipush 30, 2) := dk_16 30 (dk_at dksX24_plans_4 19 rfl rfl)
theorem dX24_plans_112 : decode cX24_plans 112 = .ok (.irem, 1) := dk_112 (dk_at dksX24_plans_4 21 rfl rfl)
theorem dX24_plans_113 : decode cX24_plans 113 = .ok (.bipush 6, 2) := dk_16 6 (dk_at dksX24_plans_4 22 rfl rfl)
theorem dX24_plans_115 : decode cX24_plans 115 = .ok (.idiv, 1) := dk_108 (dk_at dksX24_plans_5 0 rfl rfl)
theorem dX24_plans_116 : decode cX24_plans 116 = .ok (.iconst 1, 1) := dk_4 (dk_at dksX24_plans_5 1 rfl rfl)
theorem dX24_plans_117 : decode cX24_plans 117 = .ok (.isub, 1) := dk_100 (dk_at dksX24_plans_5 2 rfl rfl)
theorem dX24_plans_118 : decode cX24_plans 118 = .ok (.iastore, 1) := dk_79 (dk_at dksX24_plans_5 3 rfl rfl)
theorem dX24_plans_119 : decode cX24_plans 119 = .ok (.aload_n 0, 1) := dk_42 (dk_at dksX24_plans_5 4 rfl rfl)
theorem dX24_plans_120 : decode cX24_plans 120 = .ok (.getfield 160, 3) := dk_180 0 160 (dk_at dksX24_plans_5 5 rfl rfl)
theorem dX24_plans_123 : decode cX24_plans 123 = .ok (.iload_n 2, 1) := dk_28 (dk_at dksX24_plans_5 8 rfl rfl)
theorem dX24_plans_124 : decode cX24_plans 124 = .ok (.iload_n 1, 1) := dk_27 (dk_at dksX24_plans_5 9 rfl rfl)
theorem dX24_plans_125 : decode cX24_plans 125 = .ok (.bipush 6, 2) := dk_16 6 (dk_at dksX24_plans_5 10 rfl rfl)
theorem dX24_plans_127 : decode cX24_plans 127 = .ok (.irem, 1) := dk_112 (dk_at dksX24_plans_5 12 rfl rfl)
theorem dX24_plans_128 : decode cX24_plans 128 = .ok (.iconst 1, 1) := dk_4 (dk_at dksX24_plans_5 13 rfl rfl)
theorem dX24_plans_129 : decode cX24_plans 129 = .ok (.isub, 1) := dk_100 (dk_at dksX24_plans_5 14 rfl rfl)
theorem dX24_plans_130 : decode cX24_plans 130 = .ok (.iastore, 1) := dk_79 (dk_at dksX24_plans_5 15 rfl rfl)
theorem dX24_plans_131 : decode cX24_plans 131 = .ok (.aload_n 0, 1) := dk_42 (dk_at dksX24_plans_5 16 rfl rfl)
theorem dX24_plans_132 : decode cX24_plans 132 = .ok (.getfield 151, 3) := dk_180 0 151 (dk_at dksX24_plans_5 17 rfl rfl)
theorem dX24_plans_135 : decode cX24_plans 135 = .ok (.iload_n 2, 1) := dk_28 (dk_at dksX24_plans_5 20 rfl rfl)
theorem dX24_plans_136 : decode cX24_plans 136 = .ok (.iload 4, 2) := dk_21 4 (dk_at dksX24_plans_5 21 rfl rfl)
theorem dX24_plans_138 : decode cX24_plans 138 = .ok (.bipush 10, 2) := dk_16 10 (dk_at dksX24_plans_6 0 rfl rfl)
theorem dX24_plans_140 : decode cX24_plans 140 = .ok (.if_icmp .ne 12, 3) := dk_160 0 12 (dk_at dksX24_plans_6 2 rfl rfl)
theorem dX24_plans_143 : decode cX24_plans 143 = .ok (.aload_n 0, 1) := dk_42 (dk_at dksX24_plans_6 5 rfl rfl)
theorem dX24_plans_144 : decode cX24_plans 144 = .ok (.getfield 157, 3) := dk_180 0 157 (dk_at dksX24_plans_6 6 rfl rfl)
theorem dX24_plans_147 : decode cX24_plans 147 = .ok (.iload_n 2, 1) := dk_28 (dk_at dksX24_plans_6 9 rfl rfl)
theorem dX24_plans_148 : decode cX24_plans 148 = .ok (.iaload, 1) := dk_46 (dk_at dksX24_plans_6 10 rfl rfl)
theorem dX24_plans_149 : decode cX24_plans 149 = .ok (.goto 26, 3) := dk_167 0 26 (dk_at dksX24_plans_6 11 rfl rfl)
theorem dX24_plans_152 : decode cX24_plans 152 = .ok (.iload 4, 2) := dk_21 4 (dk_at dksX24_plans_6 14 rfl rfl)
theorem dX24_plans_154 : decode cX24_plans 154 = .ok (.bipush 11, 2) := dk_16 11 (dk_at dksX24_plans_6 16 rfl rfl)
theorem dX24_plans_156 : decode cX24_plans 156 = .ok (.if_icmp .ne 12, 3) := dk_160 0 12 (dk_at dksX24_plans_6 18 rfl rfl)
theorem dX24_plans_159 : decode cX24_plans 159 = .ok (.aload_n 0, 1) := dk_42 (dk_at dksX24_plans_6 21 rfl rfl)
theorem dX24_plans_160 : decode cX24_plans 160 = .ok (.getfield 160, 3) := dk_180 0 160 (dk_at dksX24_plans_7 0 rfl rfl)
theorem dX24_plans_163 : decode cX24_plans 163 = .ok (.iload_n 2, 1) := dk_28 (dk_at dksX24_plans_7 3 rfl rfl)
theorem dX24_plans_164 : decode cX24_plans 164 = .ok (.iaload, 1) := dk_46 (dk_at dksX24_plans_7 4 rfl rfl)
theorem dX24_plans_165 : decode cX24_plans 165 = .ok (.goto 10, 3) := dk_167 0 10 (dk_at dksX24_plans_7 5 rfl rfl)
theorem dX24_plans_168 : decode cX24_plans 168 = .ok (.aload_n 0, 1) := dk_42 (dk_at dksX24_plans_7 8 rfl rfl)
theorem dX24_plans_169 : decode cX24_plans 169 = .ok (.getfield 41, 3) := dk_180 0 41 (dk_at dksX24_plans_7 9 rfl rfl)
theorem dX24_plans_172 : decode cX24_plans 172 = .ok (.iload 5, 2) := dk_21 5 (dk_at dksX24_plans_7 12 rfl rfl)
theorem dX24_plans_174 : decode cX24_plans 174 = .ok (.iaload, 1) := dk_46 (dk_at dksX24_plans_7 14 rfl rfl)
theorem dX24_plans_175 : decode cX24_plans 175 = .ok (.iastore, 1) := dk_79 (dk_at dksX24_plans_7 15 rfl rfl)
theorem dX24_plans_176 : decode cX24_plans 176 = .ok (.aload_n 0, 1) := dk_42 (dk_at dksX24_plans_7 16 rfl rfl)
theorem dX24_plans_177 : decode cX24_plans 177 = .ok (.getfield 163, 3) := dk_180 0 163 (dk_at dksX24_plans_7 17 rfl rfl)
theorem dX24_plans_180 : decode cX24_plans 180 = .ok (.iload_n 2, 1) := dk_28 (dk_at dksX24_plans_7 20 rfl rfl)
theorem dX24_plans_181 : decode cX24_plans 181 = .ok (.aload_n 0, 1) := dk_42 (dk_at dksX24_plans_7 21 rfl rfl)
theorem dX24_plans_182 : decode cX24_plans 182 = .ok (.getfield 112, 3) := dk_180 0 112 (dk_at dksX24_plans_8 0 rfl rfl)
theorem dX24_plans_185 : decode cX24_plans 185 = .ok (.iload_n 3, 1) := dk_29 (dk_at dksX24_plans_8 3 rfl rfl)
theorem dX24_plans_186 : decode cX24_plans 186 = .ok (.iaload, 1) := dk_46 (dk_at dksX24_plans_8 4 rfl rfl)
theorem dX24_plans_187 : decode cX24_plans 187 = .ok (.iastore, 1) := dk_79 (dk_at dksX24_plans_8 5 rfl rfl)
theorem dX24_plans_188 : decode cX24_plans 188 = .ok (.aload_n 0, 1) := dk_42 (dk_at dksX24_plans_8 6 rfl rfl)
theorem dX24_plans_189 : decode cX24_plans 189 = .ok (.getfield 169, 3) := dk_180 0 169 (dk_at dksX24_plans_8 7 rfl rfl)
theorem dX24_plans_192 : decode cX24_plans 192 = .ok (.iload_n 2, 1) := dk_28 (dk_at dksX24_plans_8 10 rfl rfl)
theorem dX24_plans_193 : decode cX24_plans 193 = .ok (.iload 5, 2) := dk_21 5 (dk_at dksX24_plans_8 11 rfl rfl)
theorem dX24_plans_195 : decode cX24_plans 195 = .ok (.iconst (-1), 1) := dk_2 (dk_at dksX24_plans_8 13 rfl rfl)
theorem dX24_plans_196 : decode cX24_plans 196 = .ok (.if_icmp .eq 19, 3) := dk_159 0 19 (dk_at dksX24_plans_8 14 rfl rfl)
theorem dX24_plans_199 : decode cX24_plans 199 = .ok (.aload_n 0, 1) := dk_42 (dk_at dksX24_plans_8 17 rfl rfl)
theorem dX24_plans_200 : decode cX24_plans 200 = .ok (.getfield 38, 3) := dk_180 0 38 (dk_at dksX24_plans_8 18 rfl rfl)
theorem dX24_plans_203 : decode cX24_plans 203 = .ok (.iload 5, 2) := dk_21 5 (dk_at dksX24_plans_8 21 rfl rfl)
theorem dX24_plans_205 : decode cX24_plans 205 = .ok (.iaload, 1) := dk_46 (dk_at dksX24_plans_8 23 rfl rfl)
theorem dX24_plans_206 : decode cX24_plans 206 = .ok (.bipush 6, 2) := dk_16 6 (dk_at dksX24_plans_9 0 rfl rfl)
theorem dX24_plans_208 : decode cX24_plans 208 = .ok (.if_icmp .ne 7, 3) := dk_160 0 7 (dk_at dksX24_plans_9 2 rfl rfl)
theorem dX24_plans_211 : decode cX24_plans 211 = .ok (.iconst 1, 1) := dk_4 (dk_at dksX24_plans_9 5 rfl rfl)
theorem dX24_plans_212 : decode cX24_plans 212 = .ok (.goto 4, 3) := dk_167 0 4 (dk_at dksX24_plans_9 6 rfl rfl)
theorem dX24_plans_215 : decode cX24_plans 215 = .ok (.iconst 0, 1) := dk_3 (dk_at dksX24_plans_9 9 rfl rfl)
theorem dX24_plans_216 : decode cX24_plans 216 = .ok (.iastore, 1) := dk_79 (dk_at dksX24_plans_9 10 rfl rfl)
theorem dX24_plans_217 : decode cX24_plans 217 = .ok (.aload_n 0, 1) := dk_42 (dk_at dksX24_plans_9 11 rfl rfl)
theorem dX24_plans_218 : decode cX24_plans 218 = .ok (.getfield 172, 3) := dk_180 0 172 (dk_at dksX24_plans_9 12 rfl rfl)
theorem dX24_plans_221 : decode cX24_plans 221 = .ok (.iload_n 2, 1) := dk_28 (dk_at dksX24_plans_9 15 rfl rfl)
theorem dX24_plans_222 : decode cX24_plans 222 = .ok (.aload_n 0, 1) := dk_42 (dk_at dksX24_plans_9 16 rfl rfl)
theorem dX24_plans_223 : decode cX24_plans 223 = .ok (.getfield 94, 3) := dk_180 0 94 (dk_at dksX24_plans_9 17 rfl rfl)
theorem dX24_plans_226 : decode cX24_plans 226 = .ok (.iload_n 1, 1) := dk_27 (dk_at dksX24_plans_9 20 rfl rfl)
theorem dX24_plans_227 : decode cX24_plans 227 = .ok (.laload, 1) := dk_47 (dk_at dksX24_plans_9 21 rfl rfl)
theorem dX24_plans_228 : decode cX24_plans 228 = .ok (.lastore, 1) := dk_80 (dk_at dksX24_plans_9 22 rfl rfl)
theorem dX24_plans_229 : decode cX24_plans 229 = .ok (.iload 6, 2) := dk_21 6 (dk_at dksX24_plans_10 0 rfl rfl)
theorem dX24_plans_231 : decode cX24_plans 231 = .ok (.iconst (-1), 1) := dk_2 (dk_at dksX24_plans_10 2 rfl rfl)
theorem dX24_plans_232 : decode cX24_plans 232 = .ok (.if_icmp .eq 12, 3) := dk_159 0 12 (dk_at dksX24_plans_10 3 rfl rfl)
theorem dX24_plans_235 : decode cX24_plans 235 = .ok (.aload_n 0, 1) := dk_42 (dk_at dksX24_plans_10 6 rfl rfl)
theorem dX24_plans_236 : decode cX24_plans 236 = .ok (.iload 6, 2) := dk_21 6 (dk_at dksX24_plans_10 7 rfl rfl)
theorem dX24_plans_238 : decode cX24_plans 238 = .ok (.invokevirtual 435, 3) := dk_182 1 179 (dk_at dksX24_plans_10 9 rfl rfl)
theorem dX24_plans_241 : decode cX24_plans 241 = .ok (.ifCond .eq 18, 3) := dk_153 0 18 (dk_at dksX24_plans_10 12 rfl rfl)
theorem dX24_plans_244 : decode cX24_plans 244 = .ok (.iload 7, 2) := dk_21 7 (dk_at dksX24_plans_10 15 rfl rfl)
theorem dX24_plans_246 : decode cX24_plans 246 = .ok (.iconst (-1), 1) := dk_2 (dk_at dksX24_plans_10 17 rfl rfl)
theorem dX24_plans_247 : decode cX24_plans 247 = .ok (.if_icmp .eq 14, 3) := dk_159 0 14 (dk_at dksX24_plans_10 18 rfl rfl)
theorem dX24_plans_250 : decode cX24_plans 250 = .ok (.aload_n 0, 1) := dk_42 (dk_at dksX24_plans_10 21 rfl rfl)
theorem dX24_plans_251 : decode cX24_plans 251 = .ok (.iload 7, 2) := dk_21 7 (dk_at dksX24_plans_10 22 rfl rfl)
theorem dX24_plans_253 : decode cX24_plans 253 = .ok (.invokevirtual 435, 3) := dk_182 1 179 (dk_at dksX24_plans_11 0 rfl rfl)
theorem dX24_plans_256 : decode cX24_plans 256 = .ok (.ifCond .ne 5, 3) := dk_154 0 5 (dk_at dksX24_plans_11 3 rfl rfl)
theorem dX24_plans_259 : decode cX24_plans 259 = .ok (.iconst 0, 1) := dk_3 (dk_at dksX24_plans_11 6 rfl rfl)
theorem dX24_plans_260 : decode cX24_plans 260 = .ok (.ireturn, 1) := dk_172 (dk_at dksX24_plans_11 7 rfl rfl)
theorem dX24_plans_261 : decode cX24_plans 261 = .ok (.aload_n 0, 1) := dk_42 (dk_at dksX24_plans_11 8 rfl rfl)
theorem dX24_plans_262 : decode cX24_plans 262 = .ok (.getfield 166, 3) := dk_180 0 166 (dk_at dksX24_plans_11 9 rfl rfl)
theorem dX24_plans_265 : decode cX24_plans 265 = .ok (.iload_n 2, 1) := dk_28 (dk_at dksX24_plans_11 12 rfl rfl)
theorem dX24_plans_266 : decode cX24_plans 266 = .ok (.aload_n 0, 1) := dk_42 (dk_at dksX24_plans_11 13 rfl rfl)
theorem dX24_plans_267 : decode cX24_plans 267 = .ok (.getfield 432, 3) := dk_180 1 176 (dk_at dksX24_plans_11 14 rfl rfl)
theorem dX24_plans_270 : decode cX24_plans 270 = .ok (.iload_n 2, 1) := dk_28 (dk_at dksX24_plans_11 17 rfl rfl)
theorem dX24_plans_271 : decode cX24_plans 271 = .ok (.isub, 1) := dk_100 (dk_at dksX24_plans_11 18 rfl rfl)
theorem dX24_plans_272 : decode cX24_plans 272 = .ok (.iastore, 1) := dk_79 (dk_at dksX24_plans_11 19 rfl rfl)
theorem dX24_plans_273 : decode cX24_plans 273 = .ok (.iconst 1, 1) := dk_4 (dk_at dksX24_plans_11 20 rfl rfl)
theorem dX24_plans_274 : decode cX24_plans 274 = .ok (.ireturn, 1) := dk_172 (dk_at dksX24_plans_11 21 rfl rfl)
abbrev cX24_planAt : ByteArray := prog_53_method_83_code
def yX24_planAt : MethodName := ⟨RX24, "planAt", "(II)I"⟩
def dkwX24_planAt_5 : List UInt8 := [180, 0, 136, 27, 46, 167, 0, 9, 42, 180, 0, 139, 27, 46, 172]
abbrev dktX24_planAt_5 : List UInt8 := dkwX24_planAt_5 ++ []
def dkwX24_planAt_4 : List UInt8 := [167, 0, 38, 28, 8, 160, 0, 12, 42, 180, 0, 133, 27, 46, 167, 0, 24, 28, 16, 6, 160, 0, 12, 42]
abbrev dktX24_planAt_4 : List UInt8 := dkwX24_planAt_4 ++ dktX24_planAt_5
def dkwX24_planAt_3 : List UInt8 := [6, 160, 0, 12, 42, 180, 0, 127, 27, 46, 167, 0, 52, 28, 7, 160, 0, 12, 42, 180, 0, 130, 27, 46]
abbrev dktX24_planAt_3 : List UInt8 := dkwX24_planAt_3 ++ dktX24_planAt_4
def dkwX24_planAt_2 : List UInt8 := [42, 180, 0, 121, 27, 46, 167, 0, 80, 28, 5, 160, 0, 12, 42, 180, 0, 124, 27, 46, 167, 0, 66, 28]
abbrev dktX24_planAt_2 : List UInt8 := dkwX24_planAt_2 ++ dktX24_planAt_3
def dkwX24_planAt_1 : List UInt8 := [16, 251, 182, 0, 206, 172, 28, 154, 0, 12, 42, 180, 0, 118, 27, 46, 167, 0, 94, 28, 4, 160, 0, 12]
abbrev dktX24_planAt_1 : List UInt8 := dkwX24_planAt_1 ++ dktX24_planAt_2
def dkwX24_planAt_0 : List UInt8 := [27, 155, 0, 22, 27, 42, 180, 1, 182, 162, 0, 14, 42, 28, 3, 16, 7, 182, 0, 217, 154, 0, 10, 42]
abbrev dktX24_planAt_0 : List UInt8 := dkwX24_planAt_0 ++ dktX24_planAt_1
theorem dksX24_planAt_0 : cX24_planAt.data.toList.drop 0 = dktX24_planAt_0 := by decide +kernel
theorem dksX24_planAt_1 : cX24_planAt.data.toList.drop 24 = dktX24_planAt_1 := dk_seg dksX24_planAt_0 24 rfl rfl
theorem dksX24_planAt_2 : cX24_planAt.data.toList.drop 48 = dktX24_planAt_2 := dk_seg dksX24_planAt_1 24 rfl rfl
theorem dksX24_planAt_3 : cX24_planAt.data.toList.drop 72 = dktX24_planAt_3 := dk_seg dksX24_planAt_2 24 rfl rfl
theorem dksX24_planAt_4 : cX24_planAt.data.toList.drop 96 = dktX24_planAt_4 := dk_seg dksX24_planAt_3 24 rfl rfl
theorem dksX24_planAt_5 : cX24_planAt.data.toList.drop 120 = dktX24_planAt_5 := dk_seg dksX24_planAt_4 24 rfl rfl
theorem dX24_planAt_0 : decode cX24_planAt 0 = .ok (.iload_n 1, 1) := dk_27 (dk_at dksX24_planAt_0 0 rfl rfl)
theorem dX24_planAt_1 : decode cX24_planAt 1 = .ok (.ifCond .lt 22, 3) := dk_155 0 22 (dk_at dksX24_planAt_0 1 rfl rfl)
theorem dX24_planAt_4 : decode cX24_planAt 4 = .ok (.iload_n 1, 1) := dk_27 (dk_at dksX24_planAt_0 4 rfl rfl)
theorem dX24_planAt_5 : decode cX24_planAt 5 = .ok (.aload_n 0, 1) := dk_42 (dk_at dksX24_planAt_0 5 rfl rfl)
theorem dX24_planAt_6 : decode cX24_planAt 6 = .ok (.getfield 438, 3) := dk_180 1 182 (dk_at dksX24_planAt_0 6 rfl rfl)
theorem dX24_planAt_9 : decode cX24_planAt 9 = .ok (.if_icmp .ge 14, 3) := dk_162 0 14 (dk_at dksX24_planAt_0 9 rfl rfl)
theorem dX24_planAt_12 : decode cX24_planAt 12 = .ok (.aload_n 0, 1) := dk_42 (dk_at dksX24_planAt_0 12 rfl rfl)
theorem dX24_planAt_13 : decode cX24_planAt 13 = .ok (.iload_n 2, 1) := dk_28 (dk_at dksX24_planAt_0 13 rfl rfl)
theorem dX24_planAt_14 : decode cX24_planAt 14 = .ok (.iconst 0, 1) := dk_3 (dk_at dksX24_planAt_0 14 rfl rfl)
theorem dX24_planAt_15 : decode cX24_planAt 15 = .ok (.bipush 7, 2) := dk_16 7 (dk_at dksX24_planAt_0 15 rfl rfl)
theorem dX24_planAt_17 : decode cX24_planAt 17 = .ok (.invokevirtual 217, 3) := dk_182 0 217 (dk_at dksX24_planAt_0 17 rfl rfl)
theorem dX24_planAt_20 : decode cX24_planAt 20 = .ok (.ifCond .ne 10, 3) := dk_154 0 10 (dk_at dksX24_planAt_0 20 rfl rfl)
theorem dX24_planAt_23 : decode cX24_planAt 23 = .ok (.aload_n 0, 1) := dk_42 (dk_at dksX24_planAt_0 23 rfl rfl)
theorem dX24_planAt_24 : decode cX24_planAt 24 = .ok (.bipush (-5), 2) := dk_16 251 (dk_at dksX24_planAt_1 0 rfl rfl)
theorem dX24_planAt_26 : decode cX24_planAt 26 = .ok (.invokevirtual 206, 3) := dk_182 0 206 (dk_at dksX24_planAt_1 2 rfl rfl)
theorem dX24_planAt_29 : decode cX24_planAt 29 = .ok (.ireturn, 1) := dk_172 (dk_at dksX24_planAt_1 5 rfl rfl)
theorem dX24_planAt_30 : decode cX24_planAt 30 = .ok (.iload_n 2, 1) := dk_28 (dk_at dksX24_planAt_1 6 rfl rfl)
theorem dX24_planAt_31 : decode cX24_planAt 31 = .ok (.ifCond .ne 12, 3) := dk_154 0 12 (dk_at dksX24_planAt_1 7 rfl rfl)
theorem dX24_planAt_34 : decode cX24_planAt 34 = .ok (.aload_n 0, 1) := dk_42 (dk_at dksX24_planAt_1 10 rfl rfl)
theorem dX24_planAt_35 : decode cX24_planAt 35 = .ok (.getfield 118, 3) := dk_180 0 118 (dk_at dksX24_planAt_1 11 rfl rfl)
theorem dX24_planAt_38 : decode cX24_planAt 38 = .ok (.iload_n 1, 1) := dk_27 (dk_at dksX24_planAt_1 14 rfl rfl)
theorem dX24_planAt_39 : decode cX24_planAt 39 = .ok (.iaload, 1) := dk_46 (dk_at dksX24_planAt_1 15 rfl rfl)
theorem dX24_planAt_40 : decode cX24_planAt 40 = .ok (.goto 94, 3) := dk_167 0 94 (dk_at dksX24_planAt_1 16 rfl rfl)
theorem dX24_planAt_43 : decode cX24_planAt 43 = .ok (.iload_n 2, 1) := dk_28 (dk_at dksX24_planAt_1 19 rfl rfl)
theorem dX24_planAt_44 : decode cX24_planAt 44 = .ok (.iconst 1, 1) := dk_4 (dk_at dksX24_planAt_1 20 rfl rfl)
theorem dX24_planAt_45 : decode cX24_planAt 45 = .ok (.if_icmp .ne 12, 3) := dk_160 0 12 (dk_at dksX24_planAt_1 21 rfl rfl)
theorem dX24_planAt_48 : decode cX24_planAt 48 = .ok (.aload_n 0, 1) := dk_42 (dk_at dksX24_planAt_2 0 rfl rfl)
theorem dX24_planAt_49 : decode cX24_planAt 49 = .ok (.getfield 121, 3) := dk_180 0 121 (dk_at dksX24_planAt_2 1 rfl rfl)
theorem dX24_planAt_52 : decode cX24_planAt 52 = .ok (.iload_n 1, 1) := dk_27 (dk_at dksX24_planAt_2 4 rfl rfl)
theorem dX24_planAt_53 : decode cX24_planAt 53 = .ok (.iaload, 1) := dk_46 (dk_at dksX24_planAt_2 5 rfl rfl)
theorem dX24_planAt_54 : decode cX24_planAt 54 = .ok (.goto 80, 3) := dk_167 0 80 (dk_at dksX24_planAt_2 6 rfl rfl)
theorem dX24_planAt_57 : decode cX24_planAt 57 = .ok (.iload_n 2, 1) := dk_28 (dk_at dksX24_planAt_2 9 rfl rfl)
theorem dX24_planAt_58 : decode cX24_planAt 58 = .ok (.iconst 2, 1) := dk_5 (dk_at dksX24_planAt_2 10 rfl rfl)
theorem dX24_planAt_59 : decode cX24_planAt 59 = .ok (.if_icmp .ne 12, 3) := dk_160 0 12 (dk_at dksX24_planAt_2 11 rfl rfl)
theorem dX24_planAt_62 : decode cX24_planAt 62 = .ok (.aload_n 0, 1) := dk_42 (dk_at dksX24_planAt_2 14 rfl rfl)
theorem dX24_planAt_63 : decode cX24_planAt 63 = .ok (.getfield 124, 3) := dk_180 0 124 (dk_at dksX24_planAt_2 15 rfl rfl)
theorem dX24_planAt_66 : decode cX24_planAt 66 = .ok (.iload_n 1, 1) := dk_27 (dk_at dksX24_planAt_2 18 rfl rfl)
theorem dX24_planAt_67 : decode cX24_planAt 67 = .ok (.iaload, 1) := dk_46 (dk_at dksX24_planAt_2 19 rfl rfl)
theorem dX24_planAt_68 : decode cX24_planAt 68 = .ok (.goto 66, 3) := dk_167 0 66 (dk_at dksX24_planAt_2 20 rfl rfl)
theorem dX24_planAt_71 : decode cX24_planAt 71 = .ok (.iload_n 2, 1) := dk_28 (dk_at dksX24_planAt_2 23 rfl rfl)
theorem dX24_planAt_72 : decode cX24_planAt 72 = .ok (.iconst 3, 1) := dk_6 (dk_at dksX24_planAt_3 0 rfl rfl)
theorem dX24_planAt_73 : decode cX24_planAt 73 = .ok (.if_icmp .ne 12, 3) := dk_160 0 12 (dk_at dksX24_planAt_3 1 rfl rfl)
theorem dX24_planAt_76 : decode cX24_planAt 76 = .ok (.aload_n 0, 1) := dk_42 (dk_at dksX24_planAt_3 4 rfl rfl)
theorem dX24_planAt_77 : decode cX24_planAt 77 = .ok (.getfield 127, 3) := dk_180 0 127 (dk_at dksX24_planAt_3 5 rfl rfl)
theorem dX24_planAt_80 : decode cX24_planAt 80 = .ok (.iload_n 1, 1) := dk_27 (dk_at dksX24_planAt_3 8 rfl rfl)
theorem dX24_planAt_81 : decode cX24_planAt 81 = .ok (.iaload, 1) := dk_46 (dk_at dksX24_planAt_3 9 rfl rfl)
theorem dX24_planAt_82 : decode cX24_planAt 82 = .ok (.goto 52, 3) := dk_167 0 52 (dk_at dksX24_planAt_3 10 rfl rfl)
theorem dX24_planAt_85 : decode cX24_planAt 85 = .ok (.iload_n 2, 1) := dk_28 (dk_at dksX24_planAt_3 13 rfl rfl)
theorem dX24_planAt_86 : decode cX24_planAt 86 = .ok (.iconst 4, 1) := dk_7 (dk_at dksX24_planAt_3 14 rfl rfl)
theorem dX24_planAt_87 : decode cX24_planAt 87 = .ok (.if_icmp .ne 12, 3) := dk_160 0 12 (dk_at dksX24_planAt_3 15 rfl rfl)
theorem dX24_planAt_90 : decode cX24_planAt 90 = .ok (.aload_n 0, 1) := dk_42 (dk_at dksX24_planAt_3 18 rfl rfl)
theorem dX24_planAt_91 : decode cX24_planAt 91 = .ok (.getfield 130, 3) := dk_180 0 130 (dk_at dksX24_planAt_3 19 rfl rfl)
theorem dX24_planAt_94 : decode cX24_planAt 94 = .ok (.iload_n 1, 1) := dk_27 (dk_at dksX24_planAt_3 22 rfl rfl)
theorem dX24_planAt_95 : decode cX24_planAt 95 = .ok (.iaload, 1) := dk_46 (dk_at dksX24_planAt_3 23 rfl rfl)
theorem dX24_planAt_96 : decode cX24_planAt 96 = .ok (.goto 38, 3) := dk_167 0 38 (dk_at dksX24_planAt_4 0 rfl rfl)
theorem dX24_planAt_99 : decode cX24_planAt 99 = .ok (.iload_n 2, 1) := dk_28 (dk_at dksX24_planAt_4 3 rfl rfl)
theorem dX24_planAt_100 : decode cX24_planAt 100 = .ok (.iconst 5, 1) := dk_8 (dk_at dksX24_planAt_4 4 rfl rfl)
theorem dX24_planAt_101 : decode cX24_planAt 101 = .ok (.if_icmp .ne 12, 3) := dk_160 0 12 (dk_at dksX24_planAt_4 5 rfl rfl)
theorem dX24_planAt_104 : decode cX24_planAt 104 = .ok (.aload_n 0, 1) := dk_42 (dk_at dksX24_planAt_4 8 rfl rfl)
theorem dX24_planAt_105 : decode cX24_planAt 105 = .ok (.getfield 133, 3) := dk_180 0 133 (dk_at dksX24_planAt_4 9 rfl rfl)
theorem dX24_planAt_108 : decode cX24_planAt 108 = .ok (.iload_n 1, 1) := dk_27 (dk_at dksX24_planAt_4 12 rfl rfl)
theorem dX24_planAt_109 : decode cX24_planAt 109 = .ok (.iaload, 1) := dk_46 (dk_at dksX24_planAt_4 13 rfl rfl)
theorem dX24_planAt_110 : decode cX24_planAt 110 = .ok (.goto 24, 3) := dk_167 0 24 (dk_at dksX24_planAt_4 14 rfl rfl)
theorem dX24_planAt_113 : decode cX24_planAt 113 = .ok (.iload_n 2, 1) := dk_28 (dk_at dksX24_planAt_4 17 rfl rfl)
theorem dX24_planAt_114 : decode cX24_planAt 114 = .ok (.bipush 6, 2) := dk_16 6 (dk_at dksX24_planAt_4 18 rfl rfl)
theorem dX24_planAt_116 : decode cX24_planAt 116 = .ok (.if_icmp .ne 12, 3) := dk_160 0 12 (dk_at dksX24_planAt_4 20 rfl rfl)
theorem dX24_planAt_119 : decode cX24_planAt 119 = .ok (.aload_n 0, 1) := dk_42 (dk_at dksX24_planAt_4 23 rfl rfl)
theorem dX24_planAt_120 : decode cX24_planAt 120 = .ok (.getfield 136, 3) := dk_180 0 136 (dk_at dksX24_planAt_5 0 rfl rfl)
theorem dX24_planAt_123 : decode cX24_planAt 123 = .ok (.iload_n 1, 1) := dk_27 (dk_at dksX24_planAt_5 3 rfl rfl)
theorem dX24_planAt_124 : decode cX24_planAt 124 = .ok (.iaload, 1) := dk_46 (dk_at dksX24_planAt_5 4 rfl rfl)
theorem dX24_planAt_125 : decode cX24_planAt 125 = .ok (.goto 9, 3) := dk_167 0 9 (dk_at dksX24_planAt_5 5 rfl rfl)
theorem dX24_planAt_128 : decode cX24_planAt 128 = .ok (.aload_n 0, 1) := dk_42 (dk_at dksX24_planAt_5 8 rfl rfl)
theorem dX24_planAt_129 : decode cX24_planAt 129 = .ok (.getfield 139, 3) := dk_180 0 139 (dk_at dksX24_planAt_5 9 rfl rfl)
theorem dX24_planAt_132 : decode cX24_planAt 132 = .ok (.iload_n 1, 1) := dk_27 (dk_at dksX24_planAt_5 12 rfl rfl)
theorem dX24_planAt_133 : decode cX24_planAt 133 = .ok (.iaload, 1) := dk_46 (dk_at dksX24_planAt_5 13 rfl rfl)
theorem dX24_planAt_134 : decode cX24_planAt 134 = .ok (.ireturn, 1) := dk_172 (dk_at dksX24_planAt_5 14 rfl rfl)
abbrev cX24_planCost : ByteArray := prog_53_method_84_code
def yX24_planCost : MethodName := ⟨RX24, "planCost", "(I)J"⟩
def dkwX24_planCost_1 : List UInt8 := [180, 0, 145, 27, 47, 173]
abbrev dktX24_planCost_1 : List UInt8 := dkwX24_planCost_1 ++ []
def dkwX24_planCost_0 : List UInt8 := [27, 155, 0, 11, 27, 42, 180, 1, 182, 161, 0, 13, 42, 16, 251, 182, 0, 206, 133, 167, 0, 9, 42]
abbrev dktX24_planCost_0 : List UInt8 := dkwX24_planCost_0 ++ dktX24_planCost_1
theorem dksX24_planCost_0 : cX24_planCost.data.toList.drop 0 = dktX24_planCost_0 := by decide +kernel
theorem dksX24_planCost_1 : cX24_planCost.data.toList.drop 23 = dktX24_planCost_1 := dk_seg dksX24_planCost_0 23 rfl rfl
theorem dX24_planCost_0 : decode cX24_planCost 0 = .ok (.iload_n 1, 1) := dk_27 (dk_at dksX24_planCost_0 0 rfl rfl)
theorem dX24_planCost_1 : decode cX24_planCost 1 = .ok (.ifCond .lt 11, 3) := dk_155 0 11 (dk_at dksX24_planCost_0 1 rfl rfl)
theorem dX24_planCost_4 : decode cX24_planCost 4 = .ok (.iload_n 1, 1) := dk_27 (dk_at dksX24_planCost_0 4 rfl rfl)
theorem dX24_planCost_5 : decode cX24_planCost 5 = .ok (.aload_n 0, 1) := dk_42 (dk_at dksX24_planCost_0 5 rfl rfl)
theorem dX24_planCost_6 : decode cX24_planCost 6 = .ok (.getfield 438, 3) := dk_180 1 182 (dk_at dksX24_planCost_0 6 rfl rfl)
theorem dX24_planCost_9 : decode cX24_planCost 9 = .ok (.if_icmp .lt 13, 3) := dk_161 0 13 (dk_at dksX24_planCost_0 9 rfl rfl)
theorem dX24_planCost_12 : decode cX24_planCost 12 = .ok (.aload_n 0, 1) := dk_42 (dk_at dksX24_planCost_0 12 rfl rfl)
theorem dX24_planCost_13 : decode cX24_planCost 13 = .ok (.bipush (-5), 2) := dk_16 251 (dk_at dksX24_planCost_0 13 rfl rfl)
theorem dX24_planCost_15 : decode cX24_planCost 15 = .ok (.invokevirtual 206, 3) := dk_182 0 206 (dk_at dksX24_planCost_0 15 rfl rfl)
theorem dX24_planCost_18 : decode cX24_planCost 18 = .ok (.i2l, 1) := dk_133 (dk_at dksX24_planCost_0 18 rfl rfl)
theorem dX24_planCost_19 : decode cX24_planCost 19 = .ok (.goto 9, 3) := dk_167 0 9 (dk_at dksX24_planCost_0 19 rfl rfl)
theorem dX24_planCost_22 : decode cX24_planCost 22 = .ok (.aload_n 0, 1) := dk_42 (dk_at dksX24_planCost_0 22 rfl rfl)
theorem dX24_planCost_23 : decode cX24_planCost 23 = .ok (.getfield 145, 3) := dk_180 0 145 (dk_at dksX24_planCost_1 0 rfl rfl)
theorem dX24_planCost_26 : decode cX24_planCost 26 = .ok (.iload_n 1, 1) := dk_27 (dk_at dksX24_planCost_1 3 rfl rfl)
theorem dX24_planCost_27 : decode cX24_planCost 27 = .ok (.laload, 1) := dk_47 (dk_at dksX24_planCost_1 4 rfl rfl)
theorem dX24_planCost_28 : decode cX24_planCost 28 = .ok (.lreturn, 1) := dk_173 (dk_at dksX24_planCost_1 5 rfl rfl)
abbrev cX24_spell : ByteArray := prog_53_method_87_code
def yX24_spell : MethodName := ⟨RX24, "spell", "(I)I"⟩
def dkwX24_spell_5 : List UInt8 := [167, 255, 232, 42, 180, 1, 185, 172]
abbrev dktX24_spell_5 : List UInt8 := dkwX24_spell_5 ++ []
def dkwX24_spell_4 : List UInt8 := [180, 1, 185, 162, 0, 22, 42, 27, 28, 42, 180, 0, 178, 28, 46, 133, 182, 0, 210, 132, 2, 1]
abbrev dktX24_spell_4 : List UInt8 := dkwX24_spell_4 ++ dktX24_spell_5
def dkwX24_spell_3 : List UInt8 := [42, 180, 1, 185, 42, 180, 0, 72, 27, 46, 164, 0, 10, 42, 16, 249, 182, 0, 206, 172, 3, 61, 28, 42]
abbrev dktX24_spell_3 : List UInt8 := dkwX24_spell_3 ++ dktX24_spell_4
def dkwX24_spell_2 : List UInt8 := [180, 1, 182, 154, 0, 10, 42, 16, 251, 182, 0, 206, 172, 42, 3, 181, 1, 185, 42, 3, 182, 1, 188, 87]
abbrev dktX24_spell_2 : List UInt8 := dkwX24_spell_2 ++ dktX24_spell_3
def dkwX24_spell_1 : List UInt8 := [42, 16, 254, 182, 0, 206, 172, 42, 180, 0, 66, 27, 46, 154, 0, 10, 42, 16, 253, 182, 0, 206, 172, 42]
abbrev dktX24_spell_1 : List UInt8 := dkwX24_spell_1 ++ dktX24_spell_2
def dkwX24_spell_0 : List UInt8 := [42, 27, 182, 0, 202, 154, 0, 9, 42, 2, 182, 0, 206, 172, 42, 180, 0, 66, 27, 46, 5, 160, 0, 10]
abbrev dktX24_spell_0 : List UInt8 := dkwX24_spell_0 ++ dktX24_spell_1
theorem dksX24_spell_0 : cX24_spell.data.toList.drop 0 = dktX24_spell_0 := by decide +kernel
theorem dksX24_spell_1 : cX24_spell.data.toList.drop 24 = dktX24_spell_1 := dk_seg dksX24_spell_0 24 rfl rfl
theorem dksX24_spell_2 : cX24_spell.data.toList.drop 48 = dktX24_spell_2 := dk_seg dksX24_spell_1 24 rfl rfl
theorem dksX24_spell_3 : cX24_spell.data.toList.drop 72 = dktX24_spell_3 := dk_seg dksX24_spell_2 24 rfl rfl
theorem dksX24_spell_4 : cX24_spell.data.toList.drop 96 = dktX24_spell_4 := dk_seg dksX24_spell_3 24 rfl rfl
theorem dksX24_spell_5 : cX24_spell.data.toList.drop 118 = dktX24_spell_5 := dk_seg dksX24_spell_4 22 rfl rfl
theorem dX24_spell_0 : decode cX24_spell 0 = .ok (.aload_n 0, 1) := dk_42 (dk_at dksX24_spell_0 0 rfl rfl)
theorem dX24_spell_1 : decode cX24_spell 1 = .ok (.iload_n 1, 1) := dk_27 (dk_at dksX24_spell_0 1 rfl rfl)
theorem dX24_spell_2 : decode cX24_spell 2 = .ok (.invokevirtual 202, 3) := dk_182 0 202 (dk_at dksX24_spell_0 2 rfl rfl)
theorem dX24_spell_5 : decode cX24_spell 5 = .ok (.ifCond .ne 9, 3) := dk_154 0 9 (dk_at dksX24_spell_0 5 rfl rfl)
theorem dX24_spell_8 : decode cX24_spell 8 = .ok (.aload_n 0, 1) := dk_42 (dk_at dksX24_spell_0 8 rfl rfl)
theorem dX24_spell_9 : decode cX24_spell 9 = .ok (.iconst (-1), 1) := dk_2 (dk_at dksX24_spell_0 9 rfl rfl)
theorem dX24_spell_10 : decode cX24_spell 10 = .ok (.invokevirtual 206, 3) := dk_182 0 206 (dk_at dksX24_spell_0 10 rfl rfl)
theorem dX24_spell_13 : decode cX24_spell 13 = .ok (.ireturn, 1) := dk_172 (dk_at dksX24_spell_0 13 rfl rfl)
theorem dX24_spell_14 : decode cX24_spell 14 = .ok (.aload_n 0, 1) := dk_42 (dk_at dksX24_spell_0 14 rfl rfl)
theorem dX24_spell_15 : decode cX24_spell 15 = .ok (.getfield 66, 3) := dk_180 0 66 (dk_at dksX24_spell_0 15 rfl rfl)
theorem dX24_spell_18 : decode cX24_spell 18 = .ok (.iload_n 1, 1) := dk_27 (dk_at dksX24_spell_0 18 rfl rfl)
theorem dX24_spell_19 : decode cX24_spell 19 = .ok (.iaload, 1) := dk_46 (dk_at dksX24_spell_0 19 rfl rfl)
theorem dX24_spell_20 : decode cX24_spell 20 = .ok (.iconst 2, 1) := dk_5 (dk_at dksX24_spell_0 20 rfl rfl)
theorem dX24_spell_21 : decode cX24_spell 21 = .ok (.if_icmp .ne 10, 3) := dk_160 0 10 (dk_at dksX24_spell_0 21 rfl rfl)
theorem dX24_spell_24 : decode cX24_spell 24 = .ok (.aload_n 0, 1) := dk_42 (dk_at dksX24_spell_1 0 rfl rfl)
theorem dX24_spell_25 : decode cX24_spell 25 = .ok (.bipush (-2), 2) := dk_16 254 (dk_at dksX24_spell_1 1 rfl rfl)
theorem dX24_spell_27 : decode cX24_spell 27 = .ok (.invokevirtual 206, 3) := dk_182 0 206 (dk_at dksX24_spell_1 3 rfl rfl)
theorem dX24_spell_30 : decode cX24_spell 30 = .ok (.ireturn, 1) := dk_172 (dk_at dksX24_spell_1 6 rfl rfl)
theorem dX24_spell_31 : decode cX24_spell 31 = .ok (.aload_n 0, 1) := dk_42 (dk_at dksX24_spell_1 7 rfl rfl)
theorem dX24_spell_32 : decode cX24_spell 32 = .ok (.getfield 66, 3) := dk_180 0 66 (dk_at dksX24_spell_1 8 rfl rfl)
theorem dX24_spell_35 : decode cX24_spell 35 = .ok (.iload_n 1, 1) := dk_27 (dk_at dksX24_spell_1 11 rfl rfl)
theorem dX24_spell_36 : decode cX24_spell 36 = .ok (.iaload, 1) := dk_46 (dk_at dksX24_spell_1 12 rfl rfl)
theorem dX24_spell_37 : decode cX24_spell 37 = .ok (.ifCond .ne 10, 3) := dk_154 0 10 (dk_at dksX24_spell_1 13 rfl rfl)
theorem dX24_spell_40 : decode cX24_spell 40 = .ok (.aload_n 0, 1) := dk_42 (dk_at dksX24_spell_1 16 rfl rfl)
theorem dX24_spell_41 : decode cX24_spell 41 = .ok (.bipush (-3), 2) := dk_16 253 (dk_at dksX24_spell_1 17 rfl rfl)
theorem dX24_spell_43 : decode cX24_spell 43 = .ok (.invokevirtual 206, 3) := dk_182 0 206 (dk_at dksX24_spell_1 19 rfl rfl)
theorem dX24_spell_46 : decode cX24_spell 46 = .ok (.ireturn, 1) := dk_172 (dk_at dksX24_spell_1 22 rfl rfl)
theorem dX24_spell_47 : decode cX24_spell 47 = .ok (.aload_n 0, 1) := dk_42 (dk_at dksX24_spell_1 23 rfl rfl)
theorem dX24_spell_48 : decode cX24_spell 48 = .ok (.getfield 438, 3) := dk_180 1 182 (dk_at dksX24_spell_2 0 rfl rfl)
theorem dX24_spell_51 : decode cX24_spell 51 = .ok (.ifCond .ne 10, 3) := dk_154 0 10 (dk_at dksX24_spell_2 3 rfl rfl)
theorem dX24_spell_54 : decode cX24_spell 54 = .ok (.aload_n 0, 1) := dk_42 (dk_at dksX24_spell_2 6 rfl rfl)
theorem dX24_spell_55 : decode cX24_spell 55 = .ok (.bipush (-5), 2) := dk_16 251 (dk_at dksX24_spell_2 7 rfl rfl)
theorem dX24_spell_57 : decode cX24_spell 57 = .ok (.invokevirtual 206, 3) := dk_182 0 206 (dk_at dksX24_spell_2 9 rfl rfl)
theorem dX24_spell_60 : decode cX24_spell 60 = .ok (.ireturn, 1) := dk_172 (dk_at dksX24_spell_2 12 rfl rfl)
theorem dX24_spell_61 : decode cX24_spell 61 = .ok (.aload_n 0, 1) := dk_42 (dk_at dksX24_spell_2 13 rfl rfl)
theorem dX24_spell_62 : decode cX24_spell 62 = .ok (.iconst 0, 1) := dk_3 (dk_at dksX24_spell_2 14 rfl rfl)
theorem dX24_spell_63 : decode cX24_spell 63 = .ok (.putfield 441, 3) := dk_181 1 185 (dk_at dksX24_spell_2 15 rfl rfl)
theorem dX24_spell_66 : decode cX24_spell 66 = .ok (.aload_n 0, 1) := dk_42 (dk_at dksX24_spell_2 18 rfl rfl)
theorem dX24_spell_67 : decode cX24_spell 67 = .ok (.iconst 0, 1) := dk_3 (dk_at dksX24_spell_2 19 rfl rfl)
theorem dX24_spell_68 : decode cX24_spell 68 = .ok (.invokevirtual 444, 3) := dk_182 1 188 (dk_at dksX24_spell_2 20 rfl rfl)
theorem dX24_spell_71 : decode cX24_spell 71 = .ok (.pop, 1) := dk_87 (dk_at dksX24_spell_2 23 rfl rfl)
theorem dX24_spell_72 : decode cX24_spell 72 = .ok (.aload_n 0, 1) := dk_42 (dk_at dksX24_spell_3 0 rfl rfl)
theorem dX24_spell_73 : decode cX24_spell 73 = .ok (.getfield 441, 3) := dk_180 1 185 (dk_at dksX24_spell_3 1 rfl rfl)
theorem dX24_spell_76 : decode cX24_spell 76 = .ok (.aload_n 0, 1) := dk_42 (dk_at dksX24_spell_3 4 rfl rfl)
theorem dX24_spell_77 : decode cX24_spell 77 = .ok (.getfield 72, 3) := dk_180 0 72 (dk_at dksX24_spell_3 5 rfl rfl)
theorem dX24_spell_80 : decode cX24_spell 80 = .ok (.iload_n 1, 1) := dk_27 (dk_at dksX24_spell_3 8 rfl rfl)
theorem dX24_spell_81 : decode cX24_spell 81 = .ok (.iaload, 1) := dk_46 (dk_at dksX24_spell_3 9 rfl rfl)
theorem dX24_spell_82 : decode cX24_spell 82 = .ok (.if_icmp .le 10, 3) := dk_164 0 10 (dk_at dksX24_spell_3 10 rfl rfl)
theorem dX24_spell_85 : decode cX24_spell 85 = .ok (.aload_n 0, 1) := dk_42 (dk_at dksX24_spell_3 13 rfl rfl)
theorem dX24_spell_86 : decode cX24_spell 86 = .ok (.bipush (-7), 2) := dk_16 249 (dk_at dksX24_spell_3 14 rfl rfl)
theorem dX24_spell_88 : decode cX24_spell 88 = .ok (.invokevirtual 206, 3) := dk_182 0 206 (dk_at dksX24_spell_3 16 rfl rfl)
theorem dX24_spell_91 : decode cX24_spell 91 = .ok (.ireturn, 1) := dk_172 (dk_at dksX24_spell_3 19 rfl rfl)
theorem dX24_spell_92 : decode cX24_spell 92 = .ok (.iconst 0, 1) := dk_3 (dk_at dksX24_spell_3 20 rfl rfl)
theorem dX24_spell_93 : decode cX24_spell 93 = .ok (.istore_n 2, 1) := dk_61 (dk_at dksX24_spell_3 21 rfl rfl)
theorem dX24_spell_94 : decode cX24_spell 94 = .ok (.iload_n 2, 1) := dk_28 (dk_at dksX24_spell_3 22 rfl rfl)
theorem dX24_spell_95 : decode cX24_spell 95 = .ok (.aload_n 0, 1) := dk_42 (dk_at dksX24_spell_3 23 rfl rfl)
theorem dX24_spell_96 : decode cX24_spell 96 = .ok (.getfield 441, 3) := dk_180 1 185 (dk_at dksX24_spell_4 0 rfl rfl)
theorem dX24_spell_99 : decode cX24_spell 99 = .ok (.if_icmp .ge 22, 3) := dk_162 0 22 (dk_at dksX24_spell_4 3 rfl rfl)
theorem dX24_spell_102 : decode cX24_spell 102 = .ok (.aload_n 0, 1) := dk_42 (dk_at dksX24_spell_4 6 rfl rfl)
theorem dX24_spell_103 : decode cX24_spell 103 = .ok (.iload_n 1, 1) := dk_27 (dk_at dksX24_spell_4 7 rfl rfl)
theorem dX24_spell_104 : decode cX24_spell 104 = .ok (.iload_n 2, 1) := dk_28 (dk_at dksX24_spell_4 8 rfl rfl)
theorem dX24_spell_105 : decode cX24_spell 105 = .ok (.aload_n 0, 1) := dk_42 (dk_at dksX24_spell_4 9 rfl rfl)
theorem dX24_spell_106 : decode cX24_spell 106 = .ok (.getfield 178, 3) := dk_180 0 178 (dk_at dksX24_spell_4 10 rfl rfl)
theorem dX24_spell_109 : decode cX24_spell 109 = .ok (.iload_n 2, 1) := dk_28 (dk_at dksX24_spell_4 13 rfl rfl)
theorem dX24_spell_110 : decode cX24_spell 110 = .ok (.iaload, 1) := dk_46 (dk_at dksX24_spell_4 14 rfl rfl)
theorem dX24_spell_111 : decode cX24_spell 111 = .ok (.i2l, 1) := dk_133 (dk_at dksX24_spell_4 15 rfl rfl)
theorem dX24_spell_112 : decode cX24_spell 112 = .ok (.invokevirtual 210, 3) := dk_182 0 210 (dk_at dksX24_spell_4 16 rfl rfl)
theorem dX24_spell_115 : decode cX24_spell 115 = .ok (.iinc 2 1, 3) := dk_132 2 1 (dk_at dksX24_spell_4 19 rfl rfl)
theorem dX24_spell_118 : decode cX24_spell 118 = .ok (.goto (-24), 3) := dk_167 255 232 (dk_at dksX24_spell_5 0 rfl rfl)
theorem dX24_spell_121 : decode cX24_spell 121 = .ok (.aload_n 0, 1) := dk_42 (dk_at dksX24_spell_5 3 rfl rfl)
theorem dX24_spell_122 : decode cX24_spell 122 = .ok (.getfield 441, 3) := dk_180 1 185 (dk_at dksX24_spell_5 4 rfl rfl)
theorem dX24_spell_125 : decode cX24_spell 125 = .ok (.ireturn, 1) := dk_172 (dk_at dksX24_spell_5 7 rfl rfl)
abbrev cX24_spells : ByteArray := prog_53_method_86_code
def yX24_spells : MethodName := ⟨RX24, "spells", "(I)I"⟩
def dkwX24_spells_7 : List UInt8 := [19, 1, 197, 182, 1, 191, 42, 29, 182, 1, 188, 62, 42, 19, 1, 199, 182, 1, 191, 29, 172]
abbrev dktX24_spells_7 : List UInt8 := dkwX24_spells_7 ++ []
def dkwX24_spells_6 : List UInt8 := [182, 1, 191, 42, 27, 4, 96, 182, 1, 188, 62, 28, 7, 161, 0, 22, 28, 16, 6, 163, 0, 16, 42]
abbrev dktX24_spells_6 : List UInt8 := dkwX24_spells_6 ++ dktX24_spells_7
def dkwX24_spells_5 : List UInt8 := [16, 48, 42, 180, 0, 121, 27, 46, 96, 79, 42, 89, 180, 1, 185, 4, 96, 181, 1, 185, 42, 19, 1, 195]
abbrev dktX24_spells_5 : List UInt8 := dkwX24_spells_5 ++ dktX24_spells_6
def dkwX24_spells_4 : List UInt8 := [4, 160, 0, 9, 19, 1, 49, 167, 0, 6, 19, 1, 47, 182, 1, 191, 42, 180, 0, 178, 42, 180, 1, 185]
abbrev dktX24_spells_4 : List UInt8 := dkwX24_spells_4 ++ dktX24_spells_5
def dkwX24_spells_3 : List UInt8 := [19, 1, 43, 167, 0, 34, 28, 16, 8, 161, 0, 9, 19, 1, 45, 167, 0, 22, 42, 180, 0, 139, 27, 46]
abbrev dktX24_spells_3 : List UInt8 := dkwX24_spells_3 ++ dktX24_spells_4
def dkwX24_spells_2 : List UInt8 := [27, 46, 96, 79, 42, 89, 180, 1, 185, 4, 96, 181, 1, 185, 27, 4, 96, 172, 42, 28, 5, 160, 0, 9]
abbrev dktX24_spells_2 : List UInt8 := dkwX24_spells_2 ++ dktX24_spells_3
def dkwX24_spells_1 : List UInt8 := [160, 0, 42, 42, 19, 1, 41, 182, 1, 191, 42, 180, 0, 178, 42, 180, 1, 185, 16, 48, 42, 180, 0, 121]
abbrev dktX24_spells_1 : List UInt8 := dkwX24_spells_1 ++ dktX24_spells_2
def dkwX24_spells_0 : List UInt8 := [42, 180, 0, 118, 27, 46, 61, 28, 16, 10, 161, 0, 11, 42, 27, 4, 96, 182, 1, 188, 172, 28, 4]
abbrev dktX24_spells_0 : List UInt8 := dkwX24_spells_0 ++ dktX24_spells_1
theorem dksX24_spells_0 : cX24_spells.data.toList.drop 0 = dktX24_spells_0 := by decide +kernel
theorem dksX24_spells_1 : cX24_spells.data.toList.drop 23 = dktX24_spells_1 := dk_seg dksX24_spells_0 23 rfl rfl
theorem dksX24_spells_2 : cX24_spells.data.toList.drop 47 = dktX24_spells_2 := dk_seg dksX24_spells_1 24 rfl rfl
theorem dksX24_spells_3 : cX24_spells.data.toList.drop 71 = dktX24_spells_3 := dk_seg dksX24_spells_2 24 rfl rfl
theorem dksX24_spells_4 : cX24_spells.data.toList.drop 95 = dktX24_spells_4 := dk_seg dksX24_spells_3 24 rfl rfl
theorem dksX24_spells_5 : cX24_spells.data.toList.drop 119 = dktX24_spells_5 := dk_seg dksX24_spells_4 24 rfl rfl
theorem dksX24_spells_6 : cX24_spells.data.toList.drop 143 = dktX24_spells_6 := dk_seg dksX24_spells_5 24 rfl rfl
theorem dksX24_spells_7 : cX24_spells.data.toList.drop 166 = dktX24_spells_7 := dk_seg dksX24_spells_6 23 rfl rfl
theorem dX24_spells_0 : decode cX24_spells 0 = .ok (.aload_n 0, 1) := dk_42 (dk_at dksX24_spells_0 0 rfl rfl)
theorem dX24_spells_1 : decode cX24_spells 1 = .ok (.getfield 118, 3) := dk_180 0 118 (dk_at dksX24_spells_0 1 rfl rfl)
theorem dX24_spells_4 : decode cX24_spells 4 = .ok (.iload_n 1, 1) := dk_27 (dk_at dksX24_spells_0 4 rfl rfl)
theorem dX24_spells_5 : decode cX24_spells 5 = .ok (.iaload, 1) := dk_46 (dk_at dksX24_spells_0 5 rfl rfl)
theorem dX24_spells_6 : decode cX24_spells 6 = .ok (.istore_n 2, 1) := dk_61 (dk_at dksX24_spells_0 6 rfl rfl)
theorem dX24_spells_7 : decode cX24_spells 7 = .ok (.iload_n 2, 1) := dk_28 (dk_at dksX24_spells_0 7 rfl rfl)
theorem dX24_spells_8 : decode cX24_spells 8 = .ok (.bipush 10, 2) := dk_16 10 (dk_at dksX24_spells_0 8 rfl rfl)
theorem dX24_spells_10 : decode cX24_spells 10 = .ok (.if_icmp .lt 11, 3) := dk_161 0 11 (dk_at dksX24_spells_0 10 rfl rfl)
theorem dX24_spells_13 : decode cX24_spells 13 = .ok (.aload_n 0, 1) := dk_42 (dk_at dksX24_spells_0 13 rfl rfl)
theorem dX24_spells_14 : decode cX24_spells 14 = .ok (.iload_n 1, 1) := dk_27 (dk_at dksX24_spells_0 14 rfl rfl)
theorem dX24_spells_15 : decode cX24_spells 15 = .ok (.iconst 1, 1) := dk_4 (dk_at dksX24_spells_0 15 rfl rfl)
theorem dX24_spells_16 : decode cX24_spells 16 = .ok (.iadd, 1) := dk_96 (dk_at dksX24_spells_0 16 rfl rfl)
theorem dX24_spells_17 : decode cX24_spells 17 = .ok (.invokevirtual 444, 3) := dk_182 1 188 (dk_at dksX24_spells_0 17 rfl rfl)
theorem dX24_spells_20 : decode cX24_spells 20 = .ok (.ireturn, 1) := dk_172 (dk_at dksX24_spells_0 20 rfl rfl)
theorem dX24_spells_21 : decode cX24_spells 21 = .ok (.iload_n 2, 1) := dk_28 (dk_at dksX24_spells_0 21 rfl rfl)
theorem dX24_spells_22 : decode cX24_spells 22 = .ok (.iconst 1, 1) := dk_4 (dk_at dksX24_spells_0 22 rfl rfl)
theorem dX24_spells_23 : decode cX24_spells 23 = .ok (.if_icmp .ne 42, 3) := dk_160 0 42 (dk_at dksX24_spells_1 0 rfl rfl)
theorem dX24_spells_26 : decode cX24_spells 26 = .ok (.aload_n 0, 1) := dk_42 (dk_at dksX24_spells_1 3 rfl rfl)
theorem dX24_spells_27 : decode cX24_spells 27 = .ok (.ldc_w 297, 3) := dk_19 1 41 (dk_at dksX24_spells_1 4 rfl rfl)
theorem dX24_spells_30 : decode cX24_spells 30 = .ok (.invokevirtual 447, 3) := dk_182 1 191 (dk_at dksX24_spells_1 7 rfl rfl)
theorem dX24_spells_33 : decode cX24_spells 33 = .ok (.aload_n 0, 1) := dk_42 (dk_at dksX24_spells_1 10 rfl rfl)
theorem dX24_spells_34 : decode cX24_spells 34 = .ok (.getfield 178, 3) := dk_180 0 178 (dk_at dksX24_spells_1 11 rfl rfl)
theorem dX24_spells_37 : decode cX24_spells 37 = .ok (.aload_n 0, 1) := dk_42 (dk_at dksX24_spells_1 14 rfl rfl)
theorem dX24_spells_38 : decode cX24_spells 38 = .ok (.getfield 441, 3) := dk_180 1 185 (dk_at dksX24_spells_1 15 rfl rfl)
theorem dX24_spells_41 : decode cX24_spells 41 = .ok (.bipush 48, 2) := dk_16 48 (dk_at dksX24_spells_1 18 rfl rfl)
theorem dX24_spells_43 : decode cX24_spells 43 = .ok (.aload_n 0, 1) := dk_42 (dk_at dksX24_spells_1 20 rfl rfl)
theorem dX24_spells_44 : decode cX24_spells 44 = .ok (.getfield 121, 3) := dk_180 0 121 (dk_at dksX24_spells_1 21 rfl rfl)
theorem dX24_spells_47 : decode cX24_spells 47 = .ok (.iload_n 1, 1) := dk_27 (dk_at dksX24_spells_2 0 rfl rfl)
theorem dX24_spells_48 : decode cX24_spells 48 = .ok (.iaload, 1) := dk_46 (dk_at dksX24_spells_2 1 rfl rfl)
theorem dX24_spells_49 : decode cX24_spells 49 = .ok (.iadd, 1) := dk_96 (dk_at dksX24_spells_2 2 rfl rfl)
theorem dX24_spells_50 : decode cX24_spells 50 = .ok (.iastore, 1) := dk_79 (dk_at dksX24_spells_2 3 rfl rfl)
theorem dX24_spells_51 : decode cX24_spells 51 = .ok (.aload_n 0, 1) := dk_42 (dk_at dksX24_spells_2 4 rfl rfl)
theorem dX24_spells_52 : decode cX24_spells 52 = .ok (.dup, 1) := dk_89 (dk_at dksX24_spells_2 5 rfl rfl)
theorem dX24_spells_53 : decode cX24_spells 53 = .ok (.getfield 441, 3) := dk_180 1 185 (dk_at dksX24_spells_2 6 rfl rfl)
theorem dX24_spells_56 : decode cX24_spells 56 = .ok (.iconst 1, 1) := dk_4 (dk_at dksX24_spells_2 9 rfl rfl)
theorem dX24_spells_57 : decode cX24_spells 57 = .ok (.iadd, 1) := dk_96 (dk_at dksX24_spells_2 10 rfl rfl)
theorem dX24_spells_58 : decode cX24_spells 58 = .ok (.putfield 441, 3) := dk_181 1 185 (dk_at dksX24_spells_2 11 rfl rfl)
theorem dX24_spells_61 : decode cX24_spells 61 = .ok (.iload_n 1, 1) := dk_27 (dk_at dksX24_spells_2 14 rfl rfl)
theorem dX24_spells_62 : decode cX24_spells 62 = .ok (.iconst 1, 1) := dk_4 (dk_at dksX24_spells_2 15 rfl rfl)
theorem dX24_spells_63 : decode cX24_spells 63 = .ok (.iadd, 1) := dk_96 (dk_at dksX24_spells_2 16 rfl rfl)
theorem dX24_spells_64 : decode cX24_spells 64 = .ok (.ireturn, 1) := dk_172 (dk_at dksX24_spells_2 17 rfl rfl)
theorem dX24_spells_65 : decode cX24_spells 65 = .ok (.aload_n 0, 1) := dk_42 (dk_at dksX24_spells_2 18 rfl rfl)
theorem dX24_spells_66 : decode cX24_spells 66 = .ok (.iload_n 2, 1) := dk_28 (dk_at dksX24_spells_2 19 rfl rfl)
theorem dX24_spells_67 : decode cX24_spells 67 = .ok (.iconst 2, 1) := dk_5 (dk_at dksX24_spells_2 20 rfl rfl)
theorem dX24_spells_68 : decode cX24_spells 68 = .ok (.if_icmp .ne 9, 3) := dk_160 0 9 (dk_at dksX24_spells_2 21 rfl rfl)
theorem dX24_spells_71 : decode cX24_spells 71 = .ok (.ldc_w 299, 3) := dk_19 1 43 (dk_at dksX24_spells_3 0 rfl rfl)
theorem dX24_spells_74 : decode cX24_spells 74 = .ok (.goto 34, 3) := dk_167 0 34 (dk_at dksX24_spells_3 3 rfl rfl)
theorem dX24_spells_77 : decode cX24_spells 77 = .ok (.iload_n 2, 1) := dk_28 (dk_at dksX24_spells_3 6 rfl rfl)
theorem dX24_spells_78 : decode cX24_spells 78 = .ok (.bipush 8, 2) := dk_16 8 (dk_at dksX24_spells_3 7 rfl rfl)
theorem dX24_spells_80 : decode cX24_spells 80 = .ok (.if_icmp .lt 9, 3) := dk_161 0 9 (dk_at dksX24_spells_3 9 rfl rfl)
theorem dX24_spells_83 : decode cX24_spells 83 = .ok (.ldc_w 301, 3) := dk_19 1 45 (dk_at dksX24_spells_3 12 rfl rfl)
theorem dX24_spells_86 : decode cX24_spells 86 = .ok (.goto 22, 3) := dk_167 0 22 (dk_at dksX24_spells_3 15 rfl rfl)
theorem dX24_spells_89 : decode cX24_spells 89 = .ok (.aload_n 0, 1) := dk_42 (dk_at dksX24_spells_3 18 rfl rfl)
theorem dX24_spells_90 : decode cX24_spells 90 = .ok (.getfield 139, 3) := dk_180 0 139 (dk_at dksX24_spells_3 19 rfl rfl)
theorem dX24_spells_93 : decode cX24_spells 93 = .ok (.iload_n 1, 1) := dk_27 (dk_at dksX24_spells_3 22 rfl rfl)
theorem dX24_spells_94 : decode cX24_spells 94 = .ok (.iaload, 1) := dk_46 (dk_at dksX24_spells_3 23 rfl rfl)
theorem dX24_spells_95 : decode cX24_spells 95 = .ok (.iconst 1, 1) := dk_4 (dk_at dksX24_spells_4 0 rfl rfl)
theorem dX24_spells_96 : decode cX24_spells 96 = .ok (.if_icmp .ne 9, 3) := dk_160 0 9 (dk_at dksX24_spells_4 1 rfl rfl)
theorem dX24_spells_99 : decode cX24_spells 99 = .ok (.ldc_w 305, 3) := dk_19 1 49 (dk_at dksX24_spells_4 4 rfl rfl)
theorem dX24_spells_102 : decode cX24_spells 102 = .ok (.goto 6, 3) := dk_167 0 6 (dk_at dksX24_spells_4 7 rfl rfl)
theorem dX24_spells_105 : decode cX24_spells 105 = .ok (.ldc_w 303, 3) := dk_19 1 47 (dk_at dksX24_spells_4 10 rfl rfl)
theorem dX24_spells_108 : decode cX24_spells 108 = .ok (.invokevirtual 447, 3) := dk_182 1 191 (dk_at dksX24_spells_4 13 rfl rfl)
theorem dX24_spells_111 : decode cX24_spells 111 = .ok (.aload_n 0, 1) := dk_42 (dk_at dksX24_spells_4 16 rfl rfl)
theorem dX24_spells_112 : decode cX24_spells 112 = .ok (.getfield 178, 3) := dk_180 0 178 (dk_at dksX24_spells_4 17 rfl rfl)
theorem dX24_spells_115 : decode cX24_spells 115 = .ok (.aload_n 0, 1) := dk_42 (dk_at dksX24_spells_4 20 rfl rfl)
theorem dX24_spells_116 : decode cX24_spells 116 = .ok (.getfield 441, 3) := dk_180 1 185 (dk_at dksX24_spells_4 21 rfl rfl)
theorem dX24_spells_119 : decode cX24_spells 119 = .ok (.bipush 48, 2) := dk_16 48 (dk_at dksX24_spells_5 0 rfl rfl)
theorem dX24_spells_121 : decode cX24_spells 121 = .ok (.aload_n 0, 1) := dk_42 (dk_at dksX24_spells_5 2 rfl rfl)
theorem dX24_spells_122 : decode cX24_spells 122 = .ok (.getfield 121, 3) := dk_180 0 121 (dk_at dksX24_spells_5 3 rfl rfl)
theorem dX24_spells_125 : decode cX24_spells 125 = .ok (.iload_n 1, 1) := dk_27 (dk_at dksX24_spells_5 6 rfl rfl)
theorem dX24_spells_126 : decode cX24_spells 126 = .ok (.iaload, 1) := dk_46 (dk_at dksX24_spells_5 7 rfl rfl)
theorem dX24_spells_127 : decode cX24_spells 127 = .ok (.iadd, 1) := dk_96 (dk_at dksX24_spells_5 8 rfl rfl)
theorem dX24_spells_128 : decode cX24_spells 128 = .ok (.iastore, 1) := dk_79 (dk_at dksX24_spells_5 9 rfl rfl)
theorem dX24_spells_129 : decode cX24_spells 129 = .ok (.aload_n 0, 1) := dk_42 (dk_at dksX24_spells_5 10 rfl rfl)
theorem dX24_spells_130 : decode cX24_spells 130 = .ok (.dup, 1) := dk_89 (dk_at dksX24_spells_5 11 rfl rfl)
theorem dX24_spells_131 : decode cX24_spells 131 = .ok (.getfield 441, 3) := dk_180 1 185 (dk_at dksX24_spells_5 12 rfl rfl)
theorem dX24_spells_134 : decode cX24_spells 134 = .ok (.iconst 1, 1) := dk_4 (dk_at dksX24_spells_5 15 rfl rfl)
theorem dX24_spells_135 : decode cX24_spells 135 = .ok (.iadd, 1) := dk_96 (dk_at dksX24_spells_5 16 rfl rfl)
theorem dX24_spells_136 : decode cX24_spells 136 = .ok (.putfield 441, 3) := dk_181 1 185 (dk_at dksX24_spells_5 17 rfl rfl)
theorem dX24_spells_139 : decode cX24_spells 139 = .ok (.aload_n 0, 1) := dk_42 (dk_at dksX24_spells_5 20 rfl rfl)
theorem dX24_spells_140 : decode cX24_spells 140 = .ok (.ldc_w 451, 3) := dk_19 1 195 (dk_at dksX24_spells_5 21 rfl rfl)
theorem dX24_spells_143 : decode cX24_spells 143 = .ok (.invokevirtual 447, 3) := dk_182 1 191 (dk_at dksX24_spells_6 0 rfl rfl)
theorem dX24_spells_146 : decode cX24_spells 146 = .ok (.aload_n 0, 1) := dk_42 (dk_at dksX24_spells_6 3 rfl rfl)
theorem dX24_spells_147 : decode cX24_spells 147 = .ok (.iload_n 1, 1) := dk_27 (dk_at dksX24_spells_6 4 rfl rfl)
theorem dX24_spells_148 : decode cX24_spells 148 = .ok (.iconst 1, 1) := dk_4 (dk_at dksX24_spells_6 5 rfl rfl)
theorem dX24_spells_149 : decode cX24_spells 149 = .ok (.iadd, 1) := dk_96 (dk_at dksX24_spells_6 6 rfl rfl)
theorem dX24_spells_150 : decode cX24_spells 150 = .ok (.invokevirtual 444, 3) := dk_182 1 188 (dk_at dksX24_spells_6 7 rfl rfl)
theorem dX24_spells_153 : decode cX24_spells 153 = .ok (.istore_n 3, 1) := dk_62 (dk_at dksX24_spells_6 10 rfl rfl)
theorem dX24_spells_154 : decode cX24_spells 154 = .ok (.iload_n 2, 1) := dk_28 (dk_at dksX24_spells_6 11 rfl rfl)
theorem dX24_spells_155 : decode cX24_spells 155 = .ok (.iconst 4, 1) := dk_7 (dk_at dksX24_spells_6 12 rfl rfl)
theorem dX24_spells_156 : decode cX24_spells 156 = .ok (.if_icmp .lt 22, 3) := dk_161 0 22 (dk_at dksX24_spells_6 13 rfl rfl)
theorem dX24_spells_159 : decode cX24_spells 159 = .ok (.iload_n 2, 1) := dk_28 (dk_at dksX24_spells_6 16 rfl rfl)
theorem dX24_spells_160 : decode cX24_spells 160 = .ok (.bipush 6, 2) := dk_16 6 (dk_at dksX24_spells_6 17 rfl rfl)
theorem dX24_spells_162 : decode cX24_spells 162 = .ok (.if_icmp .gt 16, 3) := dk_163 0 16 (dk_at dksX24_spells_6 19 rfl rfl)
theorem dX24_spells_165 : decode cX24_spells 165 = .ok (.aload_n 0, 1) := dk_42 (dk_at dksX24_spells_6 22 rfl rfl)
theorem dX24_spells_166 : decode cX24_spells 166 = .ok (.ldc_w 453, 3) := dk_19 1 197 (dk_at dksX24_spells_7 0 rfl rfl)
theorem dX24_spells_169 : decode cX24_spells 169 = .ok (.invokevirtual 447, 3) := dk_182 1 191 (dk_at dksX24_spells_7 3 rfl rfl)
theorem dX24_spells_172 : decode cX24_spells 172 = .ok (.aload_n 0, 1) := dk_42 (dk_at dksX24_spells_7 6 rfl rfl)
theorem dX24_spells_173 : decode cX24_spells 173 = .ok (.iload_n 3, 1) := dk_29 (dk_at dksX24_spells_7 7 rfl rfl)
theorem dX24_spells_174 : decode cX24_spells 174 = .ok (.invokevirtual 444, 3) := dk_182 1 188 (dk_at dksX24_spells_7 8 rfl rfl)
theorem dX24_spells_177 : decode cX24_spells 177 = .ok (.istore_n 3, 1) := dk_62 (dk_at dksX24_spells_7 11 rfl rfl)
theorem dX24_spells_178 : decode cX24_spells 178 = .ok (.aload_n 0, 1) := dk_42 (dk_at dksX24_spells_7 12 rfl rfl)
theorem dX24_spells_179 : decode cX24_spells 179 = .ok (.ldc_w 455, 3) := dk_19 1 199 (dk_at dksX24_spells_7 13 rfl rfl)
theorem dX24_spells_182 : decode cX24_spells 182 = .ok (.invokevirtual 447, 3) := dk_182 1 191 (dk_at dksX24_spells_7 16 rfl rfl)
theorem dX24_spells_185 : decode cX24_spells 185 = .ok (.iload_n 3, 1) := dk_29 (dk_at dksX24_spells_7 19 rfl rfl)
theorem dX24_spells_186 : decode cX24_spells 186 = .ok (.ireturn, 1) := dk_172 (dk_at dksX24_spells_7 20 rfl rfl)
abbrev cX24_writes : ByteArray := prog_53_method_85_code
def yX24_writes : MethodName := ⟨RX24, "writes", "(Ljava/lang/String;)V"⟩
def dkwX24_writes_1 : List UInt8 := [42, 89, 180, 1, 185, 4, 96, 181, 1, 185, 132, 2, 1, 167, 255, 221, 177]
abbrev dktX24_writes_1 : List UInt8 := dkwX24_writes_1 ++ []
def dkwX24_writes_0 : List UInt8 := [3, 61, 28, 43, 182, 1, 28, 162, 0, 33, 42, 180, 0, 178, 42, 180, 1, 185, 43, 28, 182, 1, 34, 79]
abbrev dktX24_writes_0 : List UInt8 := dkwX24_writes_0 ++ dktX24_writes_1
theorem dksX24_writes_0 : cX24_writes.data.toList.drop 0 = dktX24_writes_0 := by decide +kernel
theorem dksX24_writes_1 : cX24_writes.data.toList.drop 24 = dktX24_writes_1 := dk_seg dksX24_writes_0 24 rfl rfl
theorem dX24_writes_0 : decode cX24_writes 0 = .ok (.iconst 0, 1) := dk_3 (dk_at dksX24_writes_0 0 rfl rfl)
theorem dX24_writes_1 : decode cX24_writes 1 = .ok (.istore_n 2, 1) := dk_61 (dk_at dksX24_writes_0 1 rfl rfl)
theorem dX24_writes_2 : decode cX24_writes 2 = .ok (.iload_n 2, 1) := dk_28 (dk_at dksX24_writes_0 2 rfl rfl)
theorem dX24_writes_3 : decode cX24_writes 3 = .ok (.aload_n 1, 1) := dk_43 (dk_at dksX24_writes_0 3 rfl rfl)
theorem dX24_writes_4 : decode cX24_writes 4 = .ok (.invokevirtual 284, 3) := dk_182 1 28 (dk_at dksX24_writes_0 4 rfl rfl)
theorem dX24_writes_7 : decode cX24_writes 7 = .ok (.if_icmp .ge 33, 3) := dk_162 0 33 (dk_at dksX24_writes_0 7 rfl rfl)
theorem dX24_writes_10 : decode cX24_writes 10 = .ok (.aload_n 0, 1) := dk_42 (dk_at dksX24_writes_0 10 rfl rfl)
theorem dX24_writes_11 : decode cX24_writes 11 = .ok (.getfield 178, 3) := dk_180 0 178 (dk_at dksX24_writes_0 11 rfl rfl)
theorem dX24_writes_14 : decode cX24_writes 14 = .ok (.aload_n 0, 1) := dk_42 (dk_at dksX24_writes_0 14 rfl rfl)
theorem dX24_writes_15 : decode cX24_writes 15 = .ok (.getfield 441, 3) := dk_180 1 185 (dk_at dksX24_writes_0 15 rfl rfl)
theorem dX24_writes_18 : decode cX24_writes 18 = .ok (.aload_n 1, 1) := dk_43 (dk_at dksX24_writes_0 18 rfl rfl)
theorem dX24_writes_19 : decode cX24_writes 19 = .ok (.iload_n 2, 1) := dk_28 (dk_at dksX24_writes_0 19 rfl rfl)
theorem dX24_writes_20 : decode cX24_writes 20 = .ok (.invokevirtual 290, 3) := dk_182 1 34 (dk_at dksX24_writes_0 20 rfl rfl)
theorem dX24_writes_23 : decode cX24_writes 23 = .ok (.iastore, 1) := dk_79 (dk_at dksX24_writes_0 23 rfl rfl)
theorem dX24_writes_24 : decode cX24_writes 24 = .ok (.aload_n 0, 1) := dk_42 (dk_at dksX24_writes_1 0 rfl rfl)
theorem dX24_writes_25 : decode cX24_writes 25 = .ok (.dup, 1) := dk_89 (dk_at dksX24_writes_1 1 rfl rfl)
theorem dX24_writes_26 : decode cX24_writes 26 = .ok (.getfield 441, 3) := dk_180 1 185 (dk_at dksX24_writes_1 2 rfl rfl)
theorem dX24_writes_29 : decode cX24_writes 29 = .ok (.iconst 1, 1) := dk_4 (dk_at dksX24_writes_1 5 rfl rfl)
theorem dX24_writes_30 : decode cX24_writes 30 = .ok (.iadd, 1) := dk_96 (dk_at dksX24_writes_1 6 rfl rfl)
theorem dX24_writes_31 : decode cX24_writes 31 = .ok (.putfield 441, 3) := dk_181 1 185 (dk_at dksX24_writes_1 7 rfl rfl)
theorem dX24_writes_34 : decode cX24_writes 34 = .ok (.iinc 2 1, 3) := dk_132 2 1 (dk_at dksX24_writes_1 10 rfl rfl)
theorem dX24_writes_37 : decode cX24_writes 37 = .ok (.goto (-35), 3) := dk_167 255 221 (dk_at dksX24_writes_1 13 rfl rfl)
theorem dX24_writes_40 : decode cX24_writes 40 = .ok (.return_, 1) := dk_177 (dk_at dksX24_writes_1 16 rfl rfl)
abbrev cX24_trees : ByteArray := prog_53_method_88_code
def yX24_trees : MethodName := ⟨RX24, "trees", "(II)I"⟩
def dkwX24_trees_12 : List UInt8 := [167, 255, 230, 132, 3, 1, 167, 255, 32, 42, 180, 0, 190, 42, 27, 182, 0, 225, 47, 136, 172]
abbrev dktX24_trees_12 : List UInt8 := dkwX24_trees_12 ++ []
def dkwX24_trees_11 : List UInt8 := [180, 0, 196, 162, 0, 23, 42, 180, 0, 190, 21, 4, 42, 180, 0, 193, 21, 4, 47, 80, 132, 4, 1]
abbrev dktX24_trees_11 : List UInt8 := dkwX24_trees_11 ++ dktX24_trees_12
def dkwX24_trees_10 : List UInt8 := [182, 0, 225, 47, 22, 5, 97, 184, 0, 237, 80, 132, 4, 1, 167, 255, 104, 3, 54, 4, 21, 4, 42]
abbrev dktX24_trees_10 : List UInt8 := dkwX24_trees_10 ++ dktX24_trees_11
def dkwX24_trees_9 : List UInt8 := [180, 0, 50, 21, 4, 46, 182, 0, 225, 20, 1, 201, 42, 180, 0, 193, 42, 42, 180, 0, 50, 21, 4, 46]
abbrev dktX24_trees_9 : List UInt8 := dkwX24_trees_9 ++ dktX24_trees_10
def dkwX24_trees_8 : List UInt8 := [42, 180, 0, 47, 21, 4, 46, 182, 0, 225, 47, 105, 184, 0, 237, 55, 5, 42, 180, 0, 193, 42, 42]
abbrev dktX24_trees_8 : List UInt8 := dkwX24_trees_8 ++ dktX24_trees_9
def dkwX24_trees_7 : List UInt8 := [20, 1, 201, 42, 180, 0, 190, 42, 42, 180, 0, 44, 21, 4, 46, 182, 0, 225, 47, 42, 180, 0, 190, 42]
abbrev dktX24_trees_7 : List UInt8 := dkwX24_trees_7 ++ dktX24_trees_8
def dkwX24_trees_6 : List UInt8 := [162, 0, 22, 42, 180, 0, 190, 42, 42, 180, 0, 44, 21, 4, 46, 182, 0, 225, 47, 167, 0, 42]
abbrev dktX24_trees_6 : List UInt8 := dkwX24_trees_6 ++ dktX24_trees_7
def dkwX24_trees_5 : List UInt8 := [180, 0, 38, 21, 4, 46, 4, 160, 0, 7, 10, 167, 0, 72, 42, 180, 0, 38, 21, 4, 46, 8]
abbrev dktX24_trees_5 : List UInt8 := dkwX24_trees_5 ++ dktX24_trees_6
def dkwX24_trees_4 : List UInt8 := [21, 4, 42, 180, 0, 199, 162, 0, 149, 42, 180, 0, 56, 21, 4, 51, 153, 0, 6, 167, 0, 130, 42]
abbrev dktX24_trees_4 : List UInt8 := dkwX24_trees_4 ++ dktX24_trees_5
def dkwX24_trees_3 : List UInt8 := [180, 0, 196, 162, 0, 17, 42, 180, 0, 193, 21, 4, 9, 80, 132, 4, 1, 167, 255, 236, 3, 54, 4]
abbrev dktX24_trees_3 : List UInt8 := dkwX24_trees_3 ++ dktX24_trees_4
def dkwX24_trees_2 : List UInt8 := [29, 9, 80, 132, 3, 1, 167, 255, 238, 3, 62, 29, 28, 162, 0, 225, 3, 54, 4, 21, 4, 42]
abbrev dktX24_trees_2 : List UInt8 := dkwX24_trees_2 ++ dktX24_trees_3
def dkwX24_trees_1 : List UInt8 := [154, 0, 10, 42, 16, 250, 182, 0, 206, 172, 3, 62, 29, 42, 180, 0, 196, 162, 0, 16, 42, 180, 0, 190]
abbrev dktX24_trees_1 : List UInt8 := dkwX24_trees_1 ++ dktX24_trees_2
def dkwX24_trees_0 : List UInt8 := [42, 27, 182, 1, 12, 154, 0, 9, 42, 2, 182, 0, 206, 172, 42, 28, 3, 16, 12, 182, 0, 217]
abbrev dktX24_trees_0 : List UInt8 := dkwX24_trees_0 ++ dktX24_trees_1
theorem dksX24_trees_0 : cX24_trees.data.toList.drop 0 = dktX24_trees_0 := by decide +kernel
theorem dksX24_trees_1 : cX24_trees.data.toList.drop 22 = dktX24_trees_1 := dk_seg dksX24_trees_0 22 rfl rfl
theorem dksX24_trees_2 : cX24_trees.data.toList.drop 46 = dktX24_trees_2 := dk_seg dksX24_trees_1 24 rfl rfl
theorem dksX24_trees_3 : cX24_trees.data.toList.drop 68 = dktX24_trees_3 := dk_seg dksX24_trees_2 22 rfl rfl
theorem dksX24_trees_4 : cX24_trees.data.toList.drop 91 = dktX24_trees_4 := dk_seg dksX24_trees_3 23 rfl rfl
theorem dksX24_trees_5 : cX24_trees.data.toList.drop 114 = dktX24_trees_5 := dk_seg dksX24_trees_4 23 rfl rfl
theorem dksX24_trees_6 : cX24_trees.data.toList.drop 136 = dktX24_trees_6 := dk_seg dksX24_trees_5 22 rfl rfl
theorem dksX24_trees_7 : cX24_trees.data.toList.drop 158 = dktX24_trees_7 := dk_seg dksX24_trees_6 22 rfl rfl
theorem dksX24_trees_8 : cX24_trees.data.toList.drop 182 = dktX24_trees_8 := dk_seg dksX24_trees_7 24 rfl rfl
theorem dksX24_trees_9 : cX24_trees.data.toList.drop 205 = dktX24_trees_9 := dk_seg dksX24_trees_8 23 rfl rfl
theorem dksX24_trees_10 : cX24_trees.data.toList.drop 229 = dktX24_trees_10 := dk_seg dksX24_trees_9 24 rfl rfl
theorem dksX24_trees_11 : cX24_trees.data.toList.drop 252 = dktX24_trees_11 := dk_seg dksX24_trees_10 23 rfl rfl
theorem dksX24_trees_12 : cX24_trees.data.toList.drop 275 = dktX24_trees_12 := dk_seg dksX24_trees_11 23 rfl rfl
theorem dX24_trees_0 : decode cX24_trees 0 = .ok (.aload_n 0, 1) := dk_42 (dk_at dksX24_trees_0 0 rfl rfl)
theorem dX24_trees_1 : decode cX24_trees 1 = .ok (.iload_n 1, 1) := dk_27 (dk_at dksX24_trees_0 1 rfl rfl)
theorem dX24_trees_2 : decode cX24_trees 2 = .ok (.invokevirtual 268, 3) := dk_182 1 12 (dk_at dksX24_trees_0 2 rfl rfl)
theorem dX24_trees_5 : decode cX24_trees 5 = .ok (.ifCond .ne 9, 3) := dk_154 0 9 (dk_at dksX24_trees_0 5 rfl rfl)
theorem dX24_trees_8 : decode cX24_trees 8 = .ok (.aload_n 0, 1) := dk_42 (dk_at dksX24_trees_0 8 rfl rfl)
theorem dX24_trees_9 : decode cX24_trees 9 = .ok (.iconst (-1), 1) := dk_2 (dk_at dksX24_trees_0 9 rfl rfl)
theorem dX24_trees_10 : decode cX24_trees 10 = .ok (.invokevirtual 206, 3) := dk_182 0 206 (dk_at dksX24_trees_0 10 rfl rfl)
theorem dX24_trees_13 : decode cX24_trees 13 = .ok (.ireturn, 1) := dk_172 (dk_at dksX24_trees_0 13 rfl rfl)
theorem dX24_trees_14 : decode cX24_trees 14 = .ok (.aload_n 0, 1) := dk_42 (dk_at dksX24_trees_0 14 rfl rfl)
theorem dX24_trees_15 : decode cX24_trees 15 = .ok (.iload_n 2, 1) := dk_28 (dk_at dksX24_trees_0 15 rfl rfl)
theorem dX24_trees_16 : decode cX24_trees 16 = .ok (.iconst 0, 1) := dk_3 (dk_at dksX24_trees_0 16 rfl rfl)
theorem dX24_trees_17 : decode cX24_trees 17 = .ok (.bipush 12, 2) := dk_16 12 (dk_at dksX24_trees_0 17 rfl rfl)
theorem dX24_trees_19 : decode cX24_trees 19 = .ok (.invokevirtual 217, 3) := dk_182 0 217 (dk_at dksX24_trees_0 19 rfl rfl)
theorem dX24_trees_22 : decode cX24_trees 22 = .ok (.ifCond .ne 10, 3) := dk_154 0 10 (dk_at dksX24_trees_1 0 rfl rfl)
theorem dX24_trees_25 : decode cX24_trees 25 = .ok (.aload_n 0, 1) := dk_42 (dk_at dksX24_trees_1 3 rfl rfl)
theorem dX24_trees_26 : decode cX24_trees 26 = .ok (.bipush (-6), 2) := dk_16 250 (dk_at dksX24_trees_1 4 rfl rfl)
theorem dX24_trees_28 : decode cX24_trees 28 = .ok (.invokevirtual 206, 3) := dk_182 0 206 (dk_at dksX24_trees_1 6 rfl rfl)
theorem dX24_trees_31 : decode cX24_trees 31 = .ok (.ireturn, 1) := dk_172 (dk_at dksX24_trees_1 9 rfl rfl)
theorem dX24_trees_32 : decode cX24_trees 32 = .ok (.iconst 0, 1) := dk_3 (dk_at dksX24_trees_1 10 rfl rfl)
theorem dX24_trees_33 : decode cX24_trees 33 = .ok (.istore_n 3, 1) := dk_62 (dk_at dksX24_trees_1 11 rfl rfl)
theorem dX24_trees_34 : decode cX24_trees 34 = .ok (.iload_n 3, 1) := dk_29 (dk_at dksX24_trees_1 12 rfl rfl)
theorem dX24_trees_35 : decode cX24_trees 35 = .ok (.aload_n 0, 1) := dk_42 (dk_at dksX24_trees_1 13 rfl rfl)
theorem dX24_trees_36 : decode cX24_trees 36 = .ok (.getfield 196, 3) := dk_180 0 196 (dk_at dksX24_trees_1 14 rfl rfl)
theorem dX24_trees_39 : decode cX24_trees 39 = .ok (.if_icmp .ge 16, 3) := dk_162 0 16 (dk_at dksX24_trees_1 17 rfl rfl)
theorem dX24_trees_42 : decode cX24_trees 42 = .ok (.aload_n 0, 1) := dk_42 (dk_at dksX24_trees_1 20 rfl rfl)
theorem dX24_trees_43 : decode cX24_trees 43 = .ok (.getfield 190, 3) := dk_180 0 190 (dk_at dksX24_trees_1 21 rfl rfl)
theorem dX24_trees_46 : decode cX24_trees 46 = .ok (.iload_n 3, 1) := dk_29 (dk_at dksX24_trees_2 0 rfl rfl)
theorem dX24_trees_47 : decode cX24_trees 47 = .ok (.lconst 0, 1) := dk_9 (dk_at dksX24_trees_2 1 rfl rfl)
theorem dX24_trees_48 : decode cX24_trees 48 = .ok (.lastore, 1) := dk_80 (dk_at dksX24_trees_2 2 rfl rfl)
theorem dX24_trees_49 : decode cX24_trees 49 = .ok (.iinc 3 1, 3) := dk_132 3 1 (dk_at dksX24_trees_2 3 rfl rfl)
theorem dX24_trees_52 : decode cX24_trees 52 = .ok (.goto (-18), 3) := dk_167 255 238 (dk_at dksX24_trees_2 6 rfl rfl)
theorem dX24_trees_55 : decode cX24_trees 55 = .ok (.iconst 0, 1) := dk_3 (dk_at dksX24_trees_2 9 rfl rfl)
theorem dX24_trees_56 : decode cX24_trees 56 = .ok (.istore_n 3, 1) := dk_62 (dk_at dksX24_trees_2 10 rfl rfl)
theorem dX24_trees_57 : decode cX24_trees 57 = .ok (.iload_n 3, 1) := dk_29 (dk_at dksX24_trees_2 11 rfl rfl)
theorem dX24_trees_58 : decode cX24_trees 58 = .ok (.iload_n 2, 1) := dk_28 (dk_at dksX24_trees_2 12 rfl rfl)
theorem dX24_trees_59 : decode cX24_trees 59 = .ok (.if_icmp .ge 225, 3) := dk_162 0 225 (dk_at dksX24_trees_2 13 rfl rfl)
theorem dX24_trees_62 : decode cX24_trees 62 = .ok (.iconst 0, 1) := dk_3 (dk_at dksX24_trees_2 16 rfl rfl)
theorem dX24_trees_63 : decode cX24_trees 63 = .ok (.istore 4, 2) := dk_54 4 (dk_at dksX24_trees_2 17 rfl rfl)
theorem dX24_trees_65 : decode cX24_trees 65 = .ok (.iload 4, 2) := dk_21 4 (dk_at dksX24_trees_2 19 rfl rfl)
theorem dX24_trees_67 : decode cX24_trees 67 = .ok (.aload_n 0, 1) := dk_42 (dk_at dksX24_trees_2 21 rfl rfl)
theorem dX24_trees_68 : decode cX24_trees 68 = .ok (.getfield 196, 3) := dk_180 0 196 (dk_at dksX24_trees_3 0 rfl rfl)
theorem dX24_trees_71 : decode cX24_trees 71 = .ok (.if_icmp .ge 17, 3) := dk_162 0 17 (dk_at dksX24_trees_3 3 rfl rfl)
theorem dX24_trees_74 : decode cX24_trees 74 = .ok (.aload_n 0, 1) := dk_42 (dk_at dksX24_trees_3 6 rfl rfl)
theorem dX24_trees_75 : decode cX24_trees 75 = .ok (.getfield 193, 3) := dk_180 0 193 (dk_at dksX24_trees_3 7 rfl rfl)
theorem dX24_trees_78 : decode cX24_trees 78 = .ok (.iload 4, 2) := dk_21 4 (dk_at dksX24_trees_3 10 rfl rfl)
theorem dX24_trees_80 : decode cX24_trees 80 = .ok (.lconst 0, 1) := dk_9 (dk_at dksX24_trees_3 12 rfl rfl)
theorem dX24_trees_81 : decode cX24_trees 81 = .ok (.lastore, 1) := dk_80 (dk_at dksX24_trees_3 13 rfl rfl)
theorem dX24_trees_82 : decode cX24_trees 82 = .ok (.iinc 4 1, 3) := dk_132 4 1 (dk_at dksX24_trees_3 14 rfl rfl)
theorem dX24_trees_85 : decode cX24_trees 85 = .ok (.goto (-20), 3) := dk_167 255 236 (dk_at dksX24_trees_3 17 rfl rfl)
theorem dX24_trees_88 : decode cX24_trees 88 = .ok (.iconst 0, 1) := dk_3 (dk_at dksX24_trees_3 20 rfl rfl)
theorem dX24_trees_89 : decode cX24_trees 89 = .ok (.istore 4, 2) := dk_54 4 (dk_at dksX24_trees_3 21 rfl rfl)
theorem dX24_trees_91 : decode cX24_trees 91 = .ok (.iload 4, 2) := dk_21 4 (dk_at dksX24_trees_4 0 rfl rfl)
theorem dX24_trees_93 : decode cX24_trees 93 = .ok (.aload_n 0, 1) := dk_42 (dk_at dksX24_trees_4 2 rfl rfl)
theorem dX24_trees_94 : decode cX24_trees 94 = .ok (.getfield 199, 3) := dk_180 0 199 (dk_at dksX24_trees_4 3 rfl rfl)
theorem dX24_trees_97 : decode cX24_trees 97 = .ok (.if_icmp .ge 149, 3) := dk_162 0 149 (dk_at dksX24_trees_4 6 rfl rfl)
theorem dX24_trees_100 : decode cX24_trees 100 = .ok (.aload_n 0, 1) := dk_42 (dk_at dksX24_trees_4 9 rfl rfl)
theorem dX24_trees_101 : decode cX24_trees 101 = .ok (.getfield 56, 3) := dk_180 0 56 (dk_at dksX24_trees_4 10 rfl rfl)
theorem dX24_trees_104 : decode cX24_trees 104 = .ok (.iload 4, 2) := dk_21 4 (dk_at dksX24_trees_4 13 rfl rfl)
theorem dX24_trees_106 : decode cX24_trees 106 = .ok (.baload, 1) := dk_51 (dk_at dksX24_trees_4 15 rfl rfl)
theorem dX24_trees_107 : decode cX24_trees 107 = .ok (.ifCond .eq 6, 3) := dk_153 0 6 (dk_at dksX24_trees_4 16 rfl rfl)
theorem dX24_trees_110 : decode cX24_trees 110 = .ok (.goto 130, 3) := dk_167 0 130 (dk_at dksX24_trees_4 19 rfl rfl)
theorem dX24_trees_113 : decode cX24_trees 113 = .ok (.aload_n 0, 1) := dk_42 (dk_at dksX24_trees_4 22 rfl rfl)
theorem dX24_trees_114 : decode cX24_trees 114 = .ok (.getfield 38, 3) := dk_180 0 38 (dk_at dksX24_trees_5 0 rfl rfl)
theorem dX24_trees_117 : decode cX24_trees 117 = .ok (.iload 4, 2) := dk_21 4 (dk_at dksX24_trees_5 3 rfl rfl)
theorem dX24_trees_119 : decode cX24_trees 119 = .ok (.iaload, 1) := dk_46 (dk_at dksX24_trees_5 5 rfl rfl)
theorem dX24_trees_120 : decode cX24_trees 120 = .ok (.iconst 1, 1) := dk_4 (dk_at dksX24_trees_5 6 rfl rfl)
theorem dX24_trees_121 : decode cX24_trees 121 = .ok (.if_icmp .ne 7, 3) := dk_160 0 7 (dk_at dksX24_trees_5 7 rfl rfl)
theorem dX24_trees_124 : decode cX24_trees 124 = .ok (.lconst 1, 1) := dk_10 (dk_at dksX24_trees_5 10 rfl rfl)
theorem dX24_trees_125 : decode cX24_trees 125 = .ok (.goto 72, 3) := dk_167 0 72 (dk_at dksX24_trees_5 11 rfl rfl)
theorem dX24_trees_128 : decode cX24_trees 128 = .ok (.aload_n 0, 1) := dk_42 (dk_at dksX24_trees_5 14 rfl rfl)
theorem dX24_trees_129 : decode cX24_trees 129 = .ok (.getfield 38, 3) := dk_180 0 38 (dk_at dksX24_trees_5 15 rfl rfl)
theorem dX24_trees_132 : decode cX24_trees 132 = .ok (.iload 4, 2) := dk_21 4 (dk_at dksX24_trees_5 18 rfl rfl)
theorem dX24_trees_134 : decode cX24_trees 134 = .ok (.iaload, 1) := dk_46 (dk_at dksX24_trees_5 20 rfl rfl)
theorem dX24_trees_135 : decode cX24_trees 135 = .ok (.iconst 5, 1) := dk_8 (dk_at dksX24_trees_5 21 rfl rfl)
theorem dX24_trees_136 : decode cX24_trees 136 = .ok (.if_icmp .ge 22, 3) := dk_162 0 22 (dk_at dksX24_trees_6 0 rfl rfl)
theorem dX24_trees_139 : decode cX24_trees 139 = .ok (.aload_n 0, 1) := dk_42 (dk_at dksX24_trees_6 3 rfl rfl)
theorem dX24_trees_140 : decode cX24_trees 140 = .ok (.getfield 190, 3) := dk_180 0 190 (dk_at dksX24_trees_6 4 rfl rfl)
theorem dX24_trees_143 : decode cX24_trees 143 = .ok (.aload_n 0, 1) := dk_42 (dk_at dksX24_trees_6 7 rfl rfl)
theorem dX24_trees_144 : decode cX24_trees 144 = .ok (.aload_n 0, 1) := dk_42 (dk_at dksX24_trees_6 8 rfl rfl)
theorem dX24_trees_145 : decode cX24_trees 145 = .ok (.getfield 44, 3) := dk_180 0 44 (dk_at dksX24_trees_6 9 rfl rfl)
theorem dX24_trees_148 : decode cX24_trees 148 = .ok (.iload 4, 2) := dk_21 4 (dk_at dksX24_trees_6 12 rfl rfl)
theorem dX24_trees_150 : decode cX24_trees 150 = .ok (.iaload, 1) := dk_46 (dk_at dksX24_trees_6 14 rfl rfl)
theorem dX24_trees_151 : decode cX24_trees 151 = .ok (.invokevirtual 225, 3) := dk_182 0 225 (dk_at dksX24_trees_6 15 rfl rfl)
theorem dX24_trees_154 : decode cX24_trees 154 = .ok (.laload, 1) := dk_47 (dk_at dksX24_trees_6 18 rfl rfl)
theorem dX24_trees_155 : decode cX24_trees 155 = .ok (.goto 42, 3) := dk_167 0 42 (dk_at dksX24_trees_6 19 rfl rfl)
theorem dX24_trees_158 : decode cX24_trees 158 = .ok (.ldc2_w 457, 3) := dk_20 1 201 (dk_at dksX24_trees_7 0 rfl rfl)
theorem dX24_trees_161 : decode cX24_trees 161 = .ok (.aload_n 0, 1) := dk_42 (dk_at dksX24_trees_7 3 rfl rfl)
theorem dX24_trees_162 : decode cX24_trees 162 = .ok (.getfield 190, 3) := dk_180 0 190 (dk_at dksX24_trees_7 4 rfl rfl)
theorem dX24_trees_165 : decode cX24_trees 165 = .ok (.aload_n 0, 1) := dk_42 (dk_at dksX24_trees_7 7 rfl rfl)
theorem dX24_trees_166 : decode cX24_trees 166 = .ok (.aload_n 0, 1) := dk_42 (dk_at dksX24_trees_7 8 rfl rfl)
theorem dX24_trees_167 : decode cX24_trees 167 = .ok (.getfield 44, 3) := dk_180 0 44 (dk_at dksX24_trees_7 9 rfl rfl)
theorem dX24_trees_170 : decode cX24_trees 170 = .ok (.iload 4, 2) := dk_21 4 (dk_at dksX24_trees_7 12 rfl rfl)
theorem dX24_trees_172 : decode cX24_trees 172 = .ok (.iaload, 1) := dk_46 (dk_at dksX24_trees_7 14 rfl rfl)
theorem dX24_trees_173 : decode cX24_trees 173 = .ok (.invokevirtual 225, 3) := dk_182 0 225 (dk_at dksX24_trees_7 15 rfl rfl)
theorem dX24_trees_176 : decode cX24_trees 176 = .ok (.laload, 1) := dk_47 (dk_at dksX24_trees_7 18 rfl rfl)
theorem dX24_trees_177 : decode cX24_trees 177 = .ok (.aload_n 0, 1) := dk_42 (dk_at dksX24_trees_7 19 rfl rfl)
theorem dX24_trees_178 : decode cX24_trees 178 = .ok (.getfield 190, 3) := dk_180 0 190 (dk_at dksX24_trees_7 20 rfl rfl)
theorem dX24_trees_181 : decode cX24_trees 181 = .ok (.aload_n 0, 1) := dk_42 (dk_at dksX24_trees_7 23 rfl rfl)
theorem dX24_trees_182 : decode cX24_trees 182 = .ok (.aload_n 0, 1) := dk_42 (dk_at dksX24_trees_8 0 rfl rfl)
theorem dX24_trees_183 : decode cX24_trees 183 = .ok (.getfield 47, 3) := dk_180 0 47 (dk_at dksX24_trees_8 1 rfl rfl)
theorem dX24_trees_186 : decode cX24_trees 186 = .ok (.iload 4, 2) := dk_21 4 (dk_at dksX24_trees_8 4 rfl rfl)
theorem dX24_trees_188 : decode cX24_trees 188 = .ok (.iaload, 1) := dk_46 (dk_at dksX24_trees_8 6 rfl rfl)
theorem dX24_trees_189 : decode cX24_trees 189 = .ok (.invokevirtual 225, 3) := dk_182 0 225 (dk_at dksX24_trees_8 7 rfl rfl)
theorem dX24_trees_192 : decode cX24_trees 192 = .ok (.laload, 1) := dk_47 (dk_at dksX24_trees_8 10 rfl rfl)
theorem dX24_trees_193 : decode cX24_trees 193 = .ok (.lmul, 1) := dk_105 (dk_at dksX24_trees_8 11 rfl rfl)
theorem dX24_trees_194 : decode cX24_trees 194 = .ok (.invokestatic 237, 3) := dk_184 0 237 (dk_at dksX24_trees_8 12 rfl rfl)
theorem dX24_trees_197 : decode cX24_trees 197 = .ok (.lstore 5, 2) := dk_55 5 (dk_at dksX24_trees_8 15 rfl rfl)
theorem dX24_trees_199 : decode cX24_trees 199 = .ok (.aload_n 0, 1) := dk_42 (dk_at dksX24_trees_8 17 rfl rfl)
theorem dX24_trees_200 : decode cX24_trees 200 = .ok (.getfield 193, 3) := dk_180 0 193 (dk_at dksX24_trees_8 18 rfl rfl)
theorem dX24_trees_203 : decode cX24_trees 203 = .ok (.aload_n 0, 1) := dk_42 (dk_at dksX24_trees_8 21 rfl rfl)
theorem dX24_trees_204 : decode cX24_trees 204 = .ok (.aload_n 0, 1) := dk_42 (dk_at dksX24_trees_8 22 rfl rfl)
theorem dX24_trees_205 : decode cX24_trees 205 = .ok (.getfield 50, 3) := dk_180 0 50 (dk_at dksX24_trees_9 0 rfl rfl)
theorem dX24_trees_208 : decode cX24_trees 208 = .ok (.iload 4, 2) := dk_21 4 (dk_at dksX24_trees_9 3 rfl rfl)
theorem dX24_trees_210 : decode cX24_trees 210 = .ok (.iaload, 1) := dk_46 (dk_at dksX24_trees_9 5 rfl rfl)
theorem dX24_trees_211 : decode cX24_trees 211 = .ok (.invokevirtual 225, 3) := dk_182 0 225 (dk_at dksX24_trees_9 6 rfl rfl)
theorem dX24_trees_214 : decode cX24_trees 214 = .ok (.ldc2_w 457, 3) := dk_20 1 201 (dk_at dksX24_trees_9 9 rfl rfl)
theorem dX24_trees_217 : decode cX24_trees 217 = .ok (.aload_n 0, 1) := dk_42 (dk_at dksX24_trees_9 12 rfl rfl)
theorem dX24_trees_218 : decode cX24_trees 218 = .ok (.getfield 193, 3) := dk_180 0 193 (dk_at dksX24_trees_9 13 rfl rfl)
theorem dX24_trees_221 : decode cX24_trees 221 = .ok (.aload_n 0, 1) := dk_42 (dk_at dksX24_trees_9 16 rfl rfl)
theorem dX24_trees_222 : decode cX24_trees 222 = .ok (.aload_n 0, 1) := dk_42 (dk_at dksX24_trees_9 17 rfl rfl)
theorem dX24_trees_223 : decode cX24_trees 223 = .ok (.getfield 50, 3) := dk_180 0 50 (dk_at dksX24_trees_9 18 rfl rfl)
theorem dX24_trees_226 : decode cX24_trees 226 = .ok (.iload 4, 2) := dk_21 4 (dk_at dksX24_trees_9 21 rfl rfl)
theorem dX24_trees_228 : decode cX24_trees 228 = .ok (.iaload, 1) := dk_46 (dk_at dksX24_trees_9 23 rfl rfl)
theorem dX24_trees_229 : decode cX24_trees 229 = .ok (.invokevirtual 225, 3) := dk_182 0 225 (dk_at dksX24_trees_10 0 rfl rfl)
theorem dX24_trees_232 : decode cX24_trees 232 = .ok (.laload, 1) := dk_47 (dk_at dksX24_trees_10 3 rfl rfl)
theorem dX24_trees_233 : decode cX24_trees 233 = .ok (.lload 5, 2) := dk_22 5 (dk_at dksX24_trees_10 4 rfl rfl)
theorem dX24_trees_235 : decode cX24_trees 235 = .ok (.ladd, 1) := dk_97 (dk_at dksX24_trees_10 6 rfl rfl)
theorem dX24_trees_236 : decode cX24_trees 236 = .ok (.invokestatic 237, 3) := dk_184 0 237 (dk_at dksX24_trees_10 7 rfl rfl)
theorem dX24_trees_239 : decode cX24_trees 239 = .ok (.lastore, 1) := dk_80 (dk_at dksX24_trees_10 10 rfl rfl)
theorem dX24_trees_240 : decode cX24_trees 240 = .ok (.iinc 4 1, 3) := dk_132 4 1 (dk_at dksX24_trees_10 11 rfl rfl)
theorem dX24_trees_243 : decode cX24_trees 243 = .ok (.goto (-152), 3) := dk_167 255 104 (dk_at dksX24_trees_10 14 rfl rfl)
theorem dX24_trees_246 : decode cX24_trees 246 = .ok (.iconst 0, 1) := dk_3 (dk_at dksX24_trees_10 17 rfl rfl)
theorem dX24_trees_247 : decode cX24_trees 247 = .ok (.istore 4, 2) := dk_54 4 (dk_at dksX24_trees_10 18 rfl rfl)
theorem dX24_trees_249 : decode cX24_trees 249 = .ok (.iload 4, 2) := dk_21 4 (dk_at dksX24_trees_10 20 rfl rfl)
theorem dX24_trees_251 : decode cX24_trees 251 = .ok (.aload_n 0, 1) := dk_42 (dk_at dksX24_trees_10 22 rfl rfl)
theorem dX24_trees_252 : decode cX24_trees 252 = .ok (.getfield 196, 3) := dk_180 0 196 (dk_at dksX24_trees_11 0 rfl rfl)
theorem dX24_trees_255 : decode cX24_trees 255 = .ok (.if_icmp .ge 23, 3) := dk_162 0 23 (dk_at dksX24_trees_11 3 rfl rfl)
theorem dX24_trees_258 : decode cX24_trees 258 = .ok (.aload_n 0, 1) := dk_42 (dk_at dksX24_trees_11 6 rfl rfl)
theorem dX24_trees_259 : decode cX24_trees 259 = .ok (.getfield 190, 3) := dk_180 0 190 (dk_at dksX24_trees_11 7 rfl rfl)
theorem dX24_trees_262 : decode cX24_trees 262 = .ok (.iload 4, 2) := dk_21 4 (dk_at dksX24_trees_11 10 rfl rfl)
theorem dX24_trees_264 : decode cX24_trees 264 = .ok (.aload_n 0, 1) := dk_42 (dk_at dksX24_trees_11 12 rfl rfl)
theorem dX24_trees_265 : decode cX24_trees 265 = .ok (.getfield 193, 3) := dk_180 0 193 (dk_at dksX24_trees_11 13 rfl rfl)
theorem dX24_trees_268 : decode cX24_trees 268 = .ok (.iload 4, 2) := dk_21 4 (dk_at dksX24_trees_11 16 rfl rfl)
theorem dX24_trees_270 : decode cX24_trees 270 = .ok (.laload, 1) := dk_47 (dk_at dksX24_trees_11 18 rfl rfl)
theorem dX24_trees_271 : decode cX24_trees 271 = .ok (.lastore, 1) := dk_80 (dk_at dksX24_trees_11 19 rfl rfl)
theorem dX24_trees_272 : decode cX24_trees 272 = .ok (.iinc 4 1, 3) := dk_132 4 1 (dk_at dksX24_trees_11 20 rfl rfl)
theorem dX24_trees_275 : decode cX24_trees 275 = .ok (.goto (-26), 3) := dk_167 255 230 (dk_at dksX24_trees_12 0 rfl rfl)
theorem dX24_trees_278 : decode cX24_trees 278 = .ok (.iinc 3 1, 3) := dk_132 3 1 (dk_at dksX24_trees_12 3 rfl rfl)
theorem dX24_trees_281 : decode cX24_trees 281 = .ok (.goto (-224), 3) := dk_167 255 32 (dk_at dksX24_trees_12 6 rfl rfl)
theorem dX24_trees_284 : decode cX24_trees 284 = .ok (.aload_n 0, 1) := dk_42 (dk_at dksX24_trees_12 9 rfl rfl)
theorem dX24_trees_285 : decode cX24_trees 285 = .ok (.getfield 190, 3) := dk_180 0 190 (dk_at dksX24_trees_12 10 rfl rfl)
theorem dX24_trees_288 : decode cX24_trees 288 = .ok (.aload_n 0, 1) := dk_42 (dk_at dksX24_trees_12 13 rfl rfl)
theorem dX24_trees_289 : decode cX24_trees 289 = .ok (.iload_n 1, 1) := dk_27 (dk_at dksX24_trees_12 14 rfl rfl)
theorem dX24_trees_290 : decode cX24_trees 290 = .ok (.invokevirtual 225, 3) := dk_182 0 225 (dk_at dksX24_trees_12 15 rfl rfl)
theorem dX24_trees_293 : decode cX24_trees 293 = .ok (.laload, 1) := dk_47 (dk_at dksX24_trees_12 18 rfl rfl)
theorem dX24_trees_294 : decode cX24_trees 294 = .ok (.l2i, 1) := dk_136 (dk_at dksX24_trees_12 19 rfl rfl)
theorem dX24_trees_295 : decode cX24_trees 295 = .ok (.ireturn, 1) := dk_172 (dk_at dksX24_trees_12 20 rfl rfl)
abbrev cX24_deal : ByteArray := prog_53_method_90_code
def yX24_deal : MethodName := ⟨RX24, "deal", "(I)I"⟩
def dkwX24_deal_5 : List UInt8 := [182, 1, 6, 87, 132, 2, 1, 132, 3, 1, 167, 255, 165, 28, 172]
abbrev dktX24_deal_5 : List UInt8 := dkwX24_deal_5 ++ []
def dkwX24_deal_4 : List UInt8 := [21, 4, 21, 5, 21, 6, 182, 0, 251, 2, 159, 0, 6, 167, 0, 18, 42, 8, 21, 4, 21, 5, 21, 6]
abbrev dktX24_deal_4 : List UInt8 := dkwX24_deal_4 ++ dktX24_deal_5
def dkwX24_deal_3 : List UInt8 := [180, 0, 199, 16, 64, 159, 0, 50, 42, 8, 21, 4, 21, 5, 21, 6, 182, 1, 15, 153, 0, 36, 42, 8]
abbrev dktX24_deal_3 : List UInt8 := dkwX24_deal_3 ++ dktX24_deal_4
def dkwX24_deal_2 : List UInt8 := [54, 4, 42, 42, 180, 0, 196, 182, 1, 204, 54, 5, 42, 42, 180, 0, 196, 182, 1, 204, 54, 6, 42]
abbrev dktX24_deal_2 : List UInt8 := dkwX24_deal_2 ++ dktX24_deal_3
def dkwX24_deal_1 : List UInt8 := [154, 0, 10, 42, 16, 250, 182, 0, 206, 172, 3, 61, 3, 62, 29, 27, 162, 0, 92, 42, 7, 182, 1, 204]
abbrev dktX24_deal_1 : List UInt8 := dkwX24_deal_1 ++ dktX24_deal_2
def dkwX24_deal_0 : List UInt8 := [42, 180, 0, 196, 154, 0, 10, 42, 16, 251, 182, 0, 206, 172, 42, 27, 4, 16, 20, 182, 0, 217]
abbrev dktX24_deal_0 : List UInt8 := dkwX24_deal_0 ++ dktX24_deal_1
theorem dksX24_deal_0 : cX24_deal.data.toList.drop 0 = dktX24_deal_0 := by decide +kernel
theorem dksX24_deal_1 : cX24_deal.data.toList.drop 22 = dktX24_deal_1 := dk_seg dksX24_deal_0 22 rfl rfl
theorem dksX24_deal_2 : cX24_deal.data.toList.drop 46 = dktX24_deal_2 := dk_seg dksX24_deal_1 24 rfl rfl
theorem dksX24_deal_3 : cX24_deal.data.toList.drop 69 = dktX24_deal_3 := dk_seg dksX24_deal_2 23 rfl rfl
theorem dksX24_deal_4 : cX24_deal.data.toList.drop 93 = dktX24_deal_4 := dk_seg dksX24_deal_3 24 rfl rfl
theorem dksX24_deal_5 : cX24_deal.data.toList.drop 117 = dktX24_deal_5 := dk_seg dksX24_deal_4 24 rfl rfl
theorem dX24_deal_0 : decode cX24_deal 0 = .ok (.aload_n 0, 1) := dk_42 (dk_at dksX24_deal_0 0 rfl rfl)
theorem dX24_deal_1 : decode cX24_deal 1 = .ok (.getfield 196, 3) := dk_180 0 196 (dk_at dksX24_deal_0 1 rfl rfl)
theorem dX24_deal_4 : decode cX24_deal 4 = .ok (.ifCond .ne 10, 3) := dk_154 0 10 (dk_at dksX24_deal_0 4 rfl rfl)
theorem dX24_deal_7 : decode cX24_deal 7 = .ok (.aload_n 0, 1) := dk_42 (dk_at dksX24_deal_0 7 rfl rfl)
theorem dX24_deal_8 : decode cX24_deal 8 = .ok (.bipush (-5), 2) := dk_16 251 (dk_at dksX24_deal_0 8 rfl rfl)
theorem dX24_deal_10 : decode cX24_deal 10 = .ok (.invokevirtual 206, 3) := dk_182 0 206 (dk_at dksX24_deal_0 10 rfl rfl)
theorem dX24_deal_13 : decode cX24_deal 13 = .ok (.ireturn, 1) := dk_172 (dk_at dksX24_deal_0 13 rfl rfl)
theorem dX24_deal_14 : decode cX24_deal 14 = .ok (.aload_n 0, 1) := dk_42 (dk_at dksX24_deal_0 14 rfl rfl)
theorem dX24_deal_15 : decode cX24_deal 15 = .ok (.iload_n 1, 1) := dk_27 (dk_at dksX24_deal_0 15 rfl rfl)
theorem dX24_deal_16 : decode cX24_deal 16 = .ok (.iconst 1, 1) := dk_4 (dk_at dksX24_deal_0 16 rfl rfl)
theorem dX24_deal_17 : decode cX24_deal 17 = .ok (.bipush 20, 2) := dk_16 20 (dk_at dksX24_deal_0 17 rfl rfl)
theorem dX24_deal_19 : decode cX24_deal 19 = .ok (.invokevirtual 217, 3) := dk_182 0 217 (dk_at dksX24_deal_0 19 rfl rfl)
theorem dX24_deal_22 : decode cX24_deal 22 = .ok (.ifCond .ne 10, 3) := dk_154 0 10 (dk_at dksX24_deal_1 0 rfl rfl)
theorem dX24_deal_25 : decode cX24_deal 25 = .ok (.aload_n 0, 1) := dk_42 (dk_at dksX24_deal_1 3 rfl rfl)
theorem dX24_deal_26 : decode cX24_deal 26 = .ok (.bipush (-6), 2) := dk_16 250 (dk_at dksX24_deal_1 4 rfl rfl)
theorem dX24_deal_28 : decode cX24_deal 28 = .ok (.invokevirtual 206, 3) := dk_182 0 206 (dk_at dksX24_deal_1 6 rfl rfl)
theorem dX24_deal_31 : decode cX24_deal 31 = .ok (.ireturn, 1) := dk_172 (dk_at dksX24_deal_1 9 rfl rfl)
theorem dX24_deal_32 : decode cX24_deal 32 = .ok (.iconst 0, 1) := dk_3 (dk_at dksX24_deal_1 10 rfl rfl)
theorem dX24_deal_33 : decode cX24_deal 33 = .ok (.istore_n 2, 1) := dk_61 (dk_at dksX24_deal_1 11 rfl rfl)
theorem dX24_deal_34 : decode cX24_deal 34 = .ok (.iconst 0, 1) := dk_3 (dk_at dksX24_deal_1 12 rfl rfl)
theorem dX24_deal_35 : decode cX24_deal 35 = .ok (.istore_n 3, 1) := dk_62 (dk_at dksX24_deal_1 13 rfl rfl)
theorem dX24_deal_36 : decode cX24_deal 36 = .ok (.iload_n 3, 1) := dk_29 (dk_at dksX24_deal_1 14 rfl rfl)
theorem dX24_deal_37 : decode cX24_deal 37 = .ok (.iload_n 1, 1) := dk_27 (dk_at dksX24_deal_1 15 rfl rfl)
theorem dX24_deal_38 : decode cX24_deal 38 = .ok (.if_icmp .ge 92, 3) := dk_162 0 92 (dk_at dksX24_deal_1 16 rfl rfl)
theorem dX24_deal_41 : decode cX24_deal 41 = .ok (.aload_n 0, 1) := dk_42 (dk_at dksX24_deal_1 19 rfl rfl)
theorem dX24_deal_42 : decode cX24_deal 42 = .ok (.iconst 4, 1) := dk_7 (dk_at dksX24_deal_1 20 rfl rfl)
theorem dX24_deal_43 : decode cX24_deal 43 = .ok (.invokevirtual 460, 3) := dk_182 1 204 (dk_at dksX24_deal_1 21 rfl rfl)
theorem dX24_deal_46 : decode cX24_deal 46 = .ok (.istore 4, 2) := dk_54 4 (dk_at dksX24_deal_2 0 rfl rfl)
theorem dX24_deal_48 : decode cX24_deal 48 = .ok (.aload_n 0, 1) := dk_42 (dk_at dksX24_deal_2 2 rfl rfl)
theorem dX24_deal_49 : decode cX24_deal 49 = .ok (.aload_n 0, 1) := dk_42 (dk_at dksX24_deal_2 3 rfl rfl)
theorem dX24_deal_50 : decode cX24_deal 50 = .ok (.getfield 196, 3) := dk_180 0 196 (dk_at dksX24_deal_2 4 rfl rfl)
theorem dX24_deal_53 : decode cX24_deal 53 = .ok (.invokevirtual 460, 3) := dk_182 1 204 (dk_at dksX24_deal_2 7 rfl rfl)
theorem dX24_deal_56 : decode cX24_deal 56 = .ok (.istore 5, 2) := dk_54 5 (dk_at dksX24_deal_2 10 rfl rfl)
theorem dX24_deal_58 : decode cX24_deal 58 = .ok (.aload_n 0, 1) := dk_42 (dk_at dksX24_deal_2 12 rfl rfl)
theorem dX24_deal_59 : decode cX24_deal 59 = .ok (.aload_n 0, 1) := dk_42 (dk_at dksX24_deal_2 13 rfl rfl)
theorem dX24_deal_60 : decode cX24_deal 60 = .ok (.getfield 196, 3) := dk_180 0 196 (dk_at dksX24_deal_2 14 rfl rfl)
theorem dX24_deal_63 : decode cX24_deal 63 = .ok (.invokevirtual 460, 3) := dk_182 1 204 (dk_at dksX24_deal_2 17 rfl rfl)
theorem dX24_deal_66 : decode cX24_deal 66 = .ok (.istore 6, 2) := dk_54 6 (dk_at dksX24_deal_2 20 rfl rfl)
theorem dX24_deal_68 : decode cX24_deal 68 = .ok (.aload_n 0, 1) := dk_42 (dk_at dksX24_deal_2 22 rfl rfl)
theorem dX24_deal_69 : decode cX24_deal 69 = .ok (.getfield 199, 3) := dk_180 0 199 (dk_at dksX24_deal_3 0 rfl rfl)
theorem dX24_deal_72 : decode cX24_deal 72 = .ok (.bipush 64, 2) := dk_16 64 (dk_at dksX24_deal_3 3 rfl rfl)
theorem dX24_deal_74 : decode cX24_deal 74 = .ok (.if_icmp .eq 50, 3) := dk_159 0 50 (dk_at dksX24_deal_3 5 rfl rfl)
theorem dX24_deal_77 : decode cX24_deal 77 = .ok (.aload_n 0, 1) := dk_42 (dk_at dksX24_deal_3 8 rfl rfl)
theorem dX24_deal_78 : decode cX24_deal 78 = .ok (.iconst 5, 1) := dk_8 (dk_at dksX24_deal_3 9 rfl rfl)
theorem dX24_deal_79 : decode cX24_deal 79 = .ok (.iload 4, 2) := dk_21 4 (dk_at dksX24_deal_3 10 rfl rfl)
theorem dX24_deal_81 : decode cX24_deal 81 = .ok (.iload 5, 2) := dk_21 5 (dk_at dksX24_deal_3 12 rfl rfl)
theorem dX24_deal_83 : decode cX24_deal 83 = .ok (.iload 6, 2) := dk_21 6 (dk_at dksX24_deal_3 14 rfl rfl)
theorem dX24_deal_85 : decode cX24_deal 85 = .ok (.invokevirtual 271, 3) := dk_182 1 15 (dk_at dksX24_deal_3 16 rfl rfl)
theorem dX24_deal_88 : decode cX24_deal 88 = .ok (.ifCond .eq 36, 3) := dk_153 0 36 (dk_at dksX24_deal_3 19 rfl rfl)
theorem dX24_deal_91 : decode cX24_deal 91 = .ok (.aload_n 0, 1) := dk_42 (dk_at dksX24_deal_3 22 rfl rfl)
theorem dX24_deal_92 : decode cX24_deal 92 = .ok (.iconst 5, 1) := dk_8 (dk_at dksX24_deal_3 23 rfl rfl)
theorem dX24_deal_93 : decode cX24_deal 93 = .ok (.iload 4, 2) := dk_21 4 (dk_at dksX24_deal_4 0 rfl rfl)
theorem dX24_deal_95 : decode cX24_deal 95 = .ok (.iload 5, 2) := dk_21 5 (dk_at dksX24_deal_4 2 rfl rfl)
theorem dX24_deal_97 : decode cX24_deal 97 = .ok (.iload 6, 2) := dk_21 6 (dk_at dksX24_deal_4 4 rfl rfl)
theorem dX24_deal_99 : decode cX24_deal 99 = .ok (.invokevirtual 251, 3) := dk_182 0 251 (dk_at dksX24_deal_4 6 rfl rfl)
theorem dX24_deal_102 : decode cX24_deal 102 = .ok (.iconst (-1), 1) := dk_2 (dk_at dksX24_deal_4 9 rfl rfl)
theorem dX24_deal_103 : decode cX24_deal 103 = .ok (.if_icmp .eq 6, 3) := dk_159 0 6 (dk_at dksX24_deal_4 10 rfl rfl)
theorem dX24_deal_106 : decode cX24_deal 106 = .ok (.goto 18, 3) := dk_167 0 18 (dk_at dksX24_deal_4 13 rfl rfl)
theorem dX24_deal_109 : decode cX24_deal 109 = .ok (.aload_n 0, 1) := dk_42 (dk_at dksX24_deal_4 16 rfl rfl)
theorem dX24_deal_110 : decode cX24_deal 110 = .ok (.iconst 5, 1) := dk_8 (dk_at dksX24_deal_4 17 rfl rfl)
theorem dX24_deal_111 : decode cX24_deal 111 = .ok (.iload 4, 2) := dk_21 4 (dk_at dksX24_deal_4 18 rfl rfl)
theorem dX24_deal_113 : decode cX24_deal 113 = .ok (.iload 5, 2) := dk_21 5 (dk_at dksX24_deal_4 20 rfl rfl)
theorem dX24_deal_115 : decode cX24_deal 115 = .ok (.iload 6, 2) := dk_21 6 (dk_at dksX24_deal_4 22 rfl rfl)
theorem dX24_deal_117 : decode cX24_deal 117 = .ok (.invokevirtual 262, 3) := dk_182 1 6 (dk_at dksX24_deal_5 0 rfl rfl)
theorem dX24_deal_120 : decode cX24_deal 120 = .ok (.pop, 1) := dk_87 (dk_at dksX24_deal_5 3 rfl rfl)
theorem dX24_deal_121 : decode cX24_deal 121 = .ok (.iinc 2 1, 3) := dk_132 2 1 (dk_at dksX24_deal_5 4 rfl rfl)
theorem dX24_deal_124 : decode cX24_deal 124 = .ok (.iinc 3 1, 3) := dk_132 3 1 (dk_at dksX24_deal_5 7 rfl rfl)
theorem dX24_deal_127 : decode cX24_deal 127 = .ok (.goto (-91), 3) := dk_167 255 165 (dk_at dksX24_deal_5 10 rfl rfl)
theorem dX24_deal_130 : decode cX24_deal 130 = .ok (.iload_n 2, 1) := dk_28 (dk_at dksX24_deal_5 13 rfl rfl)
theorem dX24_deal_131 : decode cX24_deal 131 = .ok (.ireturn, 1) := dk_172 (dk_at dksX24_deal_5 14 rfl rfl)
abbrev cX24_draw : ByteArray := prog_53_method_89_code
def yX24_draw : MethodName := ⟨RX24, "draw", "(I)I"⟩
def dkwX24_draw_1 : List UInt8 := [112, 172]
abbrev dktX24_draw_1 : List UInt8 := dkwX24_draw_1 ++ []
def dkwX24_draw_0 : List UInt8 := [42, 42, 180, 0, 13, 19, 1, 203, 104, 17, 48, 57, 96, 181, 0, 13, 42, 180, 0, 13, 16, 16, 124, 27]
abbrev dktX24_draw_0 : List UInt8 := dkwX24_draw_0 ++ dktX24_draw_1
theorem dksX24_draw_0 : cX24_draw.data.toList.drop 0 = dktX24_draw_0 := by decide +kernel
theorem dksX24_draw_1 : cX24_draw.data.toList.drop 24 = dktX24_draw_1 := dk_seg dksX24_draw_0 24 rfl rfl
theorem dX24_draw_0 : decode cX24_draw 0 = .ok (.aload_n 0, 1) := dk_42 (dk_at dksX24_draw_0 0 rfl rfl)
theorem dX24_draw_1 : decode cX24_draw 1 = .ok (.aload_n 0, 1) := dk_42 (dk_at dksX24_draw_0 1 rfl rfl)
theorem dX24_draw_2 : decode cX24_draw 2 = .ok (.getfield 13, 3) := dk_180 0 13 (dk_at dksX24_draw_0 2 rfl rfl)
theorem dX24_draw_5 : decode cX24_draw 5 = .ok (.ldc_w 459, 3) := dk_19 1 203 (dk_at dksX24_draw_0 5 rfl rfl)
theorem dX24_draw_8 : decode cX24_draw 8 = .ok (.imul, 1) := dk_104 (dk_at dksX24_draw_0 8 rfl rfl)
theorem dX24_draw_9 : decode cX24_draw 9 = .ok (.sipush 12345, 3) := dk_17 48 57 (dk_at dksX24_draw_0 9 rfl rfl)
theorem dX24_draw_12 : decode cX24_draw 12 = .ok (.iadd, 1) := dk_96 (dk_at dksX24_draw_0 12 rfl rfl)
theorem dX24_draw_13 : decode cX24_draw 13 = .ok (.putfield 13, 3) := dk_181 0 13 (dk_at dksX24_draw_0 13 rfl rfl)
theorem dX24_draw_16 : decode cX24_draw 16 = .ok (.aload_n 0, 1) := dk_42 (dk_at dksX24_draw_0 16 rfl rfl)
theorem dX24_draw_17 : decode cX24_draw 17 = .ok (.getfield 13, 3) := dk_180 0 13 (dk_at dksX24_draw_0 17 rfl rfl)
theorem dX24_draw_20 : decode cX24_draw 20 = .ok (.bipush 16, 2) := dk_16 16 (dk_at dksX24_draw_0 20 rfl rfl)
theorem dX24_draw_22 : decode cX24_draw 22 = .ok (.iushr, 1) := dk_124 (dk_at dksX24_draw_0 22 rfl rfl)
theorem dX24_draw_23 : decode cX24_draw 23 = .ok (.iload_n 1, 1) := dk_27 (dk_at dksX24_draw_0 23 rfl rfl)
theorem dX24_draw_24 : decode cX24_draw 24 = .ok (.irem, 1) := dk_112 (dk_at dksX24_draw_1 0 rfl rfl)
theorem dX24_draw_25 : decode cX24_draw 25 = .ok (.ireturn, 1) := dk_172 (dk_at dksX24_draw_1 1 rfl rfl)
abbrev cX24_seed : ByteArray := prog_53_method_91_code
def yX24_seed : MethodName := ⟨RX24, "seed", "(I)I"⟩
def dkwX24_seed_0 : List UInt8 := [42, 180, 0, 13, 61, 42, 27, 181, 0, 13, 28, 172]
abbrev dktX24_seed_0 : List UInt8 := dkwX24_seed_0 ++ []
theorem dksX24_seed_0 : cX24_seed.data.toList.drop 0 = dktX24_seed_0 := by decide +kernel
theorem dX24_seed_0 : decode cX24_seed 0 = .ok (.aload_n 0, 1) := dk_42 (dk_at dksX24_seed_0 0 rfl rfl)
theorem dX24_seed_1 : decode cX24_seed 1 = .ok (.getfield 13, 3) := dk_180 0 13 (dk_at dksX24_seed_0 1 rfl rfl)
theorem dX24_seed_4 : decode cX24_seed 4 = .ok (.istore_n 2, 1) := dk_61 (dk_at dksX24_seed_0 4 rfl rfl)
theorem dX24_seed_5 : decode cX24_seed 5 = .ok (.aload_n 0, 1) := dk_42 (dk_at dksX24_seed_0 5 rfl rfl)
theorem dX24_seed_6 : decode cX24_seed 6 = .ok (.iload_n 1, 1) := dk_27 (dk_at dksX24_seed_0 6 rfl rfl)
theorem dX24_seed_7 : decode cX24_seed 7 = .ok (.putfield 13, 3) := dk_181 0 13 (dk_at dksX24_seed_0 7 rfl rfl)
theorem dX24_seed_10 : decode cX24_seed 10 = .ok (.iload_n 2, 1) := dk_28 (dk_at dksX24_seed_0 10 rfl rfl)
theorem dX24_seed_11 : decode cX24_seed 11 = .ok (.ireturn, 1) := dk_172 (dk_at dksX24_seed_0 11 rfl rfl)
abbrev cX24_image : ByteArray := prog_53_method_92_code
def yX24_image : MethodName := ⟨RX24, "image", "()I"⟩
def dkwX24_image_14 : List UInt8 := [167, 255, 232, 42, 180, 0, 199, 172]
abbrev dktX24_image_14 : List UInt8 := dkwX24_image_14 ++ []
def dkwX24_image_13 : List UInt8 := [42, 180, 0, 60, 190, 162, 0, 21, 42, 180, 1, 217, 28, 42, 180, 0, 60, 28, 51, 84, 132, 2, 1]
abbrev dktX24_image_13 : List UInt8 := dkwX24_image_13 ++ dktX24_image_14
def dkwX24_image_12 : List UInt8 := [28, 46, 79, 42, 180, 1, 214, 28, 42, 180, 0, 56, 28, 51, 84, 132, 2, 1, 167, 255, 158, 3, 61, 28]
abbrev dktX24_image_12 : List UInt8 := dkwX24_image_12 ++ dktX24_image_13
def dkwX24_image_11 : List UInt8 := [79, 43, 17, 1, 84, 28, 96, 42, 180, 0, 50, 28, 46, 79, 43, 17, 1, 154, 28, 96, 42, 180, 0, 53]
abbrev dktX24_image_11 : List UInt8 := dkwX24_image_11 ++ dktX24_image_12
def dkwX24_image_10 : List UInt8 := [17, 0, 200, 28, 96, 42, 180, 0, 44, 28, 46, 79, 43, 17, 1, 14, 28, 96, 42, 180, 0, 47, 28, 46]
abbrev dktX24_image_10 : List UInt8 := dkwX24_image_10 ++ dktX24_image_11
def dkwX24_image_9 : List UInt8 := [96, 42, 180, 0, 38, 28, 46, 79, 43, 17, 0, 130, 28, 96, 42, 180, 0, 41, 28, 46, 79, 43]
abbrev dktX24_image_9 : List UInt8 := dkwX24_image_9 ++ dktX24_image_10
def dkwX24_image_8 : List UInt8 := [180, 0, 35, 28, 46, 79, 132, 2, 1, 167, 255, 199, 3, 61, 28, 16, 64, 162, 0, 98, 43, 16, 60, 28]
abbrev dktX24_image_8 : List UInt8 := dkwX24_image_8 ++ dktX24_image_9
def dkwX24_image_7 : List UInt8 := [180, 0, 29, 28, 46, 79, 43, 16, 40, 28, 96, 42, 180, 0, 32, 28, 46, 79, 43, 16, 50, 28, 96, 42]
abbrev dktX24_image_7 : List UInt8 := dkwX24_image_7 ++ dktX24_image_8
def dkwX24_image_6 : List UInt8 := [16, 8, 162, 0, 57, 43, 16, 20, 28, 96, 42, 180, 0, 26, 28, 46, 79, 43, 16, 30, 28, 96, 42]
abbrev dktX24_image_6 : List UInt8 := dkwX24_image_6 ++ dktX24_image_7
def dkwX24_image_5 : List UInt8 := [162, 0, 21, 43, 16, 10, 28, 96, 42, 180, 0, 63, 28, 46, 79, 132, 2, 1, 167, 255, 235, 3, 61, 28]
abbrev dktX24_image_5 : List UInt8 := dkwX24_image_5 ++ dktX24_image_6
def dkwX24_image_4 : List UInt8 := [16, 6, 28, 96, 42, 180, 0, 23, 28, 46, 79, 132, 2, 1, 167, 255, 236, 3, 61, 28, 16, 7]
abbrev dktX24_image_4 : List UInt8 := dkwX24_image_4 ++ dktX24_image_5
def dkwX24_image_3 : List UInt8 := [79, 43, 7, 42, 180, 0, 7, 79, 43, 8, 42, 180, 0, 13, 79, 3, 61, 28, 7, 162, 0, 21, 43]
abbrev dktX24_image_3 : List UInt8 := dkwX24_image_3 ++ dktX24_image_4
def dkwX24_image_2 : List UInt8 := [180, 0, 232, 79, 43, 4, 42, 180, 0, 199, 79, 43, 5, 42, 180, 0, 196, 79, 43, 6, 42, 180, 1, 87]
abbrev dktX24_image_2 : List UInt8 := dkwX24_image_2 ++ dktX24_image_3
def dkwX24_image_1 : List UInt8 := [42, 42, 180, 0, 60, 190, 188, 4, 181, 1, 217, 42, 4, 181, 1, 207, 42, 180, 1, 211, 76, 43, 3, 42]
abbrev dktX24_image_1 : List UInt8 := dkwX24_image_1 ++ dktX24_image_2
def dkwX24_image_0 : List UInt8 := [42, 180, 1, 207, 154, 0, 31, 42, 17, 2, 88, 188, 10, 181, 1, 211, 42, 16, 64, 188, 4, 181, 1, 214]
abbrev dktX24_image_0 : List UInt8 := dkwX24_image_0 ++ dktX24_image_1
theorem dksX24_image_0 : cX24_image.data.toList.drop 0 = dktX24_image_0 := by decide +kernel
theorem dksX24_image_1 : cX24_image.data.toList.drop 24 = dktX24_image_1 := dk_seg dksX24_image_0 24 rfl rfl
theorem dksX24_image_2 : cX24_image.data.toList.drop 48 = dktX24_image_2 := dk_seg dksX24_image_1 24 rfl rfl
theorem dksX24_image_3 : cX24_image.data.toList.drop 72 = dktX24_image_3 := dk_seg dksX24_image_2 24 rfl rfl
theorem dksX24_image_4 : cX24_image.data.toList.drop 95 = dktX24_image_4 := dk_seg dksX24_image_3 23 rfl rfl
theorem dksX24_image_5 : cX24_image.data.toList.drop 117 = dktX24_image_5 := dk_seg dksX24_image_4 22 rfl rfl
theorem dksX24_image_6 : cX24_image.data.toList.drop 141 = dktX24_image_6 := dk_seg dksX24_image_5 24 rfl rfl
theorem dksX24_image_7 : cX24_image.data.toList.drop 164 = dktX24_image_7 := dk_seg dksX24_image_6 23 rfl rfl
theorem dksX24_image_8 : cX24_image.data.toList.drop 188 = dktX24_image_8 := dk_seg dksX24_image_7 24 rfl rfl
theorem dksX24_image_9 : cX24_image.data.toList.drop 212 = dktX24_image_9 := dk_seg dksX24_image_8 24 rfl rfl
theorem dksX24_image_10 : cX24_image.data.toList.drop 234 = dktX24_image_10 := dk_seg dksX24_image_9 22 rfl rfl
theorem dksX24_image_11 : cX24_image.data.toList.drop 258 = dktX24_image_11 := dk_seg dksX24_image_10 24 rfl rfl
theorem dksX24_image_12 : cX24_image.data.toList.drop 282 = dktX24_image_12 := dk_seg dksX24_image_11 24 rfl rfl
theorem dksX24_image_13 : cX24_image.data.toList.drop 306 = dktX24_image_13 := dk_seg dksX24_image_12 24 rfl rfl
theorem dksX24_image_14 : cX24_image.data.toList.drop 329 = dktX24_image_14 := dk_seg dksX24_image_13 23 rfl rfl
theorem dX24_image_0 : decode cX24_image 0 = .ok (.aload_n 0, 1) := dk_42 (dk_at dksX24_image_0 0 rfl rfl)
theorem dX24_image_1 : decode cX24_image 1 = .ok (.getfield 463, 3) := dk_180 1 207 (dk_at dksX24_image_0 1 rfl rfl)
theorem dX24_image_4 : decode cX24_image 4 = .ok (.ifCond .ne 31, 3) := dk_154 0 31 (dk_at dksX24_image_0 4 rfl rfl)
theorem dX24_image_7 : decode cX24_image 7 = .ok (.aload_n 0, 1) := dk_42 (dk_at dksX24_image_0 7 rfl rfl)
theorem dX24_image_8 : decode cX24_image 8 = .ok (.sipush 600, 3) := dk_17 2 88 (dk_at dksX24_image_0 8 rfl rfl)
theorem dX24_image_11 : decode cX24_image 11 = .ok (.newarray .int, 2) := dk_188_10 (dk_at dksX24_image_0 11 rfl rfl)
theorem dX24_image_13 : decode cX24_image 13 = .ok (.putfield 467, 3) := dk_181 1 211 (dk_at dksX24_image_0 13 rfl rfl)
theorem dX24_image_16 : decode cX24_image 16 = .ok (.aload_n 0, 1) := dk_42 (dk_at dksX24_image_0 16 rfl rfl)
theorem dX24_image_17 : decode cX24_image 17 = .ok (.bipush 64, 2) := dk_16 64 (dk_at dksX24_image_0 17 rfl rfl)
theorem dX24_image_19 : decode cX24_image 19 = .ok (.newarray .boolean, 2) := dk_188_4 (dk_at dksX24_image_0 19 rfl rfl)
theorem dX24_image_21 : decode cX24_image 21 = .ok (.putfield 470, 3) := dk_181 1 214 (dk_at dksX24_image_0 21 rfl rfl)
theorem dX24_image_24 : decode cX24_image 24 = .ok (.aload_n 0, 1) := dk_42 (dk_at dksX24_image_1 0 rfl rfl)
theorem dX24_image_25 : decode cX24_image 25 = .ok (.aload_n 0, 1) := dk_42 (dk_at dksX24_image_1 1 rfl rfl)
theorem dX24_image_26 : decode cX24_image 26 = .ok (.getfield 60, 3) := dk_180 0 60 (dk_at dksX24_image_1 2 rfl rfl)
theorem dX24_image_29 : decode cX24_image 29 = .ok (.arraylength, 1) := dk_190 (dk_at dksX24_image_1 5 rfl rfl)
theorem dX24_image_30 : decode cX24_image 30 = .ok (.newarray .boolean, 2) := dk_188_4 (dk_at dksX24_image_1 6 rfl rfl)
theorem dX24_image_32 : decode cX24_image 32 = .ok (.putfield 473, 3) := dk_181 1 217 (dk_at dksX24_image_1 8 rfl rfl)
theorem dX24_image_35 : decode cX24_image 35 = .ok (.aload_n 0, 1) := dk_42 (dk_at dksX24_image_1 11 rfl rfl)
theorem dX24_image_36 : decode cX24_image 36 = .ok (.iconst 1, 1) := dk_4 (dk_at dksX24_image_1 12 rfl rfl)
theorem dX24_image_37 : decode cX24_image 37 = .ok (.putfield 463, 3) := dk_181 1 207 (dk_at dksX24_image_1 13 rfl rfl)
theorem dX24_image_40 : decode cX24_image 40 = .ok (.aload_n 0, 1) := dk_42 (dk_at dksX24_image_1 16 rfl rfl)
theorem dX24_image_41 : decode cX24_image 41 = .ok (.getfield 467, 3) := dk_180 1 211 (dk_at dksX24_image_1 17 rfl rfl)
theorem dX24_image_44 : decode cX24_image 44 = .ok (.astore_n 1, 1) := dk_76 (dk_at dksX24_image_1 20 rfl rfl)
theorem dX24_image_45 : decode cX24_image 45 = .ok (.aload_n 1, 1) := dk_43 (dk_at dksX24_image_1 21 rfl rfl)
theorem dX24_image_46 : decode cX24_image 46 = .ok (.iconst 0, 1) := dk_3 (dk_at dksX24_image_1 22 rfl rfl)
theorem dX24_image_47 : decode cX24_image 47 = .ok (.aload_n 0, 1) := dk_42 (dk_at dksX24_image_1 23 rfl rfl)
theorem dX24_image_48 : decode cX24_image 48 = .ok (.getfield 232, 3) := dk_180 0 232 (dk_at dksX24_image_2 0 rfl rfl)
theorem dX24_image_51 : decode cX24_image 51 = .ok (.iastore, 1) := dk_79 (dk_at dksX24_image_2 3 rfl rfl)
theorem dX24_image_52 : decode cX24_image 52 = .ok (.aload_n 1, 1) := dk_43 (dk_at dksX24_image_2 4 rfl rfl)
theorem dX24_image_53 : decode cX24_image 53 = .ok (.iconst 1, 1) := dk_4 (dk_at dksX24_image_2 5 rfl rfl)
theorem dX24_image_54 : decode cX24_image 54 = .ok (.aload_n 0, 1) := dk_42 (dk_at dksX24_image_2 6 rfl rfl)
theorem dX24_image_55 : decode cX24_image 55 = .ok (.getfield 199, 3) := dk_180 0 199 (dk_at dksX24_image_2 7 rfl rfl)
theorem dX24_image_58 : decode cX24_image 58 = .ok (.iastore, 1) := dk_79 (dk_at dksX24_image_2 10 rfl rfl)
theorem dX24_image_59 : decode cX24_image 59 = .ok (.aload_n 1, 1) := dk_43 (dk_at dksX24_image_2 11 rfl rfl)
theorem dX24_image_60 : decode cX24_image 60 = .ok (.iconst 2, 1) := dk_5 (dk_at dksX24_image_2 12 rfl rfl)
theorem dX24_image_61 : decode cX24_image 61 = .ok (.aload_n 0, 1) := dk_42 (dk_at dksX24_image_2 13 rfl rfl)
theorem dX24_image_62 : decode cX24_image 62 = .ok (.getfield 196, 3) := dk_180 0 196 (dk_at dksX24_image_2 14 rfl rfl)
theorem dX24_image_65 : decode cX24_image 65 = .ok (.iastore, 1) := dk_79 (dk_at dksX24_image_2 17 rfl rfl)
theorem dX24_image_66 : decode cX24_image 66 = .ok (.aload_n 1, 1) := dk_43 (dk_at dksX24_image_2 18 rfl rfl)
theorem dX24_image_67 : decode cX24_image 67 = .ok (.iconst 3, 1) := dk_6 (dk_at dksX24_image_2 19 rfl rfl)
theorem dX24_image_68 : decode cX24_image 68 = .ok (.aload_n 0, 1) := dk_42 (dk_at dksX24_image_2 20 rfl rfl)
theorem dX24_image_69 : decode cX24_image 69 = .ok (.getfield 343, 3) := dk_180 1 87 (dk_at dksX24_image_2 21 rfl rfl)
theorem dX24_image_72 : decode cX24_image 72 = .ok (.iastore, 1) := dk_79 (dk_at dksX24_image_3 0 rfl rfl)
theorem dX24_image_73 : decode cX24_image 73 = .ok (.aload_n 1, 1) := dk_43 (dk_at dksX24_image_3 1 rfl rfl)
theorem dX24_image_74 : decode cX24_image 74 = .ok (.iconst 4, 1) := dk_7 (dk_at dksX24_image_3 2 rfl rfl)
theorem dX24_image_75 : decode cX24_image 75 = .ok (.aload_n 0, 1) := dk_42 (dk_at dksX24_image_3 3 rfl rfl)
theorem dX24_image_76 : decode cX24_image 76 = .ok (.getfield 7, 3) := dk_180 0 7 (dk_at dksX24_image_3 4 rfl rfl)
theorem dX24_image_79 : decode cX24_image 79 = .ok (.iastore, 1) := dk_79 (dk_at dksX24_image_3 7 rfl rfl)
theorem dX24_image_80 : decode cX24_image 80 = .ok (.aload_n 1, 1) := dk_43 (dk_at dksX24_image_3 8 rfl rfl)
theorem dX24_image_81 : decode cX24_image 81 = .ok (.iconst 5, 1) := dk_8 (dk_at dksX24_image_3 9 rfl rfl)
theorem dX24_image_82 : decode cX24_image 82 = .ok (.aload_n 0, 1) := dk_42 (dk_at dksX24_image_3 10 rfl rfl)
theorem dX24_image_83 : decode cX24_image 83 = .ok (.getfield 13, 3) := dk_180 0 13 (dk_at dksX24_image_3 11 rfl rfl)
theorem dX24_image_86 : decode cX24_image 86 = .ok (.iastore, 1) := dk_79 (dk_at dksX24_image_3 14 rfl rfl)
theorem dX24_image_87 : decode cX24_image 87 = .ok (.iconst 0, 1) := dk_3 (dk_at dksX24_image_3 15 rfl rfl)
theorem dX24_image_88 : decode cX24_image 88 = .ok (.istore_n 2, 1) := dk_61 (dk_at dksX24_image_3 16 rfl rfl)
theorem dX24_image_89 : decode cX24_image 89 = .ok (.iload_n 2, 1) := dk_28 (dk_at dksX24_image_3 17 rfl rfl)
theorem dX24_image_90 : decode cX24_image 90 = .ok (.iconst 4, 1) := dk_7 (dk_at dksX24_image_3 18 rfl rfl)
theorem dX24_image_91 : decode cX24_image 91 = .ok (.if_icmp .ge 21, 3) := dk_162 0 21 (dk_at dksX24_image_3 19 rfl rfl)
theorem dX24_image_94 : decode cX24_image 94 = .ok (.aload_n 1, 1) := dk_43 (dk_at dksX24_image_3 22 rfl rfl)
theorem dX24_image_95 : decode cX24_image 95 = .ok (.bipush 6, 2) := dk_16 6 (dk_at dksX24_image_4 0 rfl rfl)
theorem dX24_image_97 : decode cX24_image 97 = .ok (.iload_n 2, 1) := dk_28 (dk_at dksX24_image_4 2 rfl rfl)
theorem dX24_image_98 : decode cX24_image 98 = .ok (.iadd, 1) := dk_96 (dk_at dksX24_image_4 3 rfl rfl)
theorem dX24_image_99 : decode cX24_image 99 = .ok (.aload_n 0, 1) := dk_42 (dk_at dksX24_image_4 4 rfl rfl)
theorem dX24_image_100 : decode cX24_image 100 = .ok (.getfield 23, 3) := dk_180 0 23 (dk_at dksX24_image_4 5 rfl rfl)
theorem dX24_image_103 : decode cX24_image 103 = .ok (.iload_n 2, 1) := dk_28 (dk_at dksX24_image_4 8 rfl rfl)
theorem dX24_image_104 : decode cX24_image 104 = .ok (.iaload, 1) := dk_46 (dk_at dksX24_image_4 9 rfl rfl)
theorem dX24_image_105 : decode cX24_image 105 = .ok (.iastore, 1) := dk_79 (dk_at dksX24_image_4 10 rfl rfl)
theorem dX24_image_106 : decode cX24_image 106 = .ok (.iinc 2 1, 3) := dk_132 2 1 (dk_at dksX24_image_4 11 rfl rfl)
theorem dX24_image_109 : decode cX24_image 109 = .ok (.goto (-20), 3) := dk_167 255 236 (dk_at dksX24_image_4 14 rfl rfl)
theorem dX24_image_112 : decode cX24_image 112 = .ok (.iconst 0, 1) := dk_3 (dk_at dksX24_image_4 17 rfl rfl)
theorem dX24_image_113 : decode cX24_image 113 = .ok (.istore_n 2, 1) := dk_61 (dk_at dksX24_image_4 18 rfl rfl)
theorem dX24_image_114 : decode cX24_image 114 = .ok (.iload_n 2, 1) := dk_28 (dk_at dksX24_image_4 19 rfl rfl)
theorem dX24_image_115 : decode cX24_image 115 = .ok (.bipush 7, 2) := dk_16 7 (dk_at dksX24_image_4 20 rfl rfl)
theorem dX24_image_117 : decode cX24_image 117 = .ok (.if_icmp .ge 21, 3) := dk_162 0 21 (dk_at dksX24_image_5 0 rfl rfl)
theorem dX24_image_120 : decode cX24_image 120 = .ok (.aload_n 1, 1) := dk_43 (dk_at dksX24_image_5 3 rfl rfl)
theorem dX24_image_121 : decode cX24_image 121 = .ok (.bipush 10, 2) := dk_16 10 (dk_at dksX24_image_5 4 rfl rfl)
theorem dX24_image_123 : decode cX24_image 123 = .ok (.iload_n 2, 1) := dk_28 (dk_at dksX24_image_5 6 rfl rfl)
theorem dX24_image_124 : decode cX24_image 124 = .ok (.iadd, 1) := dk_96 (dk_at dksX24_image_5 7 rfl rfl)
theorem dX24_image_125 : decode cX24_image 125 = .ok (.aload_n 0, 1) := dk_42 (dk_at dksX24_image_5 8 rfl rfl)
theorem dX24_image_126 : decode cX24_image 126 = .ok (.getfield 63, 3) := dk_180 0 63 (dk_at dksX24_image_5 9 rfl rfl)
theorem dX24_image_129 : decode cX24_image 129 = .ok (.iload_n 2, 1) := dk_28 (dk_at dksX24_image_5 12 rfl rfl)
theorem dX24_image_130 : decode cX24_image 130 = .ok (.iaload, 1) := dk_46 (dk_at dksX24_image_5 13 rfl rfl)
theorem dX24_image_131 : decode cX24_image 131 = .ok (.iastore, 1) := dk_79 (dk_at dksX24_image_5 14 rfl rfl)
theorem dX24_image_132 : decode cX24_image 132 = .ok (.iinc 2 1, 3) := dk_132 2 1 (dk_at dksX24_image_5 15 rfl rfl)
theorem dX24_image_135 : decode cX24_image 135 = .ok (.goto (-21), 3) := dk_167 255 235 (dk_at dksX24_image_5 18 rfl rfl)
theorem dX24_image_138 : decode cX24_image 138 = .ok (.iconst 0, 1) := dk_3 (dk_at dksX24_image_5 21 rfl rfl)
theorem dX24_image_139 : decode cX24_image 139 = .ok (.istore_n 2, 1) := dk_61 (dk_at dksX24_image_5 22 rfl rfl)
theorem dX24_image_140 : decode cX24_image 140 = .ok (.iload_n 2, 1) := dk_28 (dk_at dksX24_image_5 23 rfl rfl)
theorem dX24_image_141 : decode cX24_image 141 = .ok (.bipush 8, 2) := dk_16 8 (dk_at dksX24_image_6 0 rfl rfl)
theorem dX24_image_143 : decode cX24_image 143 = .ok (.if_icmp .ge 57, 3) := dk_162 0 57 (dk_at dksX24_image_6 2 rfl rfl)
theorem dX24_image_146 : decode cX24_image 146 = .ok (.aload_n 1, 1) := dk_43 (dk_at dksX24_image_6 5 rfl rfl)
theorem dX24_image_147 : decode cX24_image 147 = .ok (.bipush 20, 2) := dk_16 20 (dk_at dksX24_image_6 6 rfl rfl)
theorem dX24_image_149 : decode cX24_image 149 = .ok (.iload_n 2, 1) := dk_28 (dk_at dksX24_image_6 8 rfl rfl)
theorem dX24_image_150 : decode cX24_image 150 = .ok (.iadd, 1) := dk_96 (dk_at dksX24_image_6 9 rfl rfl)
theorem dX24_image_151 : decode cX24_image 151 = .ok (.aload_n 0, 1) := dk_42 (dk_at dksX24_image_6 10 rfl rfl)
theorem dX24_image_152 : decode cX24_image 152 = .ok (.getfield 26, 3) := dk_180 0 26 (dk_at dksX24_image_6 11 rfl rfl)
theorem dX24_image_155 : decode cX24_image 155 = .ok (.iload_n 2, 1) := dk_28 (dk_at dksX24_image_6 14 rfl rfl)
theorem dX24_image_156 : decode cX24_image 156 = .ok (.iaload, 1) := dk_46 (dk_at dksX24_image_6 15 rfl rfl)
theorem dX24_image_157 : decode cX24_image 157 = .ok (.iastore, 1) := dk_79 (dk_at dksX24_image_6 16 rfl rfl)
theorem dX24_image_158 : decode cX24_image 158 = .ok (.aload_n 1, 1) := dk_43 (dk_at dksX24_image_6 17 rfl rfl)
theorem dX24_image_159 : decode cX24_image 159 = .ok (.bipush 30, 2) := dk_16 30 (dk_at dksX24_image_6 18 rfl rfl)
theorem dX24_image_161 : decode cX24_image 161 = .ok (.iload_n 2, 1) := dk_28 (dk_at dksX24_image_6 20 rfl rfl)
theorem dX24_image_162 : decode cX24_image 162 = .ok (.iadd, 1) := dk_96 (dk_at dksX24_image_6 21 rfl rfl)
theorem dX24_image_163 : decode cX24_image 163 = .ok (.aload_n 0, 1) := dk_42 (dk_at dksX24_image_6 22 rfl rfl)
theorem dX24_image_164 : decode cX24_image 164 = .ok (.getfield 29, 3) := dk_180 0 29 (dk_at dksX24_image_7 0 rfl rfl)
theorem dX24_image_167 : decode cX24_image 167 = .ok (.iload_n 2, 1) := dk_28 (dk_at dksX24_image_7 3 rfl rfl)
theorem dX24_image_168 : decode cX24_image 168 = .ok (.iaload, 1) := dk_46 (dk_at dksX24_image_7 4 rfl rfl)
theorem dX24_image_169 : decode cX24_image 169 = .ok (.iastore, 1) := dk_79 (dk_at dksX24_image_7 5 rfl rfl)
theorem dX24_image_170 : decode cX24_image 170 = .ok (.aload_n 1, 1) := dk_43 (dk_at dksX24_image_7 6 rfl rfl)
theorem dX24_image_171 : decode cX24_image 171 = .ok (.bipush 40, 2) := dk_16 40 (dk_at dksX24_image_7 7 rfl rfl)
theorem dX24_image_173 : decode cX24_image 173 = .ok (.iload_n 2, 1) := dk_28 (dk_at dksX24_image_7 9 rfl rfl)
theorem dX24_image_174 : decode cX24_image 174 = .ok (.iadd, 1) := dk_96 (dk_at dksX24_image_7 10 rfl rfl)
theorem dX24_image_175 : decode cX24_image 175 = .ok (.aload_n 0, 1) := dk_42 (dk_at dksX24_image_7 11 rfl rfl)
theorem dX24_image_176 : decode cX24_image 176 = .ok (.getfield 32, 3) := dk_180 0 32 (dk_at dksX24_image_7 12 rfl rfl)
theorem dX24_image_179 : decode cX24_image 179 = .ok (.iload_n 2, 1) := dk_28 (dk_at dksX24_image_7 15 rfl rfl)
theorem dX24_image_180 : decode cX24_image 180 = .ok (.iaload, 1) := dk_46 (dk_at dksX24_image_7 16 rfl rfl)
theorem dX24_image_181 : decode cX24_image 181 = .ok (.iastore, 1) := dk_79 (dk_at dksX24_image_7 17 rfl rfl)
theorem dX24_image_182 : decode cX24_image 182 = .ok (.aload_n 1, 1) := dk_43 (dk_at dksX24_image_7 18 rfl rfl)
theorem dX24_image_183 : decode cX24_image 183 = .ok (.bipush 50, 2) := dk_16 50 (dk_at dksX24_image_7 19 rfl rfl)
theorem dX24_image_185 : decode cX24_image 185 = .ok (.iload_n 2, 1) := dk_28 (dk_at dksX24_image_7 21 rfl rfl)
theorem dX24_image_186 : decode cX24_image 186 = .ok (.iadd, 1) := dk_96 (dk_at dksX24_image_7 22 rfl rfl)
theorem dX24_image_187 : decode cX24_image 187 = .ok (.aload_n 0, 1) := dk_42 (dk_at dksX24_image_7 23 rfl rfl)
theorem dX24_image_188 : decode cX24_image 188 = .ok (.getfield 35, 3) := dk_180 0 35 (dk_at dksX24_image_8 0 rfl rfl)
theorem dX24_image_191 : decode cX24_image 191 = .ok (.iload_n 2, 1) := dk_28 (dk_at dksX24_image_8 3 rfl rfl)
theorem dX24_image_192 : decode cX24_image 192 = .ok (.iaload, 1) := dk_46 (dk_at dksX24_image_8 4 rfl rfl)
theorem dX24_image_193 : decode cX24_image 193 = .ok (.iastore, 1) := dk_79 (dk_at dksX24_image_8 5 rfl rfl)
theorem dX24_image_194 : decode cX24_image 194 = .ok (.iinc 2 1, 3) := dk_132 2 1 (dk_at dksX24_image_8 6 rfl rfl)
theorem dX24_image_197 : decode cX24_image 197 = .ok (.goto (-57), 3) := dk_167 255 199 (dk_at dksX24_image_8 9 rfl rfl)
theorem dX24_image_200 : decode cX24_image 200 = .ok (.iconst 0, 1) := dk_3 (dk_at dksX24_image_8 12 rfl rfl)
theorem dX24_image_201 : decode cX24_image 201 = .ok (.istore_n 2, 1) := dk_61 (dk_at dksX24_image_8 13 rfl rfl)
theorem dX24_image_202 : decode cX24_image 202 = .ok (.iload_n 2, 1) := dk_28 (dk_at dksX24_image_8 14 rfl rfl)
theorem dX24_image_203 : decode cX24_image 203 = .ok (.bipush 64, 2) := dk_16 64 (dk_at dksX24_image_8 15 rfl rfl)
theorem dX24_image_205 : decode cX24_image 205 = .ok (.if_icmp .ge 98, 3) := dk_162 0 98 (dk_at dksX24_image_8 17 rfl rfl)
theorem dX24_image_208 : decode cX24_image 208 = .ok (.aload_n 1, 1) := dk_43 (dk_at dksX24_image_8 20 rfl rfl)
theorem dX24_image_209 : decode cX24_image 209 = .ok (.bipush 60, 2) := dk_16 60 (dk_at dksX24_image_8 21 rfl rfl)
theorem dX24_image_211 : decode cX24_image 211 = .ok (.iload_n 2, 1) := dk_28 (dk_at dksX24_image_8 23 rfl rfl)
theorem dX24_image_212 : decode cX24_image 212 = .ok (.iadd, 1) := dk_96 (dk_at dksX24_image_9 0 rfl rfl)
theorem dX24_image_213 : decode cX24_image 213 = .ok (.aload_n 0, 1) := dk_42 (dk_at dksX24_image_9 1 rfl rfl)
theorem dX24_image_214 : decode cX24_image 214 = .ok (.getfield 38, 3) := dk_180 0 38 (dk_at dksX24_image_9 2 rfl rfl)
theorem dX24_image_217 : decode cX24_image 217 = .ok (.iload_n 2, 1) := dk_28 (dk_at dksX24_image_9 5 rfl rfl)
theorem dX24_image_218 : decode cX24_image 218 = .ok (.iaload, 1) := dk_46 (dk_at dksX24_image_9 6 rfl rfl)
theorem dX24_image_219 : decode cX24_image 219 = .ok (.iastore, 1) := dk_79 (dk_at dksX24_image_9 7 rfl rfl)
theorem dX24_image_220 : decode cX24_image 220 = .ok (.aload_n 1, 1) := dk_43 (dk_at dksX24_image_9 8 rfl rfl)
theorem dX24_image_221 : decode cX24_image 221 = .ok (.sipush 130, 3) := dk_17 0 130 (dk_at dksX24_image_9 9 rfl rfl)
theorem dX24_image_224 : decode cX24_image 224 = .ok (.iload_n 2, 1) := dk_28 (dk_at dksX24_image_9 12 rfl rfl)
theorem dX24_image_225 : decode cX24_image 225 = .ok (.iadd, 1) := dk_96 (dk_at dksX24_image_9 13 rfl rfl)
theorem dX24_image_226 : decode cX24_image 226 = .ok (.aload_n 0, 1) := dk_42 (dk_at dksX24_image_9 14 rfl rfl)
theorem dX24_image_227 : decode cX24_image 227 = .ok (.getfield 41, 3) := dk_180 0 41 (dk_at dksX24_image_9 15 rfl rfl)
theorem dX24_image_230 : decode cX24_image 230 = .ok (.iload_n 2, 1) := dk_28 (dk_at dksX24_image_9 18 rfl rfl)
theorem dX24_image_231 : decode cX24_image 231 = .ok (.iaload, 1) := dk_46 (dk_at dksX24_image_9 19 rfl rfl)
theorem dX24_image_232 : decode cX24_image 232 = .ok (.iastore, 1) := dk_79 (dk_at dksX24_image_9 20 rfl rfl)
theorem dX24_image_233 : decode cX24_image 233 = .ok (.aload_n 1, 1) := dk_43 (dk_at dksX24_image_9 21 rfl rfl)
theorem dX24_image_234 : decode cX24_image 234 = .ok (.sipush 200, 3) := dk_17 0 200 (dk_at dksX24_image_10 0 rfl rfl)
theorem dX24_image_237 : decode cX24_image 237 = .ok (.iload_n 2, 1) := dk_28 (dk_at dksX24_image_10 3 rfl rfl)
theorem dX24_image_238 : decode cX24_image 238 = .ok (.iadd, 1) := dk_96 (dk_at dksX24_image_10 4 rfl rfl)
theorem dX24_image_239 : decode cX24_image 239 = .ok (.aload_n 0, 1) := dk_42 (dk_at dksX24_image_10 5 rfl rfl)
theorem dX24_image_240 : decode cX24_image 240 = .ok (.getfield 44, 3) := dk_180 0 44 (dk_at dksX24_image_10 6 rfl rfl)
theorem dX24_image_243 : decode cX24_image 243 = .ok (.iload_n 2, 1) := dk_28 (dk_at dksX24_image_10 9 rfl rfl)
theorem dX24_image_244 : decode cX24_image 244 = .ok (.iaload, 1) := dk_46 (dk_at dksX24_image_10 10 rfl rfl)
theorem dX24_image_245 : decode cX24_image 245 = .ok (.iastore, 1) := dk_79 (dk_at dksX24_image_10 11 rfl rfl)
theorem dX24_image_246 : decode cX24_image 246 = .ok (.aload_n 1, 1) := dk_43 (dk_at dksX24_image_10 12 rfl rfl)
theorem dX24_image_247 : decode cX24_image 247 = .ok (.sipush 270, 3) := dk_17 1 14 (dk_at dksX24_image_10 13 rfl rfl)
theorem dX24_image_250 : decode cX24_image 250 = .ok (.iload_n 2, 1) := dk_28 (dk_at dksX24_image_10 16 rfl rfl)
theorem dX24_image_251 : decode cX24_image 251 = .ok (.iadd, 1) := dk_96 (dk_at dksX24_image_10 17 rfl rfl)
theorem dX24_image_252 : decode cX24_image 252 = .ok (.aload_n 0, 1) := dk_42 (dk_at dksX24_image_10 18 rfl rfl)
theorem dX24_image_253 : decode cX24_image 253 = .ok (.getfield 47, 3) := dk_180 0 47 (dk_at dksX24_image_10 19 rfl rfl)
theorem dX24_image_256 : decode cX24_image 256 = .ok (.iload_n 2, 1) := dk_28 (dk_at dksX24_image_10 22 rfl rfl)
theorem dX24_image_257 : decode cX24_image 257 = .ok (.iaload, 1) := dk_46 (dk_at dksX24_image_10 23 rfl rfl)
theorem dX24_image_258 : decode cX24_image 258 = .ok (.iastore, 1) := dk_79 (dk_at dksX24_image_11 0 rfl rfl)
theorem dX24_image_259 : decode cX24_image 259 = .ok (.aload_n 1, 1) := dk_43 (dk_at dksX24_image_11 1 rfl rfl)
theorem dX24_image_260 : decode cX24_image 260 = .ok (.sipush 340, 3) := dk_17 1 84 (dk_at dksX24_image_11 2 rfl rfl)
theorem dX24_image_263 : decode cX24_image 263 = .ok (.iload_n 2, 1) := dk_28 (dk_at dksX24_image_11 5 rfl rfl)
theorem dX24_image_264 : decode cX24_image 264 = .ok (.iadd, 1) := dk_96 (dk_at dksX24_image_11 6 rfl rfl)
theorem dX24_image_265 : decode cX24_image 265 = .ok (.aload_n 0, 1) := dk_42 (dk_at dksX24_image_11 7 rfl rfl)
theorem dX24_image_266 : decode cX24_image 266 = .ok (.getfield 50, 3) := dk_180 0 50 (dk_at dksX24_image_11 8 rfl rfl)
theorem dX24_image_269 : decode cX24_image 269 = .ok (.iload_n 2, 1) := dk_28 (dk_at dksX24_image_11 11 rfl rfl)
theorem dX24_image_270 : decode cX24_image 270 = .ok (.iaload, 1) := dk_46 (dk_at dksX24_image_11 12 rfl rfl)
theorem dX24_image_271 : decode cX24_image 271 = .ok (.iastore, 1) := dk_79 (dk_at dksX24_image_11 13 rfl rfl)
theorem dX24_image_272 : decode cX24_image 272 = .ok (.aload_n 1, 1) := dk_43 (dk_at dksX24_image_11 14 rfl rfl)
theorem dX24_image_273 : decode cX24_image 273 = .ok (.sipush 410, 3) := dk_17 1 154 (dk_at dksX24_image_11 15 rfl rfl)
theorem dX24_image_276 : decode cX24_image 276 = .ok (.iload_n 2, 1) := dk_28 (dk_at dksX24_image_11 18 rfl rfl)
theorem dX24_image_277 : decode cX24_image 277 = .ok (.iadd, 1) := dk_96 (dk_at dksX24_image_11 19 rfl rfl)
theorem dX24_image_278 : decode cX24_image 278 = .ok (.aload_n 0, 1) := dk_42 (dk_at dksX24_image_11 20 rfl rfl)
theorem dX24_image_279 : decode cX24_image 279 = .ok (.getfield 53, 3) := dk_180 0 53 (dk_at dksX24_image_11 21 rfl rfl)
theorem dX24_image_282 : decode cX24_image 282 = .ok (.iload_n 2, 1) := dk_28 (dk_at dksX24_image_12 0 rfl rfl)
theorem dX24_image_283 : decode cX24_image 283 = .ok (.iaload, 1) := dk_46 (dk_at dksX24_image_12 1 rfl rfl)
theorem dX24_image_284 : decode cX24_image 284 = .ok (.iastore, 1) := dk_79 (dk_at dksX24_image_12 2 rfl rfl)
theorem dX24_image_285 : decode cX24_image 285 = .ok (.aload_n 0, 1) := dk_42 (dk_at dksX24_image_12 3 rfl rfl)
theorem dX24_image_286 : decode cX24_image 286 = .ok (.getfield 470, 3) := dk_180 1 214 (dk_at dksX24_image_12 4 rfl rfl)
theorem dX24_image_289 : decode cX24_image 289 = .ok (.iload_n 2, 1) := dk_28 (dk_at dksX24_image_12 7 rfl rfl)
theorem dX24_image_290 : decode cX24_image 290 = .ok (.aload_n 0, 1) := dk_42 (dk_at dksX24_image_12 8 rfl rfl)
theorem dX24_image_291 : decode cX24_image 291 = .ok (.getfield 56, 3) := dk_180 0 56 (dk_at dksX24_image_12 9 rfl rfl)
theorem dX24_image_294 : decode cX24_image 294 = .ok (.iload_n 2, 1) := dk_28 (dk_at dksX24_image_12 12 rfl rfl)
theorem dX24_image_295 : decode cX24_image 295 = .ok (.baload, 1) := dk_51 (dk_at dksX24_image_12 13 rfl rfl)
theorem dX24_image_296 : decode cX24_image 296 = .ok (.bastore, 1) := dk_84 (dk_at dksX24_image_12 14 rfl rfl)
theorem dX24_image_297 : decode cX24_image 297 = .ok (.iinc 2 1, 3) := dk_132 2 1 (dk_at dksX24_image_12 15 rfl rfl)
theorem dX24_image_300 : decode cX24_image 300 = .ok (.goto (-98), 3) := dk_167 255 158 (dk_at dksX24_image_12 18 rfl rfl)
theorem dX24_image_303 : decode cX24_image 303 = .ok (.iconst 0, 1) := dk_3 (dk_at dksX24_image_12 21 rfl rfl)
theorem dX24_image_304 : decode cX24_image 304 = .ok (.istore_n 2, 1) := dk_61 (dk_at dksX24_image_12 22 rfl rfl)
theorem dX24_image_305 : decode cX24_image 305 = .ok (.iload_n 2, 1) := dk_28 (dk_at dksX24_image_12 23 rfl rfl)
theorem dX24_image_306 : decode cX24_image 306 = .ok (.aload_n 0, 1) := dk_42 (dk_at dksX24_image_13 0 rfl rfl)
theorem dX24_image_307 : decode cX24_image 307 = .ok (.getfield 60, 3) := dk_180 0 60 (dk_at dksX24_image_13 1 rfl rfl)
theorem dX24_image_310 : decode cX24_image 310 = .ok (.arraylength, 1) := dk_190 (dk_at dksX24_image_13 4 rfl rfl)
theorem dX24_image_311 : decode cX24_image 311 = .ok (.if_icmp .ge 21, 3) := dk_162 0 21 (dk_at dksX24_image_13 5 rfl rfl)
theorem dX24_image_314 : decode cX24_image 314 = .ok (.aload_n 0, 1) := dk_42 (dk_at dksX24_image_13 8 rfl rfl)
theorem dX24_image_315 : decode cX24_image 315 = .ok (.getfield 473, 3) := dk_180 1 217 (dk_at dksX24_image_13 9 rfl rfl)
theorem dX24_image_318 : decode cX24_image 318 = .ok (.iload_n 2, 1) := dk_28 (dk_at dksX24_image_13 12 rfl rfl)
theorem dX24_image_319 : decode cX24_image 319 = .ok (.aload_n 0, 1) := dk_42 (dk_at dksX24_image_13 13 rfl rfl)
theorem dX24_image_320 : decode cX24_image 320 = .ok (.getfield 60, 3) := dk_180 0 60 (dk_at dksX24_image_13 14 rfl rfl)
theorem dX24_image_323 : decode cX24_image 323 = .ok (.iload_n 2, 1) := dk_28 (dk_at dksX24_image_13 17 rfl rfl)
theorem dX24_image_324 : decode cX24_image 324 = .ok (.baload, 1) := dk_51 (dk_at dksX24_image_13 18 rfl rfl)
theorem dX24_image_325 : decode cX24_image 325 = .ok (.bastore, 1) := dk_84 (dk_at dksX24_image_13 19 rfl rfl)
theorem dX24_image_326 : decode cX24_image 326 = .ok (.iinc 2 1, 3) := dk_132 2 1 (dk_at dksX24_image_13 20 rfl rfl)
theorem dX24_image_329 : decode cX24_image 329 = .ok (.goto (-24), 3) := dk_167 255 232 (dk_at dksX24_image_14 0 rfl rfl)
theorem dX24_image_332 : decode cX24_image 332 = .ok (.aload_n 0, 1) := dk_42 (dk_at dksX24_image_14 3 rfl rfl)
theorem dX24_image_333 : decode cX24_image 333 = .ok (.getfield 199, 3) := dk_180 0 199 (dk_at dksX24_image_14 4 rfl rfl)
theorem dX24_image_336 : decode cX24_image 336 = .ok (.ireturn, 1) := dk_172 (dk_at dksX24_image_14 7 rfl rfl)
abbrev cX24_restore : ByteArray := prog_53_method_93_code
def yX24_restore : MethodName := ⟨RX24, "restore", "()I"⟩
def dkwX24_restore_15 : List UInt8 := [167, 255, 217, 42, 180, 0, 199, 172]
abbrev dktX24_restore_15 : List UInt8 := dkwX24_restore_15 ++ []
def dkwX24_restore_14 : List UInt8 := [180, 0, 75, 28, 46, 42, 180, 0, 199, 161, 0, 10, 42, 180, 0, 66, 28, 3, 79, 132, 2, 1]
abbrev dktX24_restore_14 : List UInt8 := dkwX24_restore_14 ++ dktX24_restore_15
def dkwX24_restore_13 : List UInt8 := [167, 255, 232, 3, 61, 28, 16, 8, 162, 0, 39, 42, 180, 0, 66, 28, 46, 5, 160, 0, 23, 42]
abbrev dktX24_restore_13 : List UInt8 := dkwX24_restore_13 ++ dktX24_restore_14
def dkwX24_restore_12 : List UInt8 := [42, 180, 0, 60, 190, 162, 0, 21, 42, 180, 0, 60, 28, 42, 180, 1, 217, 28, 51, 84, 132, 2, 1]
abbrev dktX24_restore_12 : List UInt8 := dkwX24_restore_12 ++ dktX24_restore_13
def dkwX24_restore_11 : List UInt8 := [96, 46, 79, 42, 180, 0, 56, 28, 42, 180, 1, 214, 28, 51, 84, 132, 2, 1, 167, 255, 158, 3, 61, 28]
abbrev dktX24_restore_11 : List UInt8 := dkwX24_restore_11 ++ dktX24_restore_12
def dkwX24_restore_10 : List UInt8 := [79, 42, 180, 0, 50, 28, 43, 17, 1, 84, 28, 96, 46, 79, 42, 180, 0, 53, 28, 43, 17, 1, 154, 28]
abbrev dktX24_restore_10 : List UInt8 := dkwX24_restore_10 ++ dktX24_restore_11
def dkwX24_restore_9 : List UInt8 := [180, 0, 44, 28, 43, 17, 0, 200, 28, 96, 46, 79, 42, 180, 0, 47, 28, 43, 17, 1, 14, 28, 96, 46]
abbrev dktX24_restore_9 : List UInt8 := dkwX24_restore_9 ++ dktX24_restore_10
def dkwX24_restore_8 : List UInt8 := [28, 43, 16, 60, 28, 96, 46, 79, 42, 180, 0, 41, 28, 43, 17, 0, 130, 28, 96, 46, 79, 42]
abbrev dktX24_restore_8 : List UInt8 := dkwX24_restore_8 ++ dktX24_restore_9
def dkwX24_restore_7 : List UInt8 := [16, 50, 28, 96, 46, 79, 132, 2, 1, 167, 255, 199, 3, 61, 28, 16, 64, 162, 0, 98, 42, 180, 0, 38]
abbrev dktX24_restore_7 : List UInt8 := dkwX24_restore_7 ++ dktX24_restore_8
def dkwX24_restore_6 : List UInt8 := [16, 30, 28, 96, 46, 79, 42, 180, 0, 32, 28, 43, 16, 40, 28, 96, 46, 79, 42, 180, 0, 35, 28, 43]
abbrev dktX24_restore_6 : List UInt8 := dkwX24_restore_6 ++ dktX24_restore_7
def dkwX24_restore_5 : List UInt8 := [16, 8, 162, 0, 57, 42, 180, 0, 26, 28, 43, 16, 20, 28, 96, 46, 79, 42, 180, 0, 29, 28, 43]
abbrev dktX24_restore_5 : List UInt8 := dkwX24_restore_5 ++ dktX24_restore_6
def dkwX24_restore_4 : List UInt8 := [162, 0, 21, 42, 180, 0, 63, 28, 43, 16, 10, 28, 96, 46, 79, 132, 2, 1, 167, 255, 235, 3, 61, 28]
abbrev dktX24_restore_4 : List UInt8 := dkwX24_restore_4 ++ dktX24_restore_5
def dkwX24_restore_3 : List UInt8 := [180, 0, 23, 28, 43, 16, 6, 28, 96, 46, 79, 132, 2, 1, 167, 255, 236, 3, 61, 28, 16, 7]
abbrev dktX24_restore_3 : List UInt8 := dkwX24_restore_3 ++ dktX24_restore_4
def dkwX24_restore_2 : List UInt8 := [42, 43, 7, 46, 181, 0, 7, 42, 43, 8, 46, 181, 0, 13, 3, 61, 28, 7, 162, 0, 21, 42]
abbrev dktX24_restore_2 : List UInt8 := dkwX24_restore_2 ++ dktX24_restore_3
def dkwX24_restore_1 : List UInt8 := [181, 0, 232, 42, 43, 4, 46, 181, 0, 199, 42, 43, 5, 46, 181, 0, 196, 42, 43, 6, 46, 181, 1, 87]
abbrev dktX24_restore_1 : List UInt8 := dkwX24_restore_1 ++ dktX24_restore_2
def dkwX24_restore_0 : List UInt8 := [42, 180, 1, 207, 154, 0, 10, 42, 16, 250, 182, 0, 206, 172, 42, 180, 1, 211, 76, 42, 43, 3, 46]
abbrev dktX24_restore_0 : List UInt8 := dkwX24_restore_0 ++ dktX24_restore_1
theorem dksX24_restore_0 : cX24_restore.data.toList.drop 0 = dktX24_restore_0 := by decide +kernel
theorem dksX24_restore_1 : cX24_restore.data.toList.drop 23 = dktX24_restore_1 := dk_seg dksX24_restore_0 23 rfl rfl
theorem dksX24_restore_2 : cX24_restore.data.toList.drop 47 = dktX24_restore_2 := dk_seg dksX24_restore_1 24 rfl rfl
theorem dksX24_restore_3 : cX24_restore.data.toList.drop 69 = dktX24_restore_3 := dk_seg dksX24_restore_2 22 rfl rfl
theorem dksX24_restore_4 : cX24_restore.data.toList.drop 91 = dktX24_restore_4 := dk_seg dksX24_restore_3 22 rfl rfl
theorem dksX24_restore_5 : cX24_restore.data.toList.drop 115 = dktX24_restore_5 := dk_seg dksX24_restore_4 24 rfl rfl
theorem dksX24_restore_6 : cX24_restore.data.toList.drop 138 = dktX24_restore_6 := dk_seg dksX24_restore_5 23 rfl rfl
theorem dksX24_restore_7 : cX24_restore.data.toList.drop 162 = dktX24_restore_7 := dk_seg dksX24_restore_6 24 rfl rfl
theorem dksX24_restore_8 : cX24_restore.data.toList.drop 186 = dktX24_restore_8 := dk_seg dksX24_restore_7 24 rfl rfl
theorem dksX24_restore_9 : cX24_restore.data.toList.drop 208 = dktX24_restore_9 := dk_seg dksX24_restore_8 22 rfl rfl
theorem dksX24_restore_10 : cX24_restore.data.toList.drop 232 = dktX24_restore_10 := dk_seg dksX24_restore_9 24 rfl rfl
theorem dksX24_restore_11 : cX24_restore.data.toList.drop 256 = dktX24_restore_11 := dk_seg dksX24_restore_10 24 rfl rfl
theorem dksX24_restore_12 : cX24_restore.data.toList.drop 280 = dktX24_restore_12 := dk_seg dksX24_restore_11 24 rfl rfl
theorem dksX24_restore_13 : cX24_restore.data.toList.drop 303 = dktX24_restore_13 := dk_seg dksX24_restore_12 23 rfl rfl
theorem dksX24_restore_14 : cX24_restore.data.toList.drop 325 = dktX24_restore_14 := dk_seg dksX24_restore_13 22 rfl rfl
theorem dksX24_restore_15 : cX24_restore.data.toList.drop 347 = dktX24_restore_15 := dk_seg dksX24_restore_14 22 rfl rfl
theorem dX24_restore_0 : decode cX24_restore 0 = .ok (.aload_n 0, 1) := dk_42 (dk_at dksX24_restore_0 0 rfl rfl)
theorem dX24_restore_1 : decode cX24_restore 1 = .ok (.getfield 463, 3) := dk_180 1 207 (dk_at dksX24_restore_0 1 rfl rfl)
theorem dX24_restore_4 : decode cX24_restore 4 = .ok (.ifCond .ne 10, 3) := dk_154 0 10 (dk_at dksX24_restore_0 4 rfl rfl)
theorem dX24_restore_7 : decode cX24_restore 7 = .ok (.aload_n 0, 1) := dk_42 (dk_at dksX24_restore_0 7 rfl rfl)
theorem dX24_restore_8 : decode cX24_restore 8 = .ok (.bipush (-6), 2) := dk_16 250 (dk_at dksX24_restore_0 8 rfl rfl)
theorem dX24_restore_10 : decode cX24_restore 10 = .ok (.invokevirtual 206, 3) := dk_182 0 206 (dk_at dksX24_restore_0 10 rfl rfl)
theorem dX24_restore_13 : decode cX24_restore 13 = .ok (.ireturn, 1) := dk_172 (dk_at dksX24_restore_0 13 rfl rfl)
theorem dX24_restore_14 : decode cX24_restore 14 = .ok (.aload_n 0, 1) := dk_42 (dk_at dksX24_restore_0 14 rfl rfl)
theorem dX24_restore_15 : decode cX24_restore 15 = .ok (.getfield 467, 3) := dk_180 1 211 (dk_at dksX24_restore_0 15 rfl rfl)
theorem dX24_restore_18 : decode cX24_restore 18 = .ok (.astore_n 1, 1) := dk_76 (dk_at dksX24_restore_0 18 rfl rfl)
theorem dX24_restore_19 : decode cX24_restore 19 = .ok (.aload_n 0, 1) := dk_42 (dk_at dksX24_restore_0 19 rfl rfl)
theorem dX24_restore_20 : decode cX24_restore 20 = .ok (.aload_n 1, 1) := dk_43 (dk_at dksX24_restore_0 20 rfl rfl)
theorem dX24_restore_21 : decode cX24_restore 21 = .ok (.iconst 0, 1) := dk_3 (dk_at dksX24_restore_0 21 rfl rfl)
theorem dX24_restore_22 : decode cX24_restore 22 = .ok (.iaload, 1) := dk_46 (dk_at dksX24_restore_0 22 rfl rfl)
theorem dX24_restore_23 : decode cX24_restore 23 = .ok (.putfield 232, 3) := dk_181 0 232 (dk_at dksX24_restore_1 0 rfl rfl)
theorem dX24_restore_26 : decode cX24_restore 26 = .ok (.aload_n 0, 1) := dk_42 (dk_at dksX24_restore_1 3 rfl rfl)
theorem dX24_restore_27 : decode cX24_restore 27 = .ok (.aload_n 1, 1) := dk_43 (dk_at dksX24_restore_1 4 rfl rfl)
theorem dX24_restore_28 : decode cX24_restore 28 = .ok (.iconst 1, 1) := dk_4 (dk_at dksX24_restore_1 5 rfl rfl)
theorem dX24_restore_29 : decode cX24_restore 29 = .ok (.iaload, 1) := dk_46 (dk_at dksX24_restore_1 6 rfl rfl)
theorem dX24_restore_30 : decode cX24_restore 30 = .ok (.putfield 199, 3) := dk_181 0 199 (dk_at dksX24_restore_1 7 rfl rfl)
theorem dX24_restore_33 : decode cX24_restore 33 = .ok (.aload_n 0, 1) := dk_42 (dk_at dksX24_restore_1 10 rfl rfl)
theorem dX24_restore_34 : decode cX24_restore 34 = .ok (.aload_n 1, 1) := dk_43 (dk_at dksX24_restore_1 11 rfl rfl)
theorem dX24_restore_35 : decode cX24_restore 35 = .ok (.iconst 2, 1) := dk_5 (dk_at dksX24_restore_1 12 rfl rfl)
theorem dX24_restore_36 : decode cX24_restore 36 = .ok (.iaload, 1) := dk_46 (dk_at dksX24_restore_1 13 rfl rfl)
theorem dX24_restore_37 : decode cX24_restore 37 = .ok (.putfield 196, 3) := dk_181 0 196 (dk_at dksX24_restore_1 14 rfl rfl)
theorem dX24_restore_40 : decode cX24_restore 40 = .ok (.aload_n 0, 1) := dk_42 (dk_at dksX24_restore_1 17 rfl rfl)
theorem dX24_restore_41 : decode cX24_restore 41 = .ok (.aload_n 1, 1) := dk_43 (dk_at dksX24_restore_1 18 rfl rfl)
theorem dX24_restore_42 : decode cX24_restore 42 = .ok (.iconst 3, 1) := dk_6 (dk_at dksX24_restore_1 19 rfl rfl)
theorem dX24_restore_43 : decode cX24_restore 43 = .ok (.iaload, 1) := dk_46 (dk_at dksX24_restore_1 20 rfl rfl)
theorem dX24_restore_44 : decode cX24_restore 44 = .ok (.putfield 343, 3) := dk_181 1 87 (dk_at dksX24_restore_1 21 rfl rfl)
theorem dX24_restore_47 : decode cX24_restore 47 = .ok (.aload_n 0, 1) := dk_42 (dk_at dksX24_restore_2 0 rfl rfl)
theorem dX24_restore_48 : decode cX24_restore 48 = .ok (.aload_n 1, 1) := dk_43 (dk_at dksX24_restore_2 1 rfl rfl)
theorem dX24_restore_49 : decode cX24_restore 49 = .ok (.iconst 4, 1) := dk_7 (dk_at dksX24_restore_2 2 rfl rfl)
theorem dX24_restore_50 : decode cX24_restore 50 = .ok (.iaload, 1) := dk_46 (dk_at dksX24_restore_2 3 rfl rfl)
theorem dX24_restore_51 : decode cX24_restore 51 = .ok (.putfield 7, 3) := dk_181 0 7 (dk_at dksX24_restore_2 4 rfl rfl)
theorem dX24_restore_54 : decode cX24_restore 54 = .ok (.aload_n 0, 1) := dk_42 (dk_at dksX24_restore_2 7 rfl rfl)
theorem dX24_restore_55 : decode cX24_restore 55 = .ok (.aload_n 1, 1) := dk_43 (dk_at dksX24_restore_2 8 rfl rfl)
theorem dX24_restore_56 : decode cX24_restore 56 = .ok (.iconst 5, 1) := dk_8 (dk_at dksX24_restore_2 9 rfl rfl)
theorem dX24_restore_57 : decode cX24_restore 57 = .ok (.iaload, 1) := dk_46 (dk_at dksX24_restore_2 10 rfl rfl)
theorem dX24_restore_58 : decode cX24_restore 58 = .ok (.putfield 13, 3) := dk_181 0 13 (dk_at dksX24_restore_2 11 rfl rfl)
theorem dX24_restore_61 : decode cX24_restore 61 = .ok (.iconst 0, 1) := dk_3 (dk_at dksX24_restore_2 14 rfl rfl)
theorem dX24_restore_62 : decode cX24_restore 62 = .ok (.istore_n 2, 1) := dk_61 (dk_at dksX24_restore_2 15 rfl rfl)
theorem dX24_restore_63 : decode cX24_restore 63 = .ok (.iload_n 2, 1) := dk_28 (dk_at dksX24_restore_2 16 rfl rfl)
theorem dX24_restore_64 : decode cX24_restore 64 = .ok (.iconst 4, 1) := dk_7 (dk_at dksX24_restore_2 17 rfl rfl)
theorem dX24_restore_65 : decode cX24_restore 65 = .ok (.if_icmp .ge 21, 3) := dk_162 0 21 (dk_at dksX24_restore_2 18 rfl rfl)
theorem dX24_restore_68 : decode cX24_restore 68 = .ok (.aload_n 0, 1) := dk_42 (dk_at dksX24_restore_2 21 rfl rfl)
theorem dX24_restore_69 : decode cX24_restore 69 = .ok (.getfield 23, 3) := dk_180 0 23 (dk_at dksX24_restore_3 0 rfl rfl)
theorem dX24_restore_72 : decode cX24_restore 72 = .ok (.iload_n 2, 1) := dk_28 (dk_at dksX24_restore_3 3 rfl rfl)
theorem dX24_restore_73 : decode cX24_restore 73 = .ok (.aload_n 1, 1) := dk_43 (dk_at dksX24_restore_3 4 rfl rfl)
theorem dX24_restore_74 : decode cX24_restore 74 = .ok (.bipush 6, 2) := dk_16 6 (dk_at dksX24_restore_3 5 rfl rfl)
theorem dX24_restore_76 : decode cX24_restore 76 = .ok (.iload_n 2, 1) := dk_28 (dk_at dksX24_restore_3 7 rfl rfl)
theorem dX24_restore_77 : decode cX24_restore 77 = .ok (.iadd, 1) := dk_96 (dk_at dksX24_restore_3 8 rfl rfl)
theorem dX24_restore_78 : decode cX24_restore 78 = .ok (.iaload, 1) := dk_46 (dk_at dksX24_restore_3 9 rfl rfl)
theorem dX24_restore_79 : decode cX24_restore 79 = .ok (.iastore, 1) := dk_79 (dk_at dksX24_restore_3 10 rfl rfl)
theorem dX24_restore_80 : decode cX24_restore 80 = .ok (.iinc 2 1, 3) := dk_132 2 1 (dk_at dksX24_restore_3 11 rfl rfl)
theorem dX24_restore_83 : decode cX24_restore 83 = .ok (.goto (-20), 3) := dk_167 255 236 (dk_at dksX24_restore_3 14 rfl rfl)
theorem dX24_restore_86 : decode cX24_restore 86 = .ok (.iconst 0, 1) := dk_3 (dk_at dksX24_restore_3 17 rfl rfl)
theorem dX24_restore_87 : decode cX24_restore 87 = .ok (.istore_n 2, 1) := dk_61 (dk_at dksX24_restore_3 18 rfl rfl)
theorem dX24_restore_88 : decode cX24_restore 88 = .ok (.iload_n 2, 1) := dk_28 (dk_at dksX24_restore_3 19 rfl rfl)
theorem dX24_restore_89 : decode cX24_restore 89 = .ok (.bipush 7, 2) := dk_16 7 (dk_at dksX24_restore_3 20 rfl rfl)
theorem dX24_restore_91 : decode cX24_restore 91 = .ok (.if_icmp .ge 21, 3) := dk_162 0 21 (dk_at dksX24_restore_4 0 rfl rfl)
theorem dX24_restore_94 : decode cX24_restore 94 = .ok (.aload_n 0, 1) := dk_42 (dk_at dksX24_restore_4 3 rfl rfl)
theorem dX24_restore_95 : decode cX24_restore 95 = .ok (.getfield 63, 3) := dk_180 0 63 (dk_at dksX24_restore_4 4 rfl rfl)
theorem dX24_restore_98 : decode cX24_restore 98 = .ok (.iload_n 2, 1) := dk_28 (dk_at dksX24_restore_4 7 rfl rfl)
theorem dX24_restore_99 : decode cX24_restore 99 = .ok (.aload_n 1, 1) := dk_43 (dk_at dksX24_restore_4 8 rfl rfl)
theorem dX24_restore_100 : decode cX24_restore 100 = .ok (.bipush 10, 2) := dk_16 10 (dk_at dksX24_restore_4 9 rfl rfl)
theorem dX24_restore_102 : decode cX24_restore 102 = .ok (.iload_n 2, 1) := dk_28 (dk_at dksX24_restore_4 11 rfl rfl)
theorem dX24_restore_103 : decode cX24_restore 103 = .ok (.iadd, 1) := dk_96 (dk_at dksX24_restore_4 12 rfl rfl)
theorem dX24_restore_104 : decode cX24_restore 104 = .ok (.iaload, 1) := dk_46 (dk_at dksX24_restore_4 13 rfl rfl)
theorem dX24_restore_105 : decode cX24_restore 105 = .ok (.iastore, 1) := dk_79 (dk_at dksX24_restore_4 14 rfl rfl)
theorem dX24_restore_106 : decode cX24_restore 106 = .ok (.iinc 2 1, 3) := dk_132 2 1 (dk_at dksX24_restore_4 15 rfl rfl)
theorem dX24_restore_109 : decode cX24_restore 109 = .ok (.goto (-21), 3) := dk_167 255 235 (dk_at dksX24_restore_4 18 rfl rfl)
theorem dX24_restore_112 : decode cX24_restore 112 = .ok (.iconst 0, 1) := dk_3 (dk_at dksX24_restore_4 21 rfl rfl)
theorem dX24_restore_113 : decode cX24_restore 113 = .ok (.istore_n 2, 1) := dk_61 (dk_at dksX24_restore_4 22 rfl rfl)
theorem dX24_restore_114 : decode cX24_restore 114 = .ok (.iload_n 2, 1) := dk_28 (dk_at dksX24_restore_4 23 rfl rfl)
theorem dX24_restore_115 : decode cX24_restore 115 = .ok (.bipush 8, 2) := dk_16 8 (dk_at dksX24_restore_5 0 rfl rfl)
theorem dX24_restore_117 : decode cX24_restore 117 = .ok (.if_icmp .ge 57, 3) := dk_162 0 57 (dk_at dksX24_restore_5 2 rfl rfl)
theorem dX24_restore_120 : decode cX24_restore 120 = .ok (.aload_n 0, 1) := dk_42 (dk_at dksX24_restore_5 5 rfl rfl)
theorem dX24_restore_121 : decode cX24_restore 121 = .ok (.getfield 26, 3) := dk_180 0 26 (dk_at dksX24_restore_5 6 rfl rfl)
theorem dX24_restore_124 : decode cX24_restore 124 = .ok (.iload_n 2, 1) := dk_28 (dk_at dksX24_restore_5 9 rfl rfl)
theorem dX24_restore_125 : decode cX24_restore 125 = .ok (.aload_n 1, 1) := dk_43 (dk_at dksX24_restore_5 10 rfl rfl)
theorem dX24_restore_126 : decode cX24_restore 126 = .ok (.bipush 20, 2) := dk_16 20 (dk_at dksX24_restore_5 11 rfl rfl)
theorem dX24_restore_128 : decode cX24_restore 128 = .ok (.iload_n 2, 1) := dk_28 (dk_at dksX24_restore_5 13 rfl rfl)
theorem dX24_restore_129 : decode cX24_restore 129 = .ok (.iadd, 1) := dk_96 (dk_at dksX24_restore_5 14 rfl rfl)
theorem dX24_restore_130 : decode cX24_restore 130 = .ok (.iaload, 1) := dk_46 (dk_at dksX24_restore_5 15 rfl rfl)
theorem dX24_restore_131 : decode cX24_restore 131 = .ok (.iastore, 1) := dk_79 (dk_at dksX24_restore_5 16 rfl rfl)
theorem dX24_restore_132 : decode cX24_restore 132 = .ok (.aload_n 0, 1) := dk_42 (dk_at dksX24_restore_5 17 rfl rfl)
theorem dX24_restore_133 : decode cX24_restore 133 = .ok (.getfield 29, 3) := dk_180 0 29 (dk_at dksX24_restore_5 18 rfl rfl)
theorem dX24_restore_136 : decode cX24_restore 136 = .ok (.iload_n 2, 1) := dk_28 (dk_at dksX24_restore_5 21 rfl rfl)
theorem dX24_restore_137 : decode cX24_restore 137 = .ok (.aload_n 1, 1) := dk_43 (dk_at dksX24_restore_5 22 rfl rfl)
theorem dX24_restore_138 : decode cX24_restore 138 = .ok (.bipush 30, 2) := dk_16 30 (dk_at dksX24_restore_6 0 rfl rfl)
theorem dX24_restore_140 : decode cX24_restore 140 = .ok (.iload_n 2, 1) := dk_28 (dk_at dksX24_restore_6 2 rfl rfl)
theorem dX24_restore_141 : decode cX24_restore 141 = .ok (.iadd, 1) := dk_96 (dk_at dksX24_restore_6 3 rfl rfl)
theorem dX24_restore_142 : decode cX24_restore 142 = .ok (.iaload, 1) := dk_46 (dk_at dksX24_restore_6 4 rfl rfl)
theorem dX24_restore_143 : decode cX24_restore 143 = .ok (.iastore, 1) := dk_79 (dk_at dksX24_restore_6 5 rfl rfl)
theorem dX24_restore_144 : decode cX24_restore 144 = .ok (.aload_n 0, 1) := dk_42 (dk_at dksX24_restore_6 6 rfl rfl)
theorem dX24_restore_145 : decode cX24_restore 145 = .ok (.getfield 32, 3) := dk_180 0 32 (dk_at dksX24_restore_6 7 rfl rfl)
theorem dX24_restore_148 : decode cX24_restore 148 = .ok (.iload_n 2, 1) := dk_28 (dk_at dksX24_restore_6 10 rfl rfl)
theorem dX24_restore_149 : decode cX24_restore 149 = .ok (.aload_n 1, 1) := dk_43 (dk_at dksX24_restore_6 11 rfl rfl)
theorem dX24_restore_150 : decode cX24_restore 150 = .ok (.bipush 40, 2) := dk_16 40 (dk_at dksX24_restore_6 12 rfl rfl)
theorem dX24_restore_152 : decode cX24_restore 152 = .ok (.iload_n 2, 1) := dk_28 (dk_at dksX24_restore_6 14 rfl rfl)
theorem dX24_restore_153 : decode cX24_restore 153 = .ok (.iadd, 1) := dk_96 (dk_at dksX24_restore_6 15 rfl rfl)
theorem dX24_restore_154 : decode cX24_restore 154 = .ok (.iaload, 1) := dk_46 (dk_at dksX24_restore_6 16 rfl rfl)
theorem dX24_restore_155 : decode cX24_restore 155 = .ok (.iastore, 1) := dk_79 (dk_at dksX24_restore_6 17 rfl rfl)
theorem dX24_restore_156 : decode cX24_restore 156 = .ok (.aload_n 0, 1) := dk_42 (dk_at dksX24_restore_6 18 rfl rfl)
theorem dX24_restore_157 : decode cX24_restore 157 = .ok (.getfield 35, 3) := dk_180 0 35 (dk_at dksX24_restore_6 19 rfl rfl)
theorem dX24_restore_160 : decode cX24_restore 160 = .ok (.iload_n 2, 1) := dk_28 (dk_at dksX24_restore_6 22 rfl rfl)
theorem dX24_restore_161 : decode cX24_restore 161 = .ok (.aload_n 1, 1) := dk_43 (dk_at dksX24_restore_6 23 rfl rfl)
theorem dX24_restore_162 : decode cX24_restore 162 = .ok (.bipush 50, 2) := dk_16 50 (dk_at dksX24_restore_7 0 rfl rfl)
theorem dX24_restore_164 : decode cX24_restore 164 = .ok (.iload_n 2, 1) := dk_28 (dk_at dksX24_restore_7 2 rfl rfl)
theorem dX24_restore_165 : decode cX24_restore 165 = .ok (.iadd, 1) := dk_96 (dk_at dksX24_restore_7 3 rfl rfl)
theorem dX24_restore_166 : decode cX24_restore 166 = .ok (.iaload, 1) := dk_46 (dk_at dksX24_restore_7 4 rfl rfl)
theorem dX24_restore_167 : decode cX24_restore 167 = .ok (.iastore, 1) := dk_79 (dk_at dksX24_restore_7 5 rfl rfl)
theorem dX24_restore_168 : decode cX24_restore 168 = .ok (.iinc 2 1, 3) := dk_132 2 1 (dk_at dksX24_restore_7 6 rfl rfl)
theorem dX24_restore_171 : decode cX24_restore 171 = .ok (.goto (-57), 3) := dk_167 255 199 (dk_at dksX24_restore_7 9 rfl rfl)
theorem dX24_restore_174 : decode cX24_restore 174 = .ok (.iconst 0, 1) := dk_3 (dk_at dksX24_restore_7 12 rfl rfl)
theorem dX24_restore_175 : decode cX24_restore 175 = .ok (.istore_n 2, 1) := dk_61 (dk_at dksX24_restore_7 13 rfl rfl)
theorem dX24_restore_176 : decode cX24_restore 176 = .ok (.iload_n 2, 1) := dk_28 (dk_at dksX24_restore_7 14 rfl rfl)
theorem dX24_restore_177 : decode cX24_restore 177 = .ok (.bipush 64, 2) := dk_16 64 (dk_at dksX24_restore_7 15 rfl rfl)
theorem dX24_restore_179 : decode cX24_restore 179 = .ok (.if_icmp .ge 98, 3) := dk_162 0 98 (dk_at dksX24_restore_7 17 rfl rfl)
theorem dX24_restore_182 : decode cX24_restore 182 = .ok (.aload_n 0, 1) := dk_42 (dk_at dksX24_restore_7 20 rfl rfl)
theorem dX24_restore_183 : decode cX24_restore 183 = .ok (.getfield 38, 3) := dk_180 0 38 (dk_at dksX24_restore_7 21 rfl rfl)
theorem dX24_restore_186 : decode cX24_restore 186 = .ok (.iload_n 2, 1) := dk_28 (dk_at dksX24_restore_8 0 rfl rfl)
theorem dX24_restore_187 : decode cX24_restore 187 = .ok (.aload_n 1, 1) := dk_43 (dk_at dksX24_restore_8 1 rfl rfl)
theorem dX24_restore_188 : decode cX24_restore 188 = .ok (.bipush 60, 2) := dk_16 60 (dk_at dksX24_restore_8 2 rfl rfl)
theorem dX24_restore_190 : decode cX24_restore 190 = .ok (.iload_n 2, 1) := dk_28 (dk_at dksX24_restore_8 4 rfl rfl)
theorem dX24_restore_191 : decode cX24_restore 191 = .ok (.iadd, 1) := dk_96 (dk_at dksX24_restore_8 5 rfl rfl)
theorem dX24_restore_192 : decode cX24_restore 192 = .ok (.iaload, 1) := dk_46 (dk_at dksX24_restore_8 6 rfl rfl)
theorem dX24_restore_193 : decode cX24_restore 193 = .ok (.iastore, 1) := dk_79 (dk_at dksX24_restore_8 7 rfl rfl)
theorem dX24_restore_194 : decode cX24_restore 194 = .ok (.aload_n 0, 1) := dk_42 (dk_at dksX24_restore_8 8 rfl rfl)
theorem dX24_restore_195 : decode cX24_restore 195 = .ok (.getfield 41, 3) := dk_180 0 41 (dk_at dksX24_restore_8 9 rfl rfl)
theorem dX24_restore_198 : decode cX24_restore 198 = .ok (.iload_n 2, 1) := dk_28 (dk_at dksX24_restore_8 12 rfl rfl)
theorem dX24_restore_199 : decode cX24_restore 199 = .ok (.aload_n 1, 1) := dk_43 (dk_at dksX24_restore_8 13 rfl rfl)
theorem dX24_restore_200 : decode cX24_restore 200 = .ok (.sipush 130, 3) := dk_17 0 130 (dk_at dksX24_restore_8 14 rfl rfl)
theorem dX24_restore_203 : decode cX24_restore 203 = .ok (.iload_n 2, 1) := dk_28 (dk_at dksX24_restore_8 17 rfl rfl)
theorem dX24_restore_204 : decode cX24_restore 204 = .ok (.iadd, 1) := dk_96 (dk_at dksX24_restore_8 18 rfl rfl)
theorem dX24_restore_205 : decode cX24_restore 205 = .ok (.iaload, 1) := dk_46 (dk_at dksX24_restore_8 19 rfl rfl)
theorem dX24_restore_206 : decode cX24_restore 206 = .ok (.iastore, 1) := dk_79 (dk_at dksX24_restore_8 20 rfl rfl)
theorem dX24_restore_207 : decode cX24_restore 207 = .ok (.aload_n 0, 1) := dk_42 (dk_at dksX24_restore_8 21 rfl rfl)
theorem dX24_restore_208 : decode cX24_restore 208 = .ok (.getfield 44, 3) := dk_180 0 44 (dk_at dksX24_restore_9 0 rfl rfl)
theorem dX24_restore_211 : decode cX24_restore 211 = .ok (.iload_n 2, 1) := dk_28 (dk_at dksX24_restore_9 3 rfl rfl)
theorem dX24_restore_212 : decode cX24_restore 212 = .ok (.aload_n 1, 1) := dk_43 (dk_at dksX24_restore_9 4 rfl rfl)
theorem dX24_restore_213 : decode cX24_restore 213 = .ok (.sipush 200, 3) := dk_17 0 200 (dk_at dksX24_restore_9 5 rfl rfl)
theorem dX24_restore_216 : decode cX24_restore 216 = .ok (.iload_n 2, 1) := dk_28 (dk_at dksX24_restore_9 8 rfl rfl)
theorem dX24_restore_217 : decode cX24_restore 217 = .ok (.iadd, 1) := dk_96 (dk_at dksX24_restore_9 9 rfl rfl)
theorem dX24_restore_218 : decode cX24_restore 218 = .ok (.iaload, 1) := dk_46 (dk_at dksX24_restore_9 10 rfl rfl)
theorem dX24_restore_219 : decode cX24_restore 219 = .ok (.iastore, 1) := dk_79 (dk_at dksX24_restore_9 11 rfl rfl)
theorem dX24_restore_220 : decode cX24_restore 220 = .ok (.aload_n 0, 1) := dk_42 (dk_at dksX24_restore_9 12 rfl rfl)
theorem dX24_restore_221 : decode cX24_restore 221 = .ok (.getfield 47, 3) := dk_180 0 47 (dk_at dksX24_restore_9 13 rfl rfl)
theorem dX24_restore_224 : decode cX24_restore 224 = .ok (.iload_n 2, 1) := dk_28 (dk_at dksX24_restore_9 16 rfl rfl)
theorem dX24_restore_225 : decode cX24_restore 225 = .ok (.aload_n 1, 1) := dk_43 (dk_at dksX24_restore_9 17 rfl rfl)
theorem dX24_restore_226 : decode cX24_restore 226 = .ok (.sipush 270, 3) := dk_17 1 14 (dk_at dksX24_restore_9 18 rfl rfl)
theorem dX24_restore_229 : decode cX24_restore 229 = .ok (.iload_n 2, 1) := dk_28 (dk_at dksX24_restore_9 21 rfl rfl)
theorem dX24_restore_230 : decode cX24_restore 230 = .ok (.iadd, 1) := dk_96 (dk_at dksX24_restore_9 22 rfl rfl)
theorem dX24_restore_231 : decode cX24_restore 231 = .ok (.iaload, 1) := dk_46 (dk_at dksX24_restore_9 23 rfl rfl)
theorem dX24_restore_232 : decode cX24_restore 232 = .ok (.iastore, 1) := dk_79 (dk_at dksX24_restore_10 0 rfl rfl)
theorem dX24_restore_233 : decode cX24_restore 233 = .ok (.aload_n 0, 1) := dk_42 (dk_at dksX24_restore_10 1 rfl rfl)
theorem dX24_restore_234 : decode cX24_restore 234 = .ok (.getfield 50, 3) := dk_180 0 50 (dk_at dksX24_restore_10 2 rfl rfl)
theorem dX24_restore_237 : decode cX24_restore 237 = .ok (.iload_n 2, 1) := dk_28 (dk_at dksX24_restore_10 5 rfl rfl)
theorem dX24_restore_238 : decode cX24_restore 238 = .ok (.aload_n 1, 1) := dk_43 (dk_at dksX24_restore_10 6 rfl rfl)
theorem dX24_restore_239 : decode cX24_restore 239 = .ok (.sipush 340, 3) := dk_17 1 84 (dk_at dksX24_restore_10 7 rfl rfl)
theorem dX24_restore_242 : decode cX24_restore 242 = .ok (.iload_n 2, 1) := dk_28 (dk_at dksX24_restore_10 10 rfl rfl)
theorem dX24_restore_243 : decode cX24_restore 243 = .ok (.iadd, 1) := dk_96 (dk_at dksX24_restore_10 11 rfl rfl)
theorem dX24_restore_244 : decode cX24_restore 244 = .ok (.iaload, 1) := dk_46 (dk_at dksX24_restore_10 12 rfl rfl)
theorem dX24_restore_245 : decode cX24_restore 245 = .ok (.iastore, 1) := dk_79 (dk_at dksX24_restore_10 13 rfl rfl)
theorem dX24_restore_246 : decode cX24_restore 246 = .ok (.aload_n 0, 1) := dk_42 (dk_at dksX24_restore_10 14 rfl rfl)
theorem dX24_restore_247 : decode cX24_restore 247 = .ok (.getfield 53, 3) := dk_180 0 53 (dk_at dksX24_restore_10 15 rfl rfl)
theorem dX24_restore_250 : decode cX24_restore 250 = .ok (.iload_n 2, 1) := dk_28 (dk_at dksX24_restore_10 18 rfl rfl)
theorem dX24_restore_251 : decode cX24_restore 251 = .ok (.aload_n 1, 1) := dk_43 (dk_at dksX24_restore_10 19 rfl rfl)
theorem dX24_restore_252 : decode cX24_restore 252 = .ok (.sipush 410, 3) := dk_17 1 154 (dk_at dksX24_restore_10 20 rfl rfl)
theorem dX24_restore_255 : decode cX24_restore 255 = .ok (.iload_n 2, 1) := dk_28 (dk_at dksX24_restore_10 23 rfl rfl)
theorem dX24_restore_256 : decode cX24_restore 256 = .ok (.iadd, 1) := dk_96 (dk_at dksX24_restore_11 0 rfl rfl)
theorem dX24_restore_257 : decode cX24_restore 257 = .ok (.iaload, 1) := dk_46 (dk_at dksX24_restore_11 1 rfl rfl)
theorem dX24_restore_258 : decode cX24_restore 258 = .ok (.iastore, 1) := dk_79 (dk_at dksX24_restore_11 2 rfl rfl)
theorem dX24_restore_259 : decode cX24_restore 259 = .ok (.aload_n 0, 1) := dk_42 (dk_at dksX24_restore_11 3 rfl rfl)
theorem dX24_restore_260 : decode cX24_restore 260 = .ok (.getfield 56, 3) := dk_180 0 56 (dk_at dksX24_restore_11 4 rfl rfl)
theorem dX24_restore_263 : decode cX24_restore 263 = .ok (.iload_n 2, 1) := dk_28 (dk_at dksX24_restore_11 7 rfl rfl)
theorem dX24_restore_264 : decode cX24_restore 264 = .ok (.aload_n 0, 1) := dk_42 (dk_at dksX24_restore_11 8 rfl rfl)
theorem dX24_restore_265 : decode cX24_restore 265 = .ok (.getfield 470, 3) := dk_180 1 214 (dk_at dksX24_restore_11 9 rfl rfl)
theorem dX24_restore_268 : decode cX24_restore 268 = .ok (.iload_n 2, 1) := dk_28 (dk_at dksX24_restore_11 12 rfl rfl)
theorem dX24_restore_269 : decode cX24_restore 269 = .ok (.baload, 1) := dk_51 (dk_at dksX24_restore_11 13 rfl rfl)
theorem dX24_restore_270 : decode cX24_restore 270 = .ok (.bastore, 1) := dk_84 (dk_at dksX24_restore_11 14 rfl rfl)
theorem dX24_restore_271 : decode cX24_restore 271 = .ok (.iinc 2 1, 3) := dk_132 2 1 (dk_at dksX24_restore_11 15 rfl rfl)
theorem dX24_restore_274 : decode cX24_restore 274 = .ok (.goto (-98), 3) := dk_167 255 158 (dk_at dksX24_restore_11 18 rfl rfl)
theorem dX24_restore_277 : decode cX24_restore 277 = .ok (.iconst 0, 1) := dk_3 (dk_at dksX24_restore_11 21 rfl rfl)
theorem dX24_restore_278 : decode cX24_restore 278 = .ok (.istore_n 2, 1) := dk_61 (dk_at dksX24_restore_11 22 rfl rfl)
theorem dX24_restore_279 : decode cX24_restore 279 = .ok (.iload_n 2, 1) := dk_28 (dk_at dksX24_restore_11 23 rfl rfl)
theorem dX24_restore_280 : decode cX24_restore 280 = .ok (.aload_n 0, 1) := dk_42 (dk_at dksX24_restore_12 0 rfl rfl)
theorem dX24_restore_281 : decode cX24_restore 281 = .ok (.getfield 60, 3) := dk_180 0 60 (dk_at dksX24_restore_12 1 rfl rfl)
theorem dX24_restore_284 : decode cX24_restore 284 = .ok (.arraylength, 1) := dk_190 (dk_at dksX24_restore_12 4 rfl rfl)
theorem dX24_restore_285 : decode cX24_restore 285 = .ok (.if_icmp .ge 21, 3) := dk_162 0 21 (dk_at dksX24_restore_12 5 rfl rfl)
theorem dX24_restore_288 : decode cX24_restore 288 = .ok (.aload_n 0, 1) := dk_42 (dk_at dksX24_restore_12 8 rfl rfl)
theorem dX24_restore_289 : decode cX24_restore 289 = .ok (.getfield 60, 3) := dk_180 0 60 (dk_at dksX24_restore_12 9 rfl rfl)
theorem dX24_restore_292 : decode cX24_restore 292 = .ok (.iload_n 2, 1) := dk_28 (dk_at dksX24_restore_12 12 rfl rfl)
theorem dX24_restore_293 : decode cX24_restore 293 = .ok (.aload_n 0, 1) := dk_42 (dk_at dksX24_restore_12 13 rfl rfl)
theorem dX24_restore_294 : decode cX24_restore 294 = .ok (.getfield 473, 3) := dk_180 1 217 (dk_at dksX24_restore_12 14 rfl rfl)
theorem dX24_restore_297 : decode cX24_restore 297 = .ok (.iload_n 2, 1) := dk_28 (dk_at dksX24_restore_12 17 rfl rfl)
theorem dX24_restore_298 : decode cX24_restore 298 = .ok (.baload, 1) := dk_51 (dk_at dksX24_restore_12 18 rfl rfl)
theorem dX24_restore_299 : decode cX24_restore 299 = .ok (.bastore, 1) := dk_84 (dk_at dksX24_restore_12 19 rfl rfl)
theorem dX24_restore_300 : decode cX24_restore 300 = .ok (.iinc 2 1, 3) := dk_132 2 1 (dk_at dksX24_restore_12 20 rfl rfl)
theorem dX24_restore_303 : decode cX24_restore 303 = .ok (.goto (-24), 3) := dk_167 255 232 (dk_at dksX24_restore_13 0 rfl rfl)
theorem dX24_restore_306 : decode cX24_restore 306 = .ok (.iconst 0, 1) := dk_3 (dk_at dksX24_restore_13 3 rfl rfl)
theorem dX24_restore_307 : decode cX24_restore 307 = .ok (.istore_n 2, 1) := dk_61 (dk_at dksX24_restore_13 4 rfl rfl)
theorem dX24_restore_308 : decode cX24_restore 308 = .ok (.iload_n 2, 1) := dk_28 (dk_at dksX24_restore_13 5 rfl rfl)
theorem dX24_restore_309 : decode cX24_restore 309 = .ok (.bipush 8, 2) := dk_16 8 (dk_at dksX24_restore_13 6 rfl rfl)
theorem dX24_restore_311 : decode cX24_restore 311 = .ok (.if_icmp .ge 39, 3) := dk_162 0 39 (dk_at dksX24_restore_13 8 rfl rfl)
theorem dX24_restore_314 : decode cX24_restore 314 = .ok (.aload_n 0, 1) := dk_42 (dk_at dksX24_restore_13 11 rfl rfl)
theorem dX24_restore_315 : decode cX24_restore 315 = .ok (.getfield 66, 3) := dk_180 0 66 (dk_at dksX24_restore_13 12 rfl rfl)
theorem dX24_restore_318 : decode cX24_restore 318 = .ok (.iload_n 2, 1) := dk_28 (dk_at dksX24_restore_13 15 rfl rfl)
theorem dX24_restore_319 : decode cX24_restore 319 = .ok (.iaload, 1) := dk_46 (dk_at dksX24_restore_13 16 rfl rfl)
theorem dX24_restore_320 : decode cX24_restore 320 = .ok (.iconst 2, 1) := dk_5 (dk_at dksX24_restore_13 17 rfl rfl)
theorem dX24_restore_321 : decode cX24_restore 321 = .ok (.if_icmp .ne 23, 3) := dk_160 0 23 (dk_at dksX24_restore_13 18 rfl rfl)
theorem dX24_restore_324 : decode cX24_restore 324 = .ok (.aload_n 0, 1) := dk_42 (dk_at dksX24_restore_13 21 rfl rfl)
theorem dX24_restore_325 : decode cX24_restore 325 = .ok (.getfield 75, 3) := dk_180 0 75 (dk_at dksX24_restore_14 0 rfl rfl)
theorem dX24_restore_328 : decode cX24_restore 328 = .ok (.iload_n 2, 1) := dk_28 (dk_at dksX24_restore_14 3 rfl rfl)
theorem dX24_restore_329 : decode cX24_restore 329 = .ok (.iaload, 1) := dk_46 (dk_at dksX24_restore_14 4 rfl rfl)
theorem dX24_restore_330 : decode cX24_restore 330 = .ok (.aload_n 0, 1) := dk_42 (dk_at dksX24_restore_14 5 rfl rfl)
theorem dX24_restore_331 : decode cX24_restore 331 = .ok (.getfield 199, 3) := dk_180 0 199 (dk_at dksX24_restore_14 6 rfl rfl)
theorem dX24_restore_334 : decode cX24_restore 334 = .ok (.if_icmp .lt 10, 3) := dk_161 0 10 (dk_at dksX24_restore_14 9 rfl rfl)
theorem dX24_restore_337 : decode cX24_restore 337 = .ok (.aload_n 0, 1) := dk_42 (dk_at dksX24_restore_14 12 rfl rfl)
theorem dX24_restore_338 : decode cX24_restore 338 = .ok (.getfield 66, 3) := dk_180 0 66 (dk_at dksX24_restore_14 13 rfl rfl)
theorem dX24_restore_341 : decode cX24_restore 341 = .ok (.iload_n 2, 1) := dk_28 (dk_at dksX24_restore_14 16 rfl rfl)
theorem dX24_restore_342 : decode cX24_restore 342 = .ok (.iconst 0, 1) := dk_3 (dk_at dksX24_restore_14 17 rfl rfl)
theorem dX24_restore_343 : decode cX24_restore 343 = .ok (.iastore, 1) := dk_79 (dk_at dksX24_restore_14 18 rfl rfl)
theorem dX24_restore_344 : decode cX24_restore 344 = .ok (.iinc 2 1, 3) := dk_132 2 1 (dk_at dksX24_restore_14 19 rfl rfl)
theorem dX24_restore_347 : decode cX24_restore 347 = .ok (.goto (-39), 3) := dk_167 255 217 (dk_at dksX24_restore_15 0 rfl rfl)
theorem dX24_restore_350 : decode cX24_restore 350 = .ok (.aload_n 0, 1) := dk_42 (dk_at dksX24_restore_15 3 rfl rfl)
theorem dX24_restore_351 : decode cX24_restore 351 = .ok (.getfield 199, 3) := dk_180 0 199 (dk_at dksX24_restore_15 4 rfl rfl)
theorem dX24_restore_354 : decode cX24_restore 354 = .ok (.ireturn, 1) := dk_172 (dk_at dksX24_restore_15 7 rfl rfl)
abbrev cX24_status : ByteArray := prog_53_method_94_code
def yX24_status : MethodName := ⟨RX24, "status", "(I)I"⟩
def dkwX24_status_7 : List UInt8 := [180, 1, 182, 172, 42, 180, 0, 7, 172, 42, 180, 1, 99, 172, 42, 180, 0, 196, 172, 2, 172]
abbrev dktX24_status_7 : List UInt8 := dkwX24_status_7 ++ []
def dkwX24_status_6 : List UInt8 := [3, 96, 61, 132, 3, 1, 167, 255, 228, 28, 172, 42, 180, 1, 87, 172, 42, 180, 0, 13, 172, 42]
abbrev dktX24_status_6 : List UInt8 := dkwX24_status_6 ++ dktX24_status_7
def dkwX24_status_5 : List UInt8 := [3, 62, 29, 42, 180, 0, 199, 162, 0, 26, 28, 42, 180, 0, 56, 29, 51, 153, 0, 7, 4, 167, 0, 4]
abbrev dktX24_status_5 : List UInt8 := dkwX24_status_5 ++ dktX24_status_6
def dkwX24_status_4 : List UInt8 := [180, 0, 53, 29, 46, 29, 160, 0, 7, 4, 167, 0, 4, 3, 96, 61, 132, 3, 1, 167, 255, 227, 28, 172]
abbrev dktX24_status_4 : List UInt8 := dkwX24_status_4 ++ dktX24_status_5
def dkwX24_status_3 : List UInt8 := [42, 180, 0, 232, 172, 42, 180, 0, 199, 172, 3, 62, 29, 42, 180, 0, 196, 162, 0, 27, 28, 42]
abbrev dktX24_status_3 : List UInt8 := dkwX24_status_3 ++ dktX24_status_4
def dkwX24_status_2 : List UInt8 := [170, 0, 0, 0, 0, 0, 166, 0, 0, 0, 0, 0, 0, 0, 9, 0, 0, 0, 55, 0, 0, 0, 60, 0, 0, 0, 65, 0, 0, 0, 101, 0, 0, 0, 136, 0, 0, 0, 141, 0, 0, 0, 146, 0, 0, 0, 151, 0, 0, 0, 156, 0, 0, 0, 161]
abbrev dktX24_status_2 : List UInt8 := dkwX24_status_2 ++ dktX24_status_3
def dkwX24_status_1 : List UInt8 := [27]
abbrev dktX24_status_1 : List UInt8 := dkwX24_status_1 ++ dktX24_status_2
def dkwX24_status_0 : List UInt8 := [42, 27, 16, 11, 16, 17, 182, 0, 217, 153, 0, 13, 42, 180, 0, 19, 27, 16, 10, 100, 46, 172, 3, 61]
abbrev dktX24_status_0 : List UInt8 := dkwX24_status_0 ++ dktX24_status_1
theorem dksX24_status_0 : cX24_status.data.toList.drop 0 = dktX24_status_0 := by decide +kernel
theorem dksX24_status_1 : cX24_status.data.toList.drop 24 = dktX24_status_1 := dk_seg dksX24_status_0 24 rfl rfl
theorem dksX24_status_2 : cX24_status.data.toList.drop 25 = dktX24_status_2 := dk_seg dksX24_status_1 1 rfl rfl
theorem dksX24_status_3 : cX24_status.data.toList.drop 80 = dktX24_status_3 := dk_seg dksX24_status_2 55 rfl rfl
theorem dksX24_status_4 : cX24_status.data.toList.drop 102 = dktX24_status_4 := dk_seg dksX24_status_3 22 rfl rfl
theorem dksX24_status_5 : cX24_status.data.toList.drop 126 = dktX24_status_5 := dk_seg dksX24_status_4 24 rfl rfl
theorem dksX24_status_6 : cX24_status.data.toList.drop 150 = dktX24_status_6 := dk_seg dksX24_status_5 24 rfl rfl
theorem dksX24_status_7 : cX24_status.data.toList.drop 172 = dktX24_status_7 := dk_seg dksX24_status_6 22 rfl rfl
theorem dX24_status_0 : decode cX24_status 0 = .ok (.aload_n 0, 1) := dk_42 (dk_at dksX24_status_0 0 rfl rfl)
theorem dX24_status_1 : decode cX24_status 1 = .ok (.iload_n 1, 1) := dk_27 (dk_at dksX24_status_0 1 rfl rfl)
theorem dX24_status_2 : decode cX24_status 2 = .ok (.bipush 11, 2) := dk_16 11 (dk_at dksX24_status_0 2 rfl rfl)
theorem dX24_status_4 : decode cX24_status 4 = .ok (.bipush 17, 2) := dk_16 17 (dk_at dksX24_status_0 4 rfl rfl)
theorem dX24_status_6 : decode cX24_status 6 = .ok (.invokevirtual 217, 3) := dk_182 0 217 (dk_at dksX24_status_0 6 rfl rfl)
theorem dX24_status_9 : decode cX24_status 9 = .ok (.ifCond .eq 13, 3) := dk_153 0 13 (dk_at dksX24_status_0 9 rfl rfl)
theorem dX24_status_12 : decode cX24_status 12 = .ok (.aload_n 0, 1) := dk_42 (dk_at dksX24_status_0 12 rfl rfl)
theorem dX24_status_13 : decode cX24_status 13 = .ok (.getfield 19, 3) := dk_180 0 19 (dk_at dksX24_status_0 13 rfl rfl)
theorem dX24_status_16 : decode cX24_status 16 = .ok (.iload_n 1, 1) := dk_27 (dk_at dksX24_status_0 16 rfl rfl)
theorem dX24_status_17 : decode cX24_status 17 = .ok (.bipush 10, 2) := dk_16 10 (dk_at dksX24_status_0 17 rfl rfl)
theorem dX24_status_19 : decode cX24_status 19 = .ok (.isub, 1) := dk_100 (dk_at dksX24_status_0 19 rfl rfl)
theorem dX24_status_20 : decode cX24_status 20 = .ok (.iaload, 1) := dk_46 (dk_at dksX24_status_0 20 rfl rfl)
theorem dX24_status_21 : decode cX24_status 21 = .ok (.ireturn, 1) := dk_172 (dk_at dksX24_status_0 21 rfl rfl)
theorem dX24_status_22 : decode cX24_status 22 = .ok (.iconst 0, 1) := dk_3 (dk_at dksX24_status_0 22 rfl rfl)
theorem dX24_status_23 : decode cX24_status 23 = .ok (.istore_n 2, 1) := dk_61 (dk_at dksX24_status_0 23 rfl rfl)
theorem dX24_status_24 : decode cX24_status 24 = .ok (.iload_n 1, 1) := dk_27 (dk_at dksX24_status_1 0 rfl rfl)
theorem dX24_status_25 : decode cX24_status 25 = .ok (.tableswitch 166 0 9 #[55, 60, 65, 101, 136, 141, 146, 151, 156, 161], 55) := by decide +kernel
theorem dX24_status_80 : decode cX24_status 80 = .ok (.aload_n 0, 1) := dk_42 (dk_at dksX24_status_3 0 rfl rfl)
theorem dX24_status_81 : decode cX24_status 81 = .ok (.getfield 232, 3) := dk_180 0 232 (dk_at dksX24_status_3 1 rfl rfl)
theorem dX24_status_84 : decode cX24_status 84 = .ok (.ireturn, 1) := dk_172 (dk_at dksX24_status_3 4 rfl rfl)
theorem dX24_status_85 : decode cX24_status 85 = .ok (.aload_n 0, 1) := dk_42 (dk_at dksX24_status_3 5 rfl rfl)
theorem dX24_status_86 : decode cX24_status 86 = .ok (.getfield 199, 3) := dk_180 0 199 (dk_at dksX24_status_3 6 rfl rfl)
theorem dX24_status_89 : decode cX24_status 89 = .ok (.ireturn, 1) := dk_172 (dk_at dksX24_status_3 9 rfl rfl)
theorem dX24_status_90 : decode cX24_status 90 = .ok (.iconst 0, 1) := dk_3 (dk_at dksX24_status_3 10 rfl rfl)
theorem dX24_status_91 : decode cX24_status 91 = .ok (.istore_n 3, 1) := dk_62 (dk_at dksX24_status_3 11 rfl rfl)
theorem dX24_status_92 : decode cX24_status 92 = .ok (.iload_n 3, 1) := dk_29 (dk_at dksX24_status_3 12 rfl rfl)
theorem dX24_status_93 : decode cX24_status 93 = .ok (.aload_n 0, 1) := dk_42 (dk_at dksX24_status_3 13 rfl rfl)
theorem dX24_status_94 : decode cX24_status 94 = .ok (.getfield 196, 3) := dk_180 0 196 (dk_at dksX24_status_3 14 rfl rfl)
theorem dX24_status_97 : decode cX24_status 97 = .ok (.if_icmp .ge 27, 3) := dk_162 0 27 (dk_at dksX24_status_3 17 rfl rfl)
theorem dX24_status_100 : decode cX24_status 100 = .ok (.iload_n 2, 1) := dk_28 (dk_at dksX24_status_3 20 rfl rfl)
theorem dX24_status_101 : decode cX24_status 101 = .ok (.aload_n 0, 1) := dk_42 (dk_at dksX24_status_3 21 rfl rfl)
theorem dX24_status_102 : decode cX24_status 102 = .ok (.getfield 53, 3) := dk_180 0 53 (dk_at dksX24_status_4 0 rfl rfl)
theorem dX24_status_105 : decode cX24_status 105 = .ok (.iload_n 3, 1) := dk_29 (dk_at dksX24_status_4 3 rfl rfl)
theorem dX24_status_106 : decode cX24_status 106 = .ok (.iaload, 1) := dk_46 (dk_at dksX24_status_4 4 rfl rfl)
theorem dX24_status_107 : decode cX24_status 107 = .ok (.iload_n 3, 1) := dk_29 (dk_at dksX24_status_4 5 rfl rfl)
theorem dX24_status_108 : decode cX24_status 108 = .ok (.if_icmp .ne 7, 3) := dk_160 0 7 (dk_at dksX24_status_4 6 rfl rfl)
theorem dX24_status_111 : decode cX24_status 111 = .ok (.iconst 1, 1) := dk_4 (dk_at dksX24_status_4 9 rfl rfl)
theorem dX24_status_112 : decode cX24_status 112 = .ok (.goto 4, 3) := dk_167 0 4 (dk_at dksX24_status_4 10 rfl rfl)
theorem dX24_status_115 : decode cX24_status 115 = .ok (.iconst 0, 1) := dk_3 (dk_at dksX24_status_4 13 rfl rfl)
theorem dX24_status_116 : decode cX24_status 116 = .ok (.iadd, 1) := dk_96 (dk_at dksX24_status_4 14 rfl rfl)
theorem dX24_status_117 : decode cX24_status 117 = .ok (.istore_n 2, 1) := dk_61 (dk_at dksX24_status_4 15 rfl rfl)
theorem dX24_status_118 : decode cX24_status 118 = .ok (.iinc 3 1, 3) := dk_132 3 1 (dk_at dksX24_status_4 16 rfl rfl)
theorem dX24_status_121 : decode cX24_status 121 = .ok (.goto (-29), 3) := dk_167 255 227 (dk_at dksX24_status_4 19 rfl rfl)
theorem dX24_status_124 : decode cX24_status 124 = .ok (.iload_n 2, 1) := dk_28 (dk_at dksX24_status_4 22 rfl rfl)
theorem dX24_status_125 : decode cX24_status 125 = .ok (.ireturn, 1) := dk_172 (dk_at dksX24_status_4 23 rfl rfl)
theorem dX24_status_126 : decode cX24_status 126 = .ok (.iconst 0, 1) := dk_3 (dk_at dksX24_status_5 0 rfl rfl)
theorem dX24_status_127 : decode cX24_status 127 = .ok (.istore_n 3, 1) := dk_62 (dk_at dksX24_status_5 1 rfl rfl)
theorem dX24_status_128 : decode cX24_status 128 = .ok (.iload_n 3, 1) := dk_29 (dk_at dksX24_status_5 2 rfl rfl)
theorem dX24_status_129 : decode cX24_status 129 = .ok (.aload_n 0, 1) := dk_42 (dk_at dksX24_status_5 3 rfl rfl)
theorem dX24_status_130 : decode cX24_status 130 = .ok (.getfield 199, 3) := dk_180 0 199 (dk_at dksX24_status_5 4 rfl rfl)
theorem dX24_status_133 : decode cX24_status 133 = .ok (.if_icmp .ge 26, 3) := dk_162 0 26 (dk_at dksX24_status_5 7 rfl rfl)
theorem dX24_status_136 : decode cX24_status 136 = .ok (.iload_n 2, 1) := dk_28 (dk_at dksX24_status_5 10 rfl rfl)
theorem dX24_status_137 : decode cX24_status 137 = .ok (.aload_n 0, 1) := dk_42 (dk_at dksX24_status_5 11 rfl rfl)
theorem dX24_status_138 : decode cX24_status 138 = .ok (.getfield 56, 3) := dk_180 0 56 (dk_at dksX24_status_5 12 rfl rfl)
theorem dX24_status_141 : decode cX24_status 141 = .ok (.iload_n 3, 1) := dk_29 (dk_at dksX24_status_5 15 rfl rfl)
theorem dX24_status_142 : decode cX24_status 142 = .ok (.baload, 1) := dk_51 (dk_at dksX24_status_5 16 rfl rfl)
theorem dX24_status_143 : decode cX24_status 143 = .ok (.ifCond .eq 7, 3) := dk_153 0 7 (dk_at dksX24_status_5 17 rfl rfl)
theorem dX24_status_146 : decode cX24_status 146 = .ok (.iconst 1, 1) := dk_4 (dk_at dksX24_status_5 20 rfl rfl)
theorem dX24_status_147 : decode cX24_status 147 = .ok (.goto 4, 3) := dk_167 0 4 (dk_at dksX24_status_5 21 rfl rfl)
theorem dX24_status_150 : decode cX24_status 150 = .ok (.iconst 0, 1) := dk_3 (dk_at dksX24_status_6 0 rfl rfl)
theorem dX24_status_151 : decode cX24_status 151 = .ok (.iadd, 1) := dk_96 (dk_at dksX24_status_6 1 rfl rfl)
theorem dX24_status_152 : decode cX24_status 152 = .ok (.istore_n 2, 1) := dk_61 (dk_at dksX24_status_6 2 rfl rfl)
theorem dX24_status_153 : decode cX24_status 153 = .ok (.iinc 3 1, 3) := dk_132 3 1 (dk_at dksX24_status_6 3 rfl rfl)
theorem dX24_status_156 : decode cX24_status 156 = .ok (.goto (-28), 3) := dk_167 255 228 (dk_at dksX24_status_6 6 rfl rfl)
theorem dX24_status_159 : decode cX24_status 159 = .ok (.iload_n 2, 1) := dk_28 (dk_at dksX24_status_6 9 rfl rfl)
theorem dX24_status_160 : decode cX24_status 160 = .ok (.ireturn, 1) := dk_172 (dk_at dksX24_status_6 10 rfl rfl)
theorem dX24_status_161 : decode cX24_status 161 = .ok (.aload_n 0, 1) := dk_42 (dk_at dksX24_status_6 11 rfl rfl)
theorem dX24_status_162 : decode cX24_status 162 = .ok (.getfield 343, 3) := dk_180 1 87 (dk_at dksX24_status_6 12 rfl rfl)
theorem dX24_status_165 : decode cX24_status 165 = .ok (.ireturn, 1) := dk_172 (dk_at dksX24_status_6 15 rfl rfl)
theorem dX24_status_166 : decode cX24_status 166 = .ok (.aload_n 0, 1) := dk_42 (dk_at dksX24_status_6 16 rfl rfl)
theorem dX24_status_167 : decode cX24_status 167 = .ok (.getfield 13, 3) := dk_180 0 13 (dk_at dksX24_status_6 17 rfl rfl)
theorem dX24_status_170 : decode cX24_status 170 = .ok (.ireturn, 1) := dk_172 (dk_at dksX24_status_6 20 rfl rfl)
theorem dX24_status_171 : decode cX24_status 171 = .ok (.aload_n 0, 1) := dk_42 (dk_at dksX24_status_6 21 rfl rfl)
theorem dX24_status_172 : decode cX24_status 172 = .ok (.getfield 438, 3) := dk_180 1 182 (dk_at dksX24_status_7 0 rfl rfl)
theorem dX24_status_175 : decode cX24_status 175 = .ok (.ireturn, 1) := dk_172 (dk_at dksX24_status_7 3 rfl rfl)
theorem dX24_status_176 : decode cX24_status 176 = .ok (.aload_n 0, 1) := dk_42 (dk_at dksX24_status_7 4 rfl rfl)
theorem dX24_status_177 : decode cX24_status 177 = .ok (.getfield 7, 3) := dk_180 0 7 (dk_at dksX24_status_7 5 rfl rfl)
theorem dX24_status_180 : decode cX24_status 180 = .ok (.ireturn, 1) := dk_172 (dk_at dksX24_status_7 8 rfl rfl)
theorem dX24_status_181 : decode cX24_status 181 = .ok (.aload_n 0, 1) := dk_42 (dk_at dksX24_status_7 9 rfl rfl)
theorem dX24_status_182 : decode cX24_status 182 = .ok (.getfield 355, 3) := dk_180 1 99 (dk_at dksX24_status_7 10 rfl rfl)
theorem dX24_status_185 : decode cX24_status 185 = .ok (.ireturn, 1) := dk_172 (dk_at dksX24_status_7 13 rfl rfl)
theorem dX24_status_186 : decode cX24_status 186 = .ok (.aload_n 0, 1) := dk_42 (dk_at dksX24_status_7 14 rfl rfl)
theorem dX24_status_187 : decode cX24_status 187 = .ok (.getfield 196, 3) := dk_180 0 196 (dk_at dksX24_status_7 15 rfl rfl)
theorem dX24_status_190 : decode cX24_status 190 = .ok (.ireturn, 1) := dk_172 (dk_at dksX24_status_7 18 rfl rfl)
theorem dX24_status_191 : decode cX24_status 191 = .ok (.iconst (-1), 1) := dk_2 (dk_at dksX24_status_7 19 rfl rfl)
theorem dX24_status_192 : decode cX24_status 192 = .ok (.ireturn, 1) := dk_172 (dk_at dksX24_status_7 20 rfl rfl)
theorem q126 : (Jvm.Cond.initialized "PlanMemoModel") ∈ lw_all := lw_g (lw_at lw_m1 26 rfl) rfl
theorem q2720 : (Jvm.Cond.instantiable "PlanMemoModel" (79 : Nat)) ∈ lw_all := lw_g (lw_at lw_m11 220 rfl) rfl
theorem q2722 : (Jvm.Cond.instanceMethod ({ cls := "PlanMemoModel", name := "<init>", desc := "()V" } : Jvm.MethodName)) ∈ lw_all := lw_g (lw_at lw_m11 222 rfl) rfl
theorem q2723 : (Jvm.Cond.code ({ cls := "PlanMemoModel", name := "<init>", desc := "()V" } : Jvm.MethodName) prog_53_method_1_code (1 : Nat) (Option.none : Option Jvm.ClassFile.FieldType)) ∈ lw_all := lw_g (lw_at lw_m11 223 rfl) rfl
theorem q2724 : (Jvm.Cond.methodLink "PlanMemoModel" (1 : Nat) ({ cls := "java/lang/Object", name := "<init>", desc := "()V" } : Jvm.MethodName)) ∈ lw_all := lw_g (lw_at lw_m11 224 rfl) rfl
theorem q2725 : (Jvm.Cond.fieldLink "PlanMemoModel" (232 : Nat) "PlanMemoModel" "tables" "I") ∈ lw_all := lw_g (lw_at lw_m11 225 rfl) rfl
theorem q2726 : (Jvm.Cond.fieldLink "PlanMemoModel" (199 : Nat) "PlanMemoModel" "many" "I") ∈ lw_all := lw_g (lw_at lw_m11 226 rfl) rfl
theorem q2727 : (Jvm.Cond.fieldLink "PlanMemoModel" (196 : Nat) "PlanMemoModel" "groups" "I") ∈ lw_all := lw_g (lw_at lw_m11 227 rfl) rfl
theorem q2728 : (Jvm.Cond.fieldLink "PlanMemoModel" (343 : Nat) "PlanMemoModel" "fires" "I") ∈ lw_all := lw_g (lw_at lw_m11 228 rfl) rfl
theorem q2729 : (Jvm.Cond.fieldLink "PlanMemoModel" (7 : Nat) "PlanMemoModel" "allowed" "I") ∈ lw_all := lw_g (lw_at lw_m11 229 rfl) rfl
theorem q2730 : (Jvm.Cond.fieldLink "PlanMemoModel" (13 : Nat) "PlanMemoModel" "seed" "I") ∈ lw_all := lw_g (lw_at lw_m11 230 rfl) rfl
theorem q2731 : (Jvm.Cond.fieldLink "PlanMemoModel" (16 : Nat) "PlanMemoModel" "fault" "I") ∈ lw_all := lw_g (lw_at lw_m11 231 rfl) rfl
theorem q2732 : (Jvm.Cond.fieldLink "PlanMemoModel" (355 : Nat) "PlanMemoModel" "bodies" "I") ∈ lw_all := lw_g (lw_at lw_m11 232 rfl) rfl
theorem q2733 : (Jvm.Cond.fieldLink "PlanMemoModel" (438 : Nat) "PlanMemoModel" "nodes" "I") ∈ lw_all := lw_g (lw_at lw_m11 233 rfl) rfl
theorem q2734 : (Jvm.Cond.fieldLink "PlanMemoModel" (19 : Nat) "PlanMemoModel" "refused" "[I") ∈ lw_all := lw_g (lw_at lw_m11 234 rfl) rfl
theorem q2735 : (Jvm.Cond.fieldLink "PlanMemoModel" (23 : Nat) "PlanMemoModel" "distinct" "[I") ∈ lw_all := lw_g (lw_at lw_m11 235 rfl) rfl
theorem q2736 : (Jvm.Cond.fieldLink "PlanMemoModel" (26 : Nat) "PlanMemoModel" "rowsOf" "[I") ∈ lw_all := lw_g (lw_at lw_m11 236 rfl) rfl
theorem q2737 : (Jvm.Cond.fieldLink "PlanMemoModel" (29 : Nat) "PlanMemoModel" "columnsOf" "[I") ∈ lw_all := lw_g (lw_at lw_m11 237 rfl) rfl
theorem q2738 : (Jvm.Cond.fieldLink "PlanMemoModel" (32 : Nat) "PlanMemoModel" "orderOf" "[I") ∈ lw_all := lw_g (lw_at lw_m11 238 rfl) rfl
theorem q2739 : (Jvm.Cond.fieldLink "PlanMemoModel" (35 : Nat) "PlanMemoModel" "placeOf" "[I") ∈ lw_all := lw_g (lw_at lw_m11 239 rfl) rfl
theorem q2740 : (Jvm.Cond.fieldLink "PlanMemoModel" (38 : Nat) "PlanMemoModel" "kind" "[I") ∈ lw_all := lw_g (lw_at lw_m12 0 rfl) rfl
theorem q2741 : (Jvm.Cond.fieldLink "PlanMemoModel" (41 : Nat) "PlanMemoModel" "par" "[I") ∈ lw_all := lw_g (lw_at lw_m12 1 rfl) rfl
theorem q2742 : (Jvm.Cond.fieldLink "PlanMemoModel" (44 : Nat) "PlanMemoModel" "ex" "[I") ∈ lw_all := lw_g (lw_at lw_m12 2 rfl) rfl
theorem q2743 : (Jvm.Cond.fieldLink "PlanMemoModel" (47 : Nat) "PlanMemoModel" "ey" "[I") ∈ lw_all := lw_g (lw_at lw_m12 3 rfl) rfl
theorem q2744 : (Jvm.Cond.fieldLink "PlanMemoModel" (50 : Nat) "PlanMemoModel" "in" "[I") ∈ lw_all := lw_g (lw_at lw_m12 4 rfl) rfl
theorem q2745 : (Jvm.Cond.fieldLink "PlanMemoModel" (53 : Nat) "PlanMemoModel" "into" "[I") ∈ lw_all := lw_g (lw_at lw_m12 5 rfl) rfl
theorem q2746 : (Jvm.Cond.fieldLink "PlanMemoModel" (56 : Nat) "PlanMemoModel" "gone" "[Z") ∈ lw_all := lw_g (lw_at lw_m12 6 rfl) rfl
theorem q2747 : (Jvm.Cond.fieldLink "PlanMemoModel" (60 : Nat) "PlanMemoModel" "was" "[Z") ∈ lw_all := lw_g (lw_at lw_m12 7 rfl) rfl
theorem q2748 : (Jvm.Cond.fieldLink "PlanMemoModel" (63 : Nat) "PlanMemoModel" "firedBy" "[I") ∈ lw_all := lw_g (lw_at lw_m12 8 rfl) rfl
theorem q2749 : (Jvm.Cond.fieldLink "PlanMemoModel" (66 : Nat) "PlanMemoModel" "held" "[I") ∈ lw_all := lw_g (lw_at lw_m12 9 rfl) rfl
theorem q2750 : (Jvm.Cond.fieldLink "PlanMemoModel" (69 : Nat) "PlanMemoModel" "sort" "[I") ∈ lw_all := lw_g (lw_at lw_m12 10 rfl) rfl
theorem q2751 : (Jvm.Cond.fieldLink "PlanMemoModel" (72 : Nat) "PlanMemoModel" "size" "[I") ∈ lw_all := lw_g (lw_at lw_m12 11 rfl) rfl
theorem q2752 : (Jvm.Cond.fieldLink "PlanMemoModel" (75 : Nat) "PlanMemoModel" "shown" "[I") ∈ lw_all := lw_g (lw_at lw_m12 12 rfl) rfl
theorem q2753 : (Jvm.Cond.fieldLink "PlanMemoModel" (78 : Nat) "PlanMemoModel" "cells" "[J") ∈ lw_all := lw_g (lw_at lw_m12 13 rfl) rfl
theorem q2754 : (Jvm.Cond.fieldLink "PlanMemoModel" (82 : Nat) "PlanMemoModel" "carried" "[J") ∈ lw_all := lw_g (lw_at lw_m12 14 rfl) rfl
theorem q2755 : (Jvm.Cond.fieldLink "PlanMemoModel" (85 : Nat) "PlanMemoModel" "rows" "[I") ∈ lw_all := lw_g (lw_at lw_m12 15 rfl) rfl
theorem q2756 : (Jvm.Cond.fieldLink "PlanMemoModel" (88 : Nat) "PlanMemoModel" "columns" "[I") ∈ lw_all := lw_g (lw_at lw_m12 16 rfl) rfl
theorem q2757 : (Jvm.Cond.fieldLink "PlanMemoModel" (91 : Nat) "PlanMemoModel" "least" "[I") ∈ lw_all := lw_g (lw_at lw_m12 17 rfl) rfl
theorem q2758 : (Jvm.Cond.fieldLink "PlanMemoModel" (94 : Nat) "PlanMemoModel" "cost" "[J") ∈ lw_all := lw_g (lw_at lw_m12 18 rfl) rfl
theorem q2759 : (Jvm.Cond.fieldLink "PlanMemoModel" (97 : Nat) "PlanMemoModel" "prices" "[J") ∈ lw_all := lw_g (lw_at lw_m12 19 rfl) rfl
theorem q2760 : (Jvm.Cond.fieldLink "PlanMemoModel" (377 : Nat) "PlanMemoModel" "ways" "I") ∈ lw_all := lw_g (lw_at lw_m12 20 rfl) rfl
theorem q2761 : (Jvm.Cond.fieldLink "PlanMemoModel" (100 : Nat) "PlanMemoModel" "wayKind" "[I") ∈ lw_all := lw_g (lw_at lw_m12 21 rfl) rfl
theorem q2762 : (Jvm.Cond.fieldLink "PlanMemoModel" (103 : Nat) "PlanMemoModel" "wayBy" "[I") ∈ lw_all := lw_g (lw_at lw_m12 22 rfl) rfl
theorem q2763 : (Jvm.Cond.fieldLink "PlanMemoModel" (106 : Nat) "PlanMemoModel" "wayOne" "[I") ∈ lw_all := lw_g (lw_at lw_m12 23 rfl) rfl
theorem q2764 : (Jvm.Cond.fieldLink "PlanMemoModel" (109 : Nat) "PlanMemoModel" "wayTwo" "[I") ∈ lw_all := lw_g (lw_at lw_m12 24 rfl) rfl
theorem q2765 : (Jvm.Cond.fieldLink "PlanMemoModel" (112 : Nat) "PlanMemoModel" "wayAt" "[I") ∈ lw_all := lw_g (lw_at lw_m12 25 rfl) rfl
theorem q2766 : (Jvm.Cond.fieldLink "PlanMemoModel" (115 : Nat) "PlanMemoModel" "wayPrice" "[J") ∈ lw_all := lw_g (lw_at lw_m12 26 rfl) rfl
theorem q2767 : (Jvm.Cond.fieldLink "PlanMemoModel" (118 : Nat) "PlanMemoModel" "nodeKind" "[I") ∈ lw_all := lw_g (lw_at lw_m12 27 rfl) rfl
theorem q2768 : (Jvm.Cond.fieldLink "PlanMemoModel" (121 : Nat) "PlanMemoModel" "nodePar" "[I") ∈ lw_all := lw_g (lw_at lw_m12 28 rfl) rfl
theorem q2769 : (Jvm.Cond.fieldLink "PlanMemoModel" (124 : Nat) "PlanMemoModel" "nodeGroup" "[I") ∈ lw_all := lw_g (lw_at lw_m12 29 rfl) rfl
theorem q2770 : (Jvm.Cond.fieldLink "PlanMemoModel" (127 : Nat) "PlanMemoModel" "nodeOrder" "[I") ∈ lw_all := lw_g (lw_at lw_m12 30 rfl) rfl
theorem q2771 : (Jvm.Cond.fieldLink "PlanMemoModel" (130 : Nat) "PlanMemoModel" "nodePlace" "[I") ∈ lw_all := lw_g (lw_at lw_m12 31 rfl) rfl
theorem q2772 : (Jvm.Cond.fieldLink "PlanMemoModel" (133 : Nat) "PlanMemoModel" "nodeAt" "[I") ∈ lw_all := lw_g (lw_at lw_m12 32 rfl) rfl
theorem q2773 : (Jvm.Cond.fieldLink "PlanMemoModel" (136 : Nat) "PlanMemoModel" "nodeMany" "[I") ∈ lw_all := lw_g (lw_at lw_m12 33 rfl) rfl
theorem q2774 : (Jvm.Cond.fieldLink "PlanMemoModel" (139 : Nat) "PlanMemoModel" "nodeHalf" "[I") ∈ lw_all := lw_g (lw_at lw_m12 34 rfl) rfl
theorem q2775 : (Jvm.Cond.fieldLink "PlanMemoModel" (142 : Nat) "PlanMemoModel" "nodeBy" "[I") ∈ lw_all := lw_g (lw_at lw_m12 35 rfl) rfl
theorem q2776 : (Jvm.Cond.fieldLink "PlanMemoModel" (145 : Nat) "PlanMemoModel" "nodeCost" "[J") ∈ lw_all := lw_g (lw_at lw_m12 36 rfl) rfl
theorem q2777 : (Jvm.Cond.fieldLink "PlanMemoModel" (432 : Nat) "PlanMemoModel" "made" "I") ∈ lw_all := lw_g (lw_at lw_m12 37 rfl) rfl
theorem q2778 : (Jvm.Cond.fieldLink "PlanMemoModel" (148 : Nat) "PlanMemoModel" "tKind" "[I") ∈ lw_all := lw_g (lw_at lw_m12 38 rfl) rfl
theorem q2779 : (Jvm.Cond.fieldLink "PlanMemoModel" (151 : Nat) "PlanMemoModel" "tPar" "[I") ∈ lw_all := lw_g (lw_at lw_m12 39 rfl) rfl
theorem q2780 : (Jvm.Cond.fieldLink "PlanMemoModel" (154 : Nat) "PlanMemoModel" "tGroup" "[I") ∈ lw_all := lw_g (lw_at lw_m12 40 rfl) rfl
theorem q2781 : (Jvm.Cond.fieldLink "PlanMemoModel" (157 : Nat) "PlanMemoModel" "tOrder" "[I") ∈ lw_all := lw_g (lw_at lw_m12 41 rfl) rfl
theorem q2782 : (Jvm.Cond.fieldLink "PlanMemoModel" (160 : Nat) "PlanMemoModel" "tPlace" "[I") ∈ lw_all := lw_g (lw_at lw_m12 42 rfl) rfl
theorem q2783 : (Jvm.Cond.fieldLink "PlanMemoModel" (163 : Nat) "PlanMemoModel" "tAt" "[I") ∈ lw_all := lw_g (lw_at lw_m12 43 rfl) rfl
theorem q2784 : (Jvm.Cond.fieldLink "PlanMemoModel" (166 : Nat) "PlanMemoModel" "tMany" "[I") ∈ lw_all := lw_g (lw_at lw_m12 44 rfl) rfl
theorem q2785 : (Jvm.Cond.fieldLink "PlanMemoModel" (169 : Nat) "PlanMemoModel" "tHalf" "[I") ∈ lw_all := lw_g (lw_at lw_m12 45 rfl) rfl
theorem q2786 : (Jvm.Cond.fieldLink "PlanMemoModel" (172 : Nat) "PlanMemoModel" "tCost" "[J") ∈ lw_all := lw_g (lw_at lw_m12 46 rfl) rfl
theorem q2787 : (Jvm.Cond.fieldLink "PlanMemoModel" (175 : Nat) "PlanMemoModel" "trace" "[I") ∈ lw_all := lw_g (lw_at lw_m12 47 rfl) rfl
theorem q2788 : (Jvm.Cond.fieldLink "PlanMemoModel" (178 : Nat) "PlanMemoModel" "letters" "[I") ∈ lw_all := lw_g (lw_at lw_m12 48 rfl) rfl
theorem q2789 : (Jvm.Cond.fieldLink "PlanMemoModel" (441 : Nat) "PlanMemoModel" "lettersMany" "I") ∈ lw_all := lw_g (lw_at lw_m12 49 rfl) rfl
theorem q2790 : (Jvm.Cond.fieldLink "PlanMemoModel" (320 : Nat) "PlanMemoModel" "nextE" "I") ∈ lw_all := lw_g (lw_at lw_m12 50 rfl) rfl
theorem q2791 : (Jvm.Cond.fieldLink "PlanMemoModel" (323 : Nat) "PlanMemoModel" "nextRule" "I") ∈ lw_all := lw_g (lw_at lw_m12 51 rfl) rfl
theorem q2792 : (Jvm.Cond.fieldLink "PlanMemoModel" (326 : Nat) "PlanMemoModel" "nextF" "I") ∈ lw_all := lw_g (lw_at lw_m12 52 rfl) rfl
theorem q2793 : (Jvm.Cond.fieldLink "PlanMemoModel" (181 : Nat) "PlanMemoModel" "text" "[I") ∈ lw_all := lw_g (lw_at lw_m12 53 rfl) rfl
theorem q2794 : (Jvm.Cond.fieldLink "PlanMemoModel" (281 : Nat) "PlanMemoModel" "textSize" "I") ∈ lw_all := lw_g (lw_at lw_m12 54 rfl) rfl
theorem q2795 : (Jvm.Cond.fieldLink "PlanMemoModel" (278 : Nat) "PlanMemoModel" "at" "I") ∈ lw_all := lw_g (lw_at lw_m12 55 rfl) rfl
theorem q2796 : (Jvm.Cond.fieldLink "PlanMemoModel" (463 : Nat) "PlanMemoModel" "isKept" "Z") ∈ lw_all := lw_g (lw_at lw_m12 56 rfl) rfl
theorem q2797 : (Jvm.Cond.fieldLink "PlanMemoModel" (467 : Nat) "PlanMemoModel" "keptInts" "[I") ∈ lw_all := lw_g (lw_at lw_m12 57 rfl) rfl
theorem q2798 : (Jvm.Cond.fieldLink "PlanMemoModel" (470 : Nat) "PlanMemoModel" "keptGone" "[Z") ∈ lw_all := lw_g (lw_at lw_m12 58 rfl) rfl
theorem q2799 : (Jvm.Cond.fieldLink "PlanMemoModel" (473 : Nat) "PlanMemoModel" "keptWas" "[Z") ∈ lw_all := lw_g (lw_at lw_m12 59 rfl) rfl
theorem q2800 : (Jvm.Cond.fieldLink "PlanMemoModel" (184 : Nat) "PlanMemoModel" "what" "[I") ∈ lw_all := lw_g (lw_at lw_m12 60 rfl) rfl
theorem q2801 : (Jvm.Cond.fieldLink "PlanMemoModel" (187 : Nat) "PlanMemoModel" "demanded" "[Z") ∈ lw_all := lw_g (lw_at lw_m12 61 rfl) rfl
theorem q2802 : (Jvm.Cond.fieldLink "PlanMemoModel" (190 : Nat) "PlanMemoModel" "trees" "[J") ∈ lw_all := lw_g (lw_at lw_m12 62 rfl) rfl
theorem q2803 : (Jvm.Cond.fieldLink "PlanMemoModel" (193 : Nat) "PlanMemoModel" "higher" "[J") ∈ lw_all := lw_g (lw_at lw_m12 63 rfl) rfl
theorem q2804 : (Jvm.Cond.lays "PlanMemoModel" "PlanMemoModel" "tables" "I") ∈ lw_all := lw_g (lw_at lw_m12 64 rfl) rfl
theorem q2805 : (Jvm.Cond.soleField "PlanMemoModel" "tables") ∈ lw_all := lw_g (lw_at lw_m12 65 rfl) rfl
theorem q2806 : (Jvm.Cond.lays "PlanMemoModel" "PlanMemoModel" "many" "I") ∈ lw_all := lw_g (lw_at lw_m12 66 rfl) rfl
theorem q2807 : (Jvm.Cond.soleField "PlanMemoModel" "many") ∈ lw_all := lw_g (lw_at lw_m12 67 rfl) rfl
theorem q2808 : (Jvm.Cond.lays "PlanMemoModel" "PlanMemoModel" "groups" "I") ∈ lw_all := lw_g (lw_at lw_m12 68 rfl) rfl
theorem q2809 : (Jvm.Cond.soleField "PlanMemoModel" "groups") ∈ lw_all := lw_g (lw_at lw_m12 69 rfl) rfl
theorem q2810 : (Jvm.Cond.lays "PlanMemoModel" "PlanMemoModel" "fires" "I") ∈ lw_all := lw_g (lw_at lw_m12 70 rfl) rfl
theorem q2811 : (Jvm.Cond.soleField "PlanMemoModel" "fires") ∈ lw_all := lw_g (lw_at lw_m12 71 rfl) rfl
theorem q2812 : (Jvm.Cond.lays "PlanMemoModel" "PlanMemoModel" "allowed" "I") ∈ lw_all := lw_g (lw_at lw_m12 72 rfl) rfl
theorem q2813 : (Jvm.Cond.soleField "PlanMemoModel" "allowed") ∈ lw_all := lw_g (lw_at lw_m12 73 rfl) rfl
theorem q2814 : (Jvm.Cond.lays "PlanMemoModel" "PlanMemoModel" "seed" "I") ∈ lw_all := lw_g (lw_at lw_m12 74 rfl) rfl
theorem q2815 : (Jvm.Cond.soleField "PlanMemoModel" "seed") ∈ lw_all := lw_g (lw_at lw_m12 75 rfl) rfl
theorem q2816 : (Jvm.Cond.lays "PlanMemoModel" "PlanMemoModel" "fault" "I") ∈ lw_all := lw_g (lw_at lw_m12 76 rfl) rfl
theorem q2817 : (Jvm.Cond.soleField "PlanMemoModel" "fault") ∈ lw_all := lw_g (lw_at lw_m12 77 rfl) rfl
theorem q2818 : (Jvm.Cond.lays "PlanMemoModel" "PlanMemoModel" "bodies" "I") ∈ lw_all := lw_g (lw_at lw_m12 78 rfl) rfl
theorem q2819 : (Jvm.Cond.soleField "PlanMemoModel" "bodies") ∈ lw_all := lw_g (lw_at lw_m12 79 rfl) rfl
theorem q2820 : (Jvm.Cond.lays "PlanMemoModel" "PlanMemoModel" "nodes" "I") ∈ lw_all := lw_g (lw_at lw_m12 80 rfl) rfl
theorem q2821 : (Jvm.Cond.soleField "PlanMemoModel" "nodes") ∈ lw_all := lw_g (lw_at lw_m12 81 rfl) rfl
theorem q2822 : (Jvm.Cond.laysFinal "PlanMemoModel" "PlanMemoModel" "refused" "[I") ∈ lw_all := lw_g (lw_at lw_m12 82 rfl) rfl
theorem q2823 : (Jvm.Cond.soleField "PlanMemoModel" "refused") ∈ lw_all := lw_g (lw_at lw_m12 83 rfl) rfl
theorem q2824 : (Jvm.Cond.laysFinal "PlanMemoModel" "PlanMemoModel" "distinct" "[I") ∈ lw_all := lw_g (lw_at lw_m12 84 rfl) rfl
theorem q2825 : (Jvm.Cond.soleField "PlanMemoModel" "distinct") ∈ lw_all := lw_g (lw_at lw_m12 85 rfl) rfl
theorem q2826 : (Jvm.Cond.laysFinal "PlanMemoModel" "PlanMemoModel" "rowsOf" "[I") ∈ lw_all := lw_g (lw_at lw_m12 86 rfl) rfl
theorem q2827 : (Jvm.Cond.soleField "PlanMemoModel" "rowsOf") ∈ lw_all := lw_g (lw_at lw_m12 87 rfl) rfl
theorem q2828 : (Jvm.Cond.laysFinal "PlanMemoModel" "PlanMemoModel" "columnsOf" "[I") ∈ lw_all := lw_g (lw_at lw_m12 88 rfl) rfl
theorem q2829 : (Jvm.Cond.soleField "PlanMemoModel" "columnsOf") ∈ lw_all := lw_g (lw_at lw_m12 89 rfl) rfl
theorem q2830 : (Jvm.Cond.laysFinal "PlanMemoModel" "PlanMemoModel" "orderOf" "[I") ∈ lw_all := lw_g (lw_at lw_m12 90 rfl) rfl
theorem q2831 : (Jvm.Cond.soleField "PlanMemoModel" "orderOf") ∈ lw_all := lw_g (lw_at lw_m12 91 rfl) rfl
theorem q2832 : (Jvm.Cond.laysFinal "PlanMemoModel" "PlanMemoModel" "placeOf" "[I") ∈ lw_all := lw_g (lw_at lw_m12 92 rfl) rfl
theorem q2833 : (Jvm.Cond.soleField "PlanMemoModel" "placeOf") ∈ lw_all := lw_g (lw_at lw_m12 93 rfl) rfl
theorem q2834 : (Jvm.Cond.laysFinal "PlanMemoModel" "PlanMemoModel" "kind" "[I") ∈ lw_all := lw_g (lw_at lw_m12 94 rfl) rfl
theorem q2835 : (Jvm.Cond.soleField "PlanMemoModel" "kind") ∈ lw_all := lw_g (lw_at lw_m12 95 rfl) rfl
theorem q2836 : (Jvm.Cond.laysFinal "PlanMemoModel" "PlanMemoModel" "par" "[I") ∈ lw_all := lw_g (lw_at lw_m12 96 rfl) rfl
theorem q2837 : (Jvm.Cond.soleField "PlanMemoModel" "par") ∈ lw_all := lw_g (lw_at lw_m12 97 rfl) rfl
theorem q2838 : (Jvm.Cond.laysFinal "PlanMemoModel" "PlanMemoModel" "ex" "[I") ∈ lw_all := lw_g (lw_at lw_m12 98 rfl) rfl
theorem q2839 : (Jvm.Cond.soleField "PlanMemoModel" "ex") ∈ lw_all := lw_g (lw_at lw_m12 99 rfl) rfl
theorem q2840 : (Jvm.Cond.laysFinal "PlanMemoModel" "PlanMemoModel" "ey" "[I") ∈ lw_all := lw_g (lw_at lw_m12 100 rfl) rfl
theorem q2841 : (Jvm.Cond.soleField "PlanMemoModel" "ey") ∈ lw_all := lw_g (lw_at lw_m12 101 rfl) rfl
theorem q2842 : (Jvm.Cond.laysFinal "PlanMemoModel" "PlanMemoModel" "in" "[I") ∈ lw_all := lw_g (lw_at lw_m12 102 rfl) rfl
theorem q2843 : (Jvm.Cond.soleField "PlanMemoModel" "in") ∈ lw_all := lw_g (lw_at lw_m12 103 rfl) rfl
theorem q2844 : (Jvm.Cond.laysFinal "PlanMemoModel" "PlanMemoModel" "into" "[I") ∈ lw_all := lw_g (lw_at lw_m12 104 rfl) rfl
theorem q2845 : (Jvm.Cond.soleField "PlanMemoModel" "into") ∈ lw_all := lw_g (lw_at lw_m12 105 rfl) rfl
theorem q2846 : (Jvm.Cond.laysFinal "PlanMemoModel" "PlanMemoModel" "gone" "[Z") ∈ lw_all := lw_g (lw_at lw_m12 106 rfl) rfl
theorem q2847 : (Jvm.Cond.soleField "PlanMemoModel" "gone") ∈ lw_all := lw_g (lw_at lw_m12 107 rfl) rfl
theorem q2848 : (Jvm.Cond.laysFinal "PlanMemoModel" "PlanMemoModel" "was" "[Z") ∈ lw_all := lw_g (lw_at lw_m12 108 rfl) rfl
theorem q2849 : (Jvm.Cond.soleField "PlanMemoModel" "was") ∈ lw_all := lw_g (lw_at lw_m12 109 rfl) rfl
theorem q2850 : (Jvm.Cond.laysFinal "PlanMemoModel" "PlanMemoModel" "firedBy" "[I") ∈ lw_all := lw_g (lw_at lw_m12 110 rfl) rfl
theorem q2851 : (Jvm.Cond.soleField "PlanMemoModel" "firedBy") ∈ lw_all := lw_g (lw_at lw_m12 111 rfl) rfl
theorem q2852 : (Jvm.Cond.laysFinal "PlanMemoModel" "PlanMemoModel" "held" "[I") ∈ lw_all := lw_g (lw_at lw_m12 112 rfl) rfl
theorem q2853 : (Jvm.Cond.soleField "PlanMemoModel" "held") ∈ lw_all := lw_g (lw_at lw_m12 113 rfl) rfl
theorem q2854 : (Jvm.Cond.laysFinal "PlanMemoModel" "PlanMemoModel" "sort" "[I") ∈ lw_all := lw_g (lw_at lw_m12 114 rfl) rfl
theorem q2855 : (Jvm.Cond.soleField "PlanMemoModel" "sort") ∈ lw_all := lw_g (lw_at lw_m12 115 rfl) rfl
theorem q2856 : (Jvm.Cond.laysFinal "PlanMemoModel" "PlanMemoModel" "size" "[I") ∈ lw_all := lw_g (lw_at lw_m12 116 rfl) rfl
theorem q2857 : (Jvm.Cond.soleField "PlanMemoModel" "size") ∈ lw_all := lw_g (lw_at lw_m12 117 rfl) rfl
theorem q2858 : (Jvm.Cond.laysFinal "PlanMemoModel" "PlanMemoModel" "shown" "[I") ∈ lw_all := lw_g (lw_at lw_m12 118 rfl) rfl
theorem q2859 : (Jvm.Cond.soleField "PlanMemoModel" "shown") ∈ lw_all := lw_g (lw_at lw_m12 119 rfl) rfl
theorem q2860 : (Jvm.Cond.laysFinal "PlanMemoModel" "PlanMemoModel" "cells" "[J") ∈ lw_all := lw_g (lw_at lw_m12 120 rfl) rfl
theorem q2861 : (Jvm.Cond.soleField "PlanMemoModel" "cells") ∈ lw_all := lw_g (lw_at lw_m12 121 rfl) rfl
theorem q2862 : (Jvm.Cond.laysFinal "PlanMemoModel" "PlanMemoModel" "carried" "[J") ∈ lw_all := lw_g (lw_at lw_m12 122 rfl) rfl
theorem q2863 : (Jvm.Cond.soleField "PlanMemoModel" "carried") ∈ lw_all := lw_g (lw_at lw_m12 123 rfl) rfl
theorem q2864 : (Jvm.Cond.laysFinal "PlanMemoModel" "PlanMemoModel" "rows" "[I") ∈ lw_all := lw_g (lw_at lw_m12 124 rfl) rfl
theorem q2865 : (Jvm.Cond.soleField "PlanMemoModel" "rows") ∈ lw_all := lw_g (lw_at lw_m12 125 rfl) rfl
theorem q2866 : (Jvm.Cond.laysFinal "PlanMemoModel" "PlanMemoModel" "columns" "[I") ∈ lw_all := lw_g (lw_at lw_m12 126 rfl) rfl
theorem q2867 : (Jvm.Cond.soleField "PlanMemoModel" "columns") ∈ lw_all := lw_g (lw_at lw_m12 127 rfl) rfl
theorem q2868 : (Jvm.Cond.laysFinal "PlanMemoModel" "PlanMemoModel" "least" "[I") ∈ lw_all := lw_g (lw_at lw_m12 128 rfl) rfl
theorem q2869 : (Jvm.Cond.soleField "PlanMemoModel" "least") ∈ lw_all := lw_g (lw_at lw_m12 129 rfl) rfl
theorem q2870 : (Jvm.Cond.laysFinal "PlanMemoModel" "PlanMemoModel" "cost" "[J") ∈ lw_all := lw_g (lw_at lw_m12 130 rfl) rfl
theorem q2871 : (Jvm.Cond.soleField "PlanMemoModel" "cost") ∈ lw_all := lw_g (lw_at lw_m12 131 rfl) rfl
theorem q2872 : (Jvm.Cond.laysFinal "PlanMemoModel" "PlanMemoModel" "prices" "[J") ∈ lw_all := lw_g (lw_at lw_m12 132 rfl) rfl
theorem q2873 : (Jvm.Cond.soleField "PlanMemoModel" "prices") ∈ lw_all := lw_g (lw_at lw_m12 133 rfl) rfl
theorem q2874 : (Jvm.Cond.lays "PlanMemoModel" "PlanMemoModel" "ways" "I") ∈ lw_all := lw_g (lw_at lw_m12 134 rfl) rfl
theorem q2875 : (Jvm.Cond.soleField "PlanMemoModel" "ways") ∈ lw_all := lw_g (lw_at lw_m12 135 rfl) rfl
theorem q2876 : (Jvm.Cond.laysFinal "PlanMemoModel" "PlanMemoModel" "wayKind" "[I") ∈ lw_all := lw_g (lw_at lw_m12 136 rfl) rfl
theorem q2877 : (Jvm.Cond.soleField "PlanMemoModel" "wayKind") ∈ lw_all := lw_g (lw_at lw_m12 137 rfl) rfl
theorem q2878 : (Jvm.Cond.laysFinal "PlanMemoModel" "PlanMemoModel" "wayBy" "[I") ∈ lw_all := lw_g (lw_at lw_m12 138 rfl) rfl
theorem q2879 : (Jvm.Cond.soleField "PlanMemoModel" "wayBy") ∈ lw_all := lw_g (lw_at lw_m12 139 rfl) rfl
theorem q2880 : (Jvm.Cond.laysFinal "PlanMemoModel" "PlanMemoModel" "wayOne" "[I") ∈ lw_all := lw_g (lw_at lw_m12 140 rfl) rfl
theorem q2881 : (Jvm.Cond.soleField "PlanMemoModel" "wayOne") ∈ lw_all := lw_g (lw_at lw_m12 141 rfl) rfl
theorem q2882 : (Jvm.Cond.laysFinal "PlanMemoModel" "PlanMemoModel" "wayTwo" "[I") ∈ lw_all := lw_g (lw_at lw_m12 142 rfl) rfl
theorem q2883 : (Jvm.Cond.soleField "PlanMemoModel" "wayTwo") ∈ lw_all := lw_g (lw_at lw_m12 143 rfl) rfl
theorem q2884 : (Jvm.Cond.laysFinal "PlanMemoModel" "PlanMemoModel" "wayAt" "[I") ∈ lw_all := lw_g (lw_at lw_m12 144 rfl) rfl
theorem q2885 : (Jvm.Cond.soleField "PlanMemoModel" "wayAt") ∈ lw_all := lw_g (lw_at lw_m12 145 rfl) rfl
theorem q2886 : (Jvm.Cond.laysFinal "PlanMemoModel" "PlanMemoModel" "wayPrice" "[J") ∈ lw_all := lw_g (lw_at lw_m12 146 rfl) rfl
theorem q2887 : (Jvm.Cond.soleField "PlanMemoModel" "wayPrice") ∈ lw_all := lw_g (lw_at lw_m12 147 rfl) rfl
theorem q2888 : (Jvm.Cond.laysFinal "PlanMemoModel" "PlanMemoModel" "nodeKind" "[I") ∈ lw_all := lw_g (lw_at lw_m12 148 rfl) rfl
theorem q2889 : (Jvm.Cond.soleField "PlanMemoModel" "nodeKind") ∈ lw_all := lw_g (lw_at lw_m12 149 rfl) rfl
theorem q2890 : (Jvm.Cond.laysFinal "PlanMemoModel" "PlanMemoModel" "nodePar" "[I") ∈ lw_all := lw_g (lw_at lw_m12 150 rfl) rfl
theorem q2891 : (Jvm.Cond.soleField "PlanMemoModel" "nodePar") ∈ lw_all := lw_g (lw_at lw_m12 151 rfl) rfl
theorem q2892 : (Jvm.Cond.laysFinal "PlanMemoModel" "PlanMemoModel" "nodeGroup" "[I") ∈ lw_all := lw_g (lw_at lw_m12 152 rfl) rfl
theorem q2893 : (Jvm.Cond.soleField "PlanMemoModel" "nodeGroup") ∈ lw_all := lw_g (lw_at lw_m12 153 rfl) rfl
theorem q2894 : (Jvm.Cond.laysFinal "PlanMemoModel" "PlanMemoModel" "nodeOrder" "[I") ∈ lw_all := lw_g (lw_at lw_m12 154 rfl) rfl
theorem q2895 : (Jvm.Cond.soleField "PlanMemoModel" "nodeOrder") ∈ lw_all := lw_g (lw_at lw_m12 155 rfl) rfl
theorem q2896 : (Jvm.Cond.laysFinal "PlanMemoModel" "PlanMemoModel" "nodePlace" "[I") ∈ lw_all := lw_g (lw_at lw_m12 156 rfl) rfl
theorem q2897 : (Jvm.Cond.soleField "PlanMemoModel" "nodePlace") ∈ lw_all := lw_g (lw_at lw_m12 157 rfl) rfl
theorem q2898 : (Jvm.Cond.laysFinal "PlanMemoModel" "PlanMemoModel" "nodeAt" "[I") ∈ lw_all := lw_g (lw_at lw_m12 158 rfl) rfl
theorem q2899 : (Jvm.Cond.soleField "PlanMemoModel" "nodeAt") ∈ lw_all := lw_g (lw_at lw_m12 159 rfl) rfl
theorem q2900 : (Jvm.Cond.laysFinal "PlanMemoModel" "PlanMemoModel" "nodeMany" "[I") ∈ lw_all := lw_g (lw_at lw_m12 160 rfl) rfl
theorem q2901 : (Jvm.Cond.soleField "PlanMemoModel" "nodeMany") ∈ lw_all := lw_g (lw_at lw_m12 161 rfl) rfl
theorem q2902 : (Jvm.Cond.laysFinal "PlanMemoModel" "PlanMemoModel" "nodeHalf" "[I") ∈ lw_all := lw_g (lw_at lw_m12 162 rfl) rfl
theorem q2903 : (Jvm.Cond.soleField "PlanMemoModel" "nodeHalf") ∈ lw_all := lw_g (lw_at lw_m12 163 rfl) rfl
theorem q2904 : (Jvm.Cond.laysFinal "PlanMemoModel" "PlanMemoModel" "nodeBy" "[I") ∈ lw_all := lw_g (lw_at lw_m12 164 rfl) rfl
theorem q2905 : (Jvm.Cond.soleField "PlanMemoModel" "nodeBy") ∈ lw_all := lw_g (lw_at lw_m12 165 rfl) rfl
theorem q2906 : (Jvm.Cond.laysFinal "PlanMemoModel" "PlanMemoModel" "nodeCost" "[J") ∈ lw_all := lw_g (lw_at lw_m12 166 rfl) rfl
theorem q2907 : (Jvm.Cond.soleField "PlanMemoModel" "nodeCost") ∈ lw_all := lw_g (lw_at lw_m12 167 rfl) rfl
theorem q2908 : (Jvm.Cond.lays "PlanMemoModel" "PlanMemoModel" "made" "I") ∈ lw_all := lw_g (lw_at lw_m12 168 rfl) rfl
theorem q2909 : (Jvm.Cond.soleField "PlanMemoModel" "made") ∈ lw_all := lw_g (lw_at lw_m12 169 rfl) rfl
theorem q2910 : (Jvm.Cond.laysFinal "PlanMemoModel" "PlanMemoModel" "tKind" "[I") ∈ lw_all := lw_g (lw_at lw_m12 170 rfl) rfl
theorem q2911 : (Jvm.Cond.soleField "PlanMemoModel" "tKind") ∈ lw_all := lw_g (lw_at lw_m12 171 rfl) rfl
theorem q2912 : (Jvm.Cond.laysFinal "PlanMemoModel" "PlanMemoModel" "tPar" "[I") ∈ lw_all := lw_g (lw_at lw_m12 172 rfl) rfl
theorem q2913 : (Jvm.Cond.soleField "PlanMemoModel" "tPar") ∈ lw_all := lw_g (lw_at lw_m12 173 rfl) rfl
theorem q2914 : (Jvm.Cond.laysFinal "PlanMemoModel" "PlanMemoModel" "tGroup" "[I") ∈ lw_all := lw_g (lw_at lw_m12 174 rfl) rfl
theorem q2915 : (Jvm.Cond.soleField "PlanMemoModel" "tGroup") ∈ lw_all := lw_g (lw_at lw_m12 175 rfl) rfl
theorem q2916 : (Jvm.Cond.laysFinal "PlanMemoModel" "PlanMemoModel" "tOrder" "[I") ∈ lw_all := lw_g (lw_at lw_m12 176 rfl) rfl
theorem q2917 : (Jvm.Cond.soleField "PlanMemoModel" "tOrder") ∈ lw_all := lw_g (lw_at lw_m12 177 rfl) rfl
theorem q2918 : (Jvm.Cond.laysFinal "PlanMemoModel" "PlanMemoModel" "tPlace" "[I") ∈ lw_all := lw_g (lw_at lw_m12 178 rfl) rfl
theorem q2919 : (Jvm.Cond.soleField "PlanMemoModel" "tPlace") ∈ lw_all := lw_g (lw_at lw_m12 179 rfl) rfl
theorem q2920 : (Jvm.Cond.laysFinal "PlanMemoModel" "PlanMemoModel" "tAt" "[I") ∈ lw_all := lw_g (lw_at lw_m12 180 rfl) rfl
theorem q2921 : (Jvm.Cond.soleField "PlanMemoModel" "tAt") ∈ lw_all := lw_g (lw_at lw_m12 181 rfl) rfl
theorem q2922 : (Jvm.Cond.laysFinal "PlanMemoModel" "PlanMemoModel" "tMany" "[I") ∈ lw_all := lw_g (lw_at lw_m12 182 rfl) rfl
theorem q2923 : (Jvm.Cond.soleField "PlanMemoModel" "tMany") ∈ lw_all := lw_g (lw_at lw_m12 183 rfl) rfl
theorem q2924 : (Jvm.Cond.laysFinal "PlanMemoModel" "PlanMemoModel" "tHalf" "[I") ∈ lw_all := lw_g (lw_at lw_m12 184 rfl) rfl
theorem q2925 : (Jvm.Cond.soleField "PlanMemoModel" "tHalf") ∈ lw_all := lw_g (lw_at lw_m12 185 rfl) rfl
theorem q2926 : (Jvm.Cond.laysFinal "PlanMemoModel" "PlanMemoModel" "tCost" "[J") ∈ lw_all := lw_g (lw_at lw_m12 186 rfl) rfl
theorem q2927 : (Jvm.Cond.soleField "PlanMemoModel" "tCost") ∈ lw_all := lw_g (lw_at lw_m12 187 rfl) rfl
theorem q2928 : (Jvm.Cond.laysFinal "PlanMemoModel" "PlanMemoModel" "trace" "[I") ∈ lw_all := lw_g (lw_at lw_m12 188 rfl) rfl
theorem q2929 : (Jvm.Cond.soleField "PlanMemoModel" "trace") ∈ lw_all := lw_g (lw_at lw_m12 189 rfl) rfl
theorem q2930 : (Jvm.Cond.laysFinal "PlanMemoModel" "PlanMemoModel" "letters" "[I") ∈ lw_all := lw_g (lw_at lw_m12 190 rfl) rfl
theorem q2931 : (Jvm.Cond.soleField "PlanMemoModel" "letters") ∈ lw_all := lw_g (lw_at lw_m12 191 rfl) rfl
theorem q2932 : (Jvm.Cond.lays "PlanMemoModel" "PlanMemoModel" "lettersMany" "I") ∈ lw_all := lw_g (lw_at lw_m12 192 rfl) rfl
theorem q2933 : (Jvm.Cond.soleField "PlanMemoModel" "lettersMany") ∈ lw_all := lw_g (lw_at lw_m12 193 rfl) rfl
theorem q2934 : (Jvm.Cond.lays "PlanMemoModel" "PlanMemoModel" "nextE" "I") ∈ lw_all := lw_g (lw_at lw_m12 194 rfl) rfl
theorem q2935 : (Jvm.Cond.soleField "PlanMemoModel" "nextE") ∈ lw_all := lw_g (lw_at lw_m12 195 rfl) rfl
theorem q2936 : (Jvm.Cond.lays "PlanMemoModel" "PlanMemoModel" "nextRule" "I") ∈ lw_all := lw_g (lw_at lw_m12 196 rfl) rfl
theorem q2937 : (Jvm.Cond.soleField "PlanMemoModel" "nextRule") ∈ lw_all := lw_g (lw_at lw_m12 197 rfl) rfl
theorem q2938 : (Jvm.Cond.lays "PlanMemoModel" "PlanMemoModel" "nextF" "I") ∈ lw_all := lw_g (lw_at lw_m12 198 rfl) rfl
theorem q2939 : (Jvm.Cond.soleField "PlanMemoModel" "nextF") ∈ lw_all := lw_g (lw_at lw_m12 199 rfl) rfl
theorem q2940 : (Jvm.Cond.lays "PlanMemoModel" "PlanMemoModel" "text" "[I") ∈ lw_all := lw_g (lw_at lw_m12 200 rfl) rfl
theorem q2941 : (Jvm.Cond.soleField "PlanMemoModel" "text") ∈ lw_all := lw_g (lw_at lw_m12 201 rfl) rfl
theorem q2942 : (Jvm.Cond.lays "PlanMemoModel" "PlanMemoModel" "textSize" "I") ∈ lw_all := lw_g (lw_at lw_m12 202 rfl) rfl
theorem q2943 : (Jvm.Cond.soleField "PlanMemoModel" "textSize") ∈ lw_all := lw_g (lw_at lw_m12 203 rfl) rfl
theorem q2944 : (Jvm.Cond.lays "PlanMemoModel" "PlanMemoModel" "at" "I") ∈ lw_all := lw_g (lw_at lw_m12 204 rfl) rfl
theorem q2945 : (Jvm.Cond.soleField "PlanMemoModel" "at") ∈ lw_all := lw_g (lw_at lw_m12 205 rfl) rfl
theorem q2946 : (Jvm.Cond.lays "PlanMemoModel" "PlanMemoModel" "isKept" "Z") ∈ lw_all := lw_g (lw_at lw_m12 206 rfl) rfl
theorem q2947 : (Jvm.Cond.soleField "PlanMemoModel" "isKept") ∈ lw_all := lw_g (lw_at lw_m12 207 rfl) rfl
theorem q2948 : (Jvm.Cond.lays "PlanMemoModel" "PlanMemoModel" "keptInts" "[I") ∈ lw_all := lw_g (lw_at lw_m12 208 rfl) rfl
theorem q2949 : (Jvm.Cond.soleField "PlanMemoModel" "keptInts") ∈ lw_all := lw_g (lw_at lw_m12 209 rfl) rfl
theorem q2950 : (Jvm.Cond.lays "PlanMemoModel" "PlanMemoModel" "keptGone" "[Z") ∈ lw_all := lw_g (lw_at lw_m12 210 rfl) rfl
theorem q2951 : (Jvm.Cond.soleField "PlanMemoModel" "keptGone") ∈ lw_all := lw_g (lw_at lw_m12 211 rfl) rfl
theorem q2952 : (Jvm.Cond.lays "PlanMemoModel" "PlanMemoModel" "keptWas" "[Z") ∈ lw_all := lw_g (lw_at lw_m12 212 rfl) rfl
theorem q2953 : (Jvm.Cond.soleField "PlanMemoModel" "keptWas") ∈ lw_all := lw_g (lw_at lw_m12 213 rfl) rfl
theorem q2954 : (Jvm.Cond.laysFinal "PlanMemoModel" "PlanMemoModel" "what" "[I") ∈ lw_all := lw_g (lw_at lw_m12 214 rfl) rfl
theorem q2955 : (Jvm.Cond.soleField "PlanMemoModel" "what") ∈ lw_all := lw_g (lw_at lw_m12 215 rfl) rfl
theorem q2956 : (Jvm.Cond.laysFinal "PlanMemoModel" "PlanMemoModel" "demanded" "[Z") ∈ lw_all := lw_g (lw_at lw_m12 216 rfl) rfl
theorem q2957 : (Jvm.Cond.soleField "PlanMemoModel" "demanded") ∈ lw_all := lw_g (lw_at lw_m12 217 rfl) rfl
theorem q2958 : (Jvm.Cond.laysFinal "PlanMemoModel" "PlanMemoModel" "trees" "[J") ∈ lw_all := lw_g (lw_at lw_m12 218 rfl) rfl
theorem q2959 : (Jvm.Cond.soleField "PlanMemoModel" "trees") ∈ lw_all := lw_g (lw_at lw_m12 219 rfl) rfl
theorem q2960 : (Jvm.Cond.laysFinal "PlanMemoModel" "PlanMemoModel" "higher" "[J") ∈ lw_all := lw_g (lw_at lw_m12 220 rfl) rfl
theorem q2961 : (Jvm.Cond.soleField "PlanMemoModel" "higher") ∈ lw_all := lw_g (lw_at lw_m12 221 rfl) rfl
theorem q2962 : (Jvm.Cond.superclass "PlanMemoModel" "java/lang/Object") ∈ lw_all := lw_g (lw_at lw_m12 222 rfl) rfl
theorem q2964 : (Jvm.Cond.instanceMethod ({ cls := "PlanMemoModel", name := "row", desc := "(III)I" } : Jvm.MethodName)) ∈ lw_all := lw_g (lw_at lw_m12 224 rfl) rfl
theorem q2965 : (Jvm.Cond.selects "PlanMemoModel" ({ cls := "PlanMemoModel", name := "row", desc := "(III)I" } : Jvm.MethodName) ({ cls := "PlanMemoModel", name := "row", desc := "(III)I" } : Jvm.MethodName)) ∈ lw_all := lw_g (lw_at lw_m12 225 rfl) rfl
theorem q2966 : (Jvm.Cond.code ({ cls := "PlanMemoModel", name := "row", desc := "(III)I" } : Jvm.MethodName) prog_53_method_8_code (5 : Nat) (Option.some Jvm.ClassFile.FieldType.int)) ∈ lw_all := lw_g (lw_at lw_m12 226 rfl) rfl
theorem q2967 : (Jvm.Cond.methodLink "PlanMemoModel" (202 : Nat) ({ cls := "PlanMemoModel", name := "isShelf", desc := "(I)Z" } : Jvm.MethodName)) ∈ lw_all := lw_g (lw_at lw_m12 227 rfl) rfl
theorem q2968 : (Jvm.Cond.privateMethod ({ cls := "PlanMemoModel", name := "isShelf", desc := "(I)Z" } : Jvm.MethodName)) ∈ lw_tbl := lw_at lw_m12 228 rfl
theorem q2969 : (Jvm.Cond.instanceMethod ({ cls := "PlanMemoModel", name := "isShelf", desc := "(I)Z" } : Jvm.MethodName)) ∈ lw_all := lw_g (lw_at lw_m12 229 rfl) rfl
theorem q2970 : (Jvm.Cond.code ({ cls := "PlanMemoModel", name := "isShelf", desc := "(I)Z" } : Jvm.MethodName) prog_53_method_4_code (2 : Nat) (Option.some Jvm.ClassFile.FieldType.boolean)) ∈ lw_all := lw_g (lw_at lw_m12 230 rfl) rfl
theorem q2971 : (Jvm.Cond.methodLink "PlanMemoModel" (206 : Nat) ({ cls := "PlanMemoModel", name := "no", desc := "(I)I" } : Jvm.MethodName)) ∈ lw_all := lw_g (lw_at lw_m12 231 rfl) rfl
theorem q2972 : (Jvm.Cond.privateMethod ({ cls := "PlanMemoModel", name := "no", desc := "(I)I" } : Jvm.MethodName)) ∈ lw_tbl := lw_at lw_m12 232 rfl
theorem q2973 : (Jvm.Cond.instanceMethod ({ cls := "PlanMemoModel", name := "no", desc := "(I)I" } : Jvm.MethodName)) ∈ lw_all := lw_g (lw_at lw_m12 233 rfl) rfl
theorem q2974 : (Jvm.Cond.code ({ cls := "PlanMemoModel", name := "no", desc := "(I)I" } : Jvm.MethodName) prog_53_method_2_code (2 : Nat) (Option.some Jvm.ClassFile.FieldType.int)) ∈ lw_all := lw_g (lw_at lw_m12 234 rfl) rfl
theorem q2976 : (Jvm.Cond.instanceMethod ({ cls := "PlanMemoModel", name := "set", desc := "(IIJ)I" } : Jvm.MethodName)) ∈ lw_all := lw_g (lw_at lw_m12 236 rfl) rfl
theorem q2977 : (Jvm.Cond.selects "PlanMemoModel" ({ cls := "PlanMemoModel", name := "set", desc := "(IIJ)I" } : Jvm.MethodName) ({ cls := "PlanMemoModel", name := "set", desc := "(IIJ)I" } : Jvm.MethodName)) ∈ lw_all := lw_g (lw_at lw_m12 237 rfl) rfl
theorem q2978 : (Jvm.Cond.code ({ cls := "PlanMemoModel", name := "set", desc := "(IIJ)I" } : Jvm.MethodName) prog_53_method_10_code (5 : Nat) (Option.some Jvm.ClassFile.FieldType.int)) ∈ lw_all := lw_g (lw_at lw_m12 238 rfl) rfl
theorem q2979 : (Jvm.Cond.methodLink "PlanMemoModel" (210 : Nat) ({ cls := "PlanMemoModel", name := "puts", desc := "(IIJ)V" } : Jvm.MethodName)) ∈ lw_all := lw_g (lw_at lw_m12 239 rfl) rfl
theorem q2980 : (Jvm.Cond.privateMethod ({ cls := "PlanMemoModel", name := "puts", desc := "(IIJ)V" } : Jvm.MethodName)) ∈ lw_tbl := lw_at lw_m13 0 rfl
theorem q2981 : (Jvm.Cond.instanceMethod ({ cls := "PlanMemoModel", name := "puts", desc := "(IIJ)V" } : Jvm.MethodName)) ∈ lw_all := lw_g (lw_at lw_m13 1 rfl) rfl
theorem q2982 : (Jvm.Cond.code ({ cls := "PlanMemoModel", name := "puts", desc := "(IIJ)V" } : Jvm.MethodName) prog_53_method_9_code (5 : Nat) (Option.none : Option Jvm.ClassFile.FieldType)) ∈ lw_all := lw_g (lw_at lw_m13 2 rfl) rfl
theorem q2984 : (Jvm.Cond.instanceMethod ({ cls := "PlanMemoModel", name := "copy", desc := "(IIIII)I" } : Jvm.MethodName)) ∈ lw_all := lw_g (lw_at lw_m13 4 rfl) rfl
theorem q2985 : (Jvm.Cond.selects "PlanMemoModel" ({ cls := "PlanMemoModel", name := "copy", desc := "(IIIII)I" } : Jvm.MethodName) ({ cls := "PlanMemoModel", name := "copy", desc := "(IIIII)I" } : Jvm.MethodName)) ∈ lw_all := lw_g (lw_at lw_m13 5 rfl) rfl
theorem q2986 : (Jvm.Cond.code ({ cls := "PlanMemoModel", name := "copy", desc := "(IIIII)I" } : Jvm.MethodName) prog_53_method_11_code (7 : Nat) (Option.some Jvm.ClassFile.FieldType.int)) ∈ lw_all := lw_g (lw_at lw_m13 6 rfl) rfl
theorem q2988 : (Jvm.Cond.instanceMethod ({ cls := "PlanMemoModel", name := "element", desc := "(II)J" } : Jvm.MethodName)) ∈ lw_all := lw_g (lw_at lw_m13 8 rfl) rfl
theorem q2989 : (Jvm.Cond.selects "PlanMemoModel" ({ cls := "PlanMemoModel", name := "element", desc := "(II)J" } : Jvm.MethodName) ({ cls := "PlanMemoModel", name := "element", desc := "(II)J" } : Jvm.MethodName)) ∈ lw_all := lw_g (lw_at lw_m13 9 rfl) rfl
theorem q2990 : (Jvm.Cond.code ({ cls := "PlanMemoModel", name := "element", desc := "(II)J" } : Jvm.MethodName) prog_53_method_12_code (3 : Nat) (Option.some Jvm.ClassFile.FieldType.long)) ∈ lw_all := lw_g (lw_at lw_m13 10 rfl) rfl
theorem q2992 : (Jvm.Cond.instanceMethod ({ cls := "PlanMemoModel", name := "show", desc := "(II)I" } : Jvm.MethodName)) ∈ lw_all := lw_g (lw_at lw_m13 12 rfl) rfl
theorem q2993 : (Jvm.Cond.selects "PlanMemoModel" ({ cls := "PlanMemoModel", name := "show", desc := "(II)I" } : Jvm.MethodName) ({ cls := "PlanMemoModel", name := "show", desc := "(II)I" } : Jvm.MethodName)) ∈ lw_all := lw_g (lw_at lw_m13 13 rfl) rfl
theorem q2994 : (Jvm.Cond.code ({ cls := "PlanMemoModel", name := "show", desc := "(II)I" } : Jvm.MethodName) prog_53_method_13_code (3 : Nat) (Option.some Jvm.ClassFile.FieldType.int)) ∈ lw_all := lw_g (lw_at lw_m13 14 rfl) rfl
theorem q2995 : (Jvm.Cond.methodLink "PlanMemoModel" (214 : Nat) ({ cls := "PlanMemoModel", name := "isExpression", desc := "(I)Z" } : Jvm.MethodName)) ∈ lw_all := lw_g (lw_at lw_m13 15 rfl) rfl
theorem q2996 : (Jvm.Cond.privateMethod ({ cls := "PlanMemoModel", name := "isExpression", desc := "(I)Z" } : Jvm.MethodName)) ∈ lw_tbl := lw_at lw_m13 16 rfl
theorem q2997 : (Jvm.Cond.instanceMethod ({ cls := "PlanMemoModel", name := "isExpression", desc := "(I)Z" } : Jvm.MethodName)) ∈ lw_all := lw_g (lw_at lw_m13 17 rfl) rfl
theorem q2998 : (Jvm.Cond.code ({ cls := "PlanMemoModel", name := "isExpression", desc := "(I)Z" } : Jvm.MethodName) prog_53_method_6_code (2 : Nat) (Option.some Jvm.ClassFile.FieldType.boolean)) ∈ lw_all := lw_g (lw_at lw_m13 18 rfl) rfl
theorem q3000 : (Jvm.Cond.instanceMethod ({ cls := "PlanMemoModel", name := "holds", desc := "(I)I" } : Jvm.MethodName)) ∈ lw_all := lw_g (lw_at lw_m13 20 rfl) rfl
theorem q3001 : (Jvm.Cond.selects "PlanMemoModel" ({ cls := "PlanMemoModel", name := "holds", desc := "(I)I" } : Jvm.MethodName) ({ cls := "PlanMemoModel", name := "holds", desc := "(I)I" } : Jvm.MethodName)) ∈ lw_all := lw_g (lw_at lw_m13 21 rfl) rfl
theorem q3002 : (Jvm.Cond.code ({ cls := "PlanMemoModel", name := "holds", desc := "(I)I" } : Jvm.MethodName) prog_53_method_14_code (2 : Nat) (Option.some Jvm.ClassFile.FieldType.int)) ∈ lw_all := lw_g (lw_at lw_m13 22 rfl) rfl
theorem q3004 : (Jvm.Cond.instanceMethod ({ cls := "PlanMemoModel", name := "says", desc := "(II)I" } : Jvm.MethodName)) ∈ lw_all := lw_g (lw_at lw_m13 24 rfl) rfl
theorem q3005 : (Jvm.Cond.selects "PlanMemoModel" ({ cls := "PlanMemoModel", name := "says", desc := "(II)I" } : Jvm.MethodName) ({ cls := "PlanMemoModel", name := "says", desc := "(II)I" } : Jvm.MethodName)) ∈ lw_all := lw_g (lw_at lw_m13 25 rfl) rfl
theorem q3006 : (Jvm.Cond.code ({ cls := "PlanMemoModel", name := "says", desc := "(II)I" } : Jvm.MethodName) prog_53_method_16_code (4 : Nat) (Option.some Jvm.ClassFile.FieldType.int)) ∈ lw_all := lw_g (lw_at lw_m13 26 rfl) rfl
theorem q3007 : (Jvm.Cond.methodLink "PlanMemoModel" (217 : Nat) ({ cls := "PlanMemoModel", name := "isFrom", desc := "(III)Z" } : Jvm.MethodName)) ∈ lw_all := lw_g (lw_at lw_m13 27 rfl) rfl
theorem q3008 : (Jvm.Cond.privateMethod ({ cls := "PlanMemoModel", name := "isFrom", desc := "(III)Z" } : Jvm.MethodName)) ∈ lw_tbl := lw_at lw_m13 28 rfl
theorem q3009 : (Jvm.Cond.instanceMethod ({ cls := "PlanMemoModel", name := "isFrom", desc := "(III)Z" } : Jvm.MethodName)) ∈ lw_all := lw_g (lw_at lw_m13 29 rfl) rfl
theorem q3010 : (Jvm.Cond.code ({ cls := "PlanMemoModel", name := "isFrom", desc := "(III)Z" } : Jvm.MethodName) prog_53_method_7_code (4 : Nat) (Option.some Jvm.ClassFile.FieldType.boolean)) ∈ lw_all := lw_g (lw_at lw_m13 30 rfl) rfl
theorem q3011 : (Jvm.Cond.methodLink "PlanMemoModel" (221 : Nat) ({ cls := "PlanMemoModel", name := "isOf", desc := "(II)Z" } : Jvm.MethodName)) ∈ lw_all := lw_g (lw_at lw_m13 31 rfl) rfl
theorem q3012 : (Jvm.Cond.privateMethod ({ cls := "PlanMemoModel", name := "isOf", desc := "(II)Z" } : Jvm.MethodName)) ∈ lw_tbl := lw_at lw_m13 32 rfl
theorem q3013 : (Jvm.Cond.instanceMethod ({ cls := "PlanMemoModel", name := "isOf", desc := "(II)Z" } : Jvm.MethodName)) ∈ lw_all := lw_g (lw_at lw_m13 33 rfl) rfl
theorem q3014 : (Jvm.Cond.code ({ cls := "PlanMemoModel", name := "isOf", desc := "(II)Z" } : Jvm.MethodName) prog_53_method_15_code (3 : Nat) (Option.some Jvm.ClassFile.FieldType.boolean)) ∈ lw_all := lw_g (lw_at lw_m13 34 rfl) rfl
theorem q3015 : (Jvm.Cond.methodLink "PlanMemoModel" (225 : Nat) ({ cls := "PlanMemoModel", name := "root", desc := "(I)I" } : Jvm.MethodName)) ∈ lw_all := lw_g (lw_at lw_m13 35 rfl) rfl
theorem q3016 : (Jvm.Cond.privateMethod ({ cls := "PlanMemoModel", name := "root", desc := "(I)I" } : Jvm.MethodName)) ∈ lw_tbl := lw_at lw_m13 36 rfl
theorem q3017 : (Jvm.Cond.instanceMethod ({ cls := "PlanMemoModel", name := "root", desc := "(I)I" } : Jvm.MethodName)) ∈ lw_all := lw_g (lw_at lw_m13 37 rfl) rfl
theorem q3018 : (Jvm.Cond.code ({ cls := "PlanMemoModel", name := "root", desc := "(I)I" } : Jvm.MethodName) prog_53_method_21_code (3 : Nat) (Option.some Jvm.ClassFile.FieldType.int)) ∈ lw_all := lw_g (lw_at lw_m13 38 rfl) rfl
theorem q3020 : (Jvm.Cond.instanceMethod ({ cls := "PlanMemoModel", name := "table", desc := "(IIII)I" } : Jvm.MethodName)) ∈ lw_all := lw_g (lw_at lw_m13 40 rfl) rfl
theorem q3021 : (Jvm.Cond.selects "PlanMemoModel" ({ cls := "PlanMemoModel", name := "table", desc := "(IIII)I" } : Jvm.MethodName) ({ cls := "PlanMemoModel", name := "table", desc := "(IIII)I" } : Jvm.MethodName)) ∈ lw_all := lw_g (lw_at lw_m13 41 rfl) rfl
theorem q3022 : (Jvm.Cond.code ({ cls := "PlanMemoModel", name := "table", desc := "(IIII)I" } : Jvm.MethodName) prog_53_method_17_code (5 : Nat) (Option.some Jvm.ClassFile.FieldType.int)) ∈ lw_all := lw_g (lw_at lw_m13 42 rfl) rfl
theorem q3023 : (Jvm.Cond.constant "PlanMemoModel" (228 : Nat) (1000000 : Int32)) ∈ lw_all := lw_g (lw_at lw_m13 43 rfl) rfl
theorem q3024 : (Jvm.Cond.methodLink "PlanMemoModel" (229 : Nat) ({ cls := "PlanMemoModel", name := "isColumn", desc := "(II)Z" } : Jvm.MethodName)) ∈ lw_all := lw_g (lw_at lw_m13 44 rfl) rfl
theorem q3025 : (Jvm.Cond.privateMethod ({ cls := "PlanMemoModel", name := "isColumn", desc := "(II)Z" } : Jvm.MethodName)) ∈ lw_tbl := lw_at lw_m13 45 rfl
theorem q3026 : (Jvm.Cond.instanceMethod ({ cls := "PlanMemoModel", name := "isColumn", desc := "(II)Z" } : Jvm.MethodName)) ∈ lw_all := lw_g (lw_at lw_m13 46 rfl) rfl
theorem q3027 : (Jvm.Cond.code ({ cls := "PlanMemoModel", name := "isColumn", desc := "(II)Z" } : Jvm.MethodName) prog_53_method_18_code (3 : Nat) (Option.some Jvm.ClassFile.FieldType.boolean)) ∈ lw_all := lw_g (lw_at lw_m13 47 rfl) rfl
theorem q3029 : (Jvm.Cond.instanceMethod ({ cls := "PlanMemoModel", name := "tableOf", desc := "(II)I" } : Jvm.MethodName)) ∈ lw_all := lw_g (lw_at lw_m13 49 rfl) rfl
theorem q3030 : (Jvm.Cond.selects "PlanMemoModel" ({ cls := "PlanMemoModel", name := "tableOf", desc := "(II)I" } : Jvm.MethodName) ({ cls := "PlanMemoModel", name := "tableOf", desc := "(II)I" } : Jvm.MethodName)) ∈ lw_all := lw_g (lw_at lw_m13 50 rfl) rfl
theorem q3031 : (Jvm.Cond.code ({ cls := "PlanMemoModel", name := "tableOf", desc := "(II)I" } : Jvm.MethodName) prog_53_method_19_code (3 : Nat) (Option.some Jvm.ClassFile.FieldType.int)) ∈ lw_all := lw_g (lw_at lw_m13 51 rfl) rfl
theorem q3033 : (Jvm.Cond.instanceMethod ({ cls := "PlanMemoModel", name := "distinct", desc := "(II)I" } : Jvm.MethodName)) ∈ lw_all := lw_g (lw_at lw_m13 53 rfl) rfl
theorem q3034 : (Jvm.Cond.selects "PlanMemoModel" ({ cls := "PlanMemoModel", name := "distinct", desc := "(II)I" } : Jvm.MethodName) ({ cls := "PlanMemoModel", name := "distinct", desc := "(II)I" } : Jvm.MethodName)) ∈ lw_all := lw_g (lw_at lw_m13 54 rfl) rfl
theorem q3035 : (Jvm.Cond.code ({ cls := "PlanMemoModel", name := "distinct", desc := "(II)I" } : Jvm.MethodName) prog_53_method_20_code (4 : Nat) (Option.some Jvm.ClassFile.FieldType.int)) ∈ lw_all := lw_g (lw_at lw_m13 55 rfl) rfl
theorem q3037 : (Jvm.Cond.instanceMethod ({ cls := "PlanMemoModel", name := "scan", desc := "(I)I" } : Jvm.MethodName)) ∈ lw_all := lw_g (lw_at lw_m13 57 rfl) rfl
theorem q3038 : (Jvm.Cond.selects "PlanMemoModel" ({ cls := "PlanMemoModel", name := "scan", desc := "(I)I" } : Jvm.MethodName) ({ cls := "PlanMemoModel", name := "scan", desc := "(I)I" } : Jvm.MethodName)) ∈ lw_all := lw_g (lw_at lw_m13 58 rfl) rfl
theorem q3039 : (Jvm.Cond.code ({ cls := "PlanMemoModel", name := "scan", desc := "(I)I" } : Jvm.MethodName) prog_53_method_29_code (2 : Nat) (Option.some Jvm.ClassFile.FieldType.int)) ∈ lw_all := lw_g (lw_at lw_m13 59 rfl) rfl
theorem q3040 : (Jvm.Cond.methodLink "PlanMemoModel" (265 : Nat) ({ cls := "PlanMemoModel", name := "tellOf", desc := "(IIII)I" } : Jvm.MethodName)) ∈ lw_all := lw_g (lw_at lw_m13 60 rfl) rfl
theorem q3041 : (Jvm.Cond.privateMethod ({ cls := "PlanMemoModel", name := "tellOf", desc := "(IIII)I" } : Jvm.MethodName)) ∈ lw_tbl := lw_at lw_m13 61 rfl
theorem q3042 : (Jvm.Cond.instanceMethod ({ cls := "PlanMemoModel", name := "tellOf", desc := "(IIII)I" } : Jvm.MethodName)) ∈ lw_all := lw_g (lw_at lw_m13 62 rfl) rfl
theorem q3043 : (Jvm.Cond.code ({ cls := "PlanMemoModel", name := "tellOf", desc := "(IIII)I" } : Jvm.MethodName) prog_53_method_28_code (5 : Nat) (Option.some Jvm.ClassFile.FieldType.int)) ∈ lw_all := lw_g (lw_at lw_m13 63 rfl) rfl
theorem q3044 : (Jvm.Cond.methodLink "PlanMemoModel" (251 : Nat) ({ cls := "PlanMemoModel", name := "alike", desc := "(IIII)I" } : Jvm.MethodName)) ∈ lw_all := lw_g (lw_at lw_m13 64 rfl) rfl
theorem q3045 : (Jvm.Cond.privateMethod ({ cls := "PlanMemoModel", name := "alike", desc := "(IIII)I" } : Jvm.MethodName)) ∈ lw_tbl := lw_at lw_m13 65 rfl
theorem q3046 : (Jvm.Cond.instanceMethod ({ cls := "PlanMemoModel", name := "alike", desc := "(IIII)I" } : Jvm.MethodName)) ∈ lw_all := lw_g (lw_at lw_m13 66 rfl) rfl
theorem q3047 : (Jvm.Cond.code ({ cls := "PlanMemoModel", name := "alike", desc := "(IIII)I" } : Jvm.MethodName) prog_53_method_23_code (6 : Nat) (Option.some Jvm.ClassFile.FieldType.int)) ∈ lw_all := lw_g (lw_at lw_m13 67 rfl) rfl
theorem q3048 : (Jvm.Cond.methodLink "PlanMemoModel" (262 : Nat) ({ cls := "PlanMemoModel", name := "told", desc := "(IIII)I" } : Jvm.MethodName)) ∈ lw_all := lw_g (lw_at lw_m13 68 rfl) rfl
theorem q3049 : (Jvm.Cond.privateMethod ({ cls := "PlanMemoModel", name := "told", desc := "(IIII)I" } : Jvm.MethodName)) ∈ lw_tbl := lw_at lw_m13 69 rfl
theorem q3050 : (Jvm.Cond.instanceMethod ({ cls := "PlanMemoModel", name := "told", desc := "(IIII)I" } : Jvm.MethodName)) ∈ lw_all := lw_g (lw_at lw_m13 70 rfl) rfl
theorem q3051 : (Jvm.Cond.code ({ cls := "PlanMemoModel", name := "told", desc := "(IIII)I" } : Jvm.MethodName) prog_53_method_25_code (6 : Nat) (Option.some Jvm.ClassFile.FieldType.int)) ∈ lw_all := lw_g (lw_at lw_m13 71 rfl) rfl
theorem q3052 : (Jvm.Cond.methodLink "PlanMemoModel" (255 : Nat) ({ cls := "PlanMemoModel", name := "adds", desc := "(IIIII)I" } : Jvm.MethodName)) ∈ lw_all := lw_g (lw_at lw_m13 72 rfl) rfl
theorem q3053 : (Jvm.Cond.privateMethod ({ cls := "PlanMemoModel", name := "adds", desc := "(IIIII)I" } : Jvm.MethodName)) ∈ lw_tbl := lw_at lw_m13 73 rfl
theorem q3054 : (Jvm.Cond.instanceMethod ({ cls := "PlanMemoModel", name := "adds", desc := "(IIIII)I" } : Jvm.MethodName)) ∈ lw_all := lw_g (lw_at lw_m13 74 rfl) rfl
theorem q3055 : (Jvm.Cond.code ({ cls := "PlanMemoModel", name := "adds", desc := "(IIIII)I" } : Jvm.MethodName) prog_53_method_24_code (6 : Nat) (Option.some Jvm.ClassFile.FieldType.int)) ∈ lw_all := lw_g (lw_at lw_m13 75 rfl) rfl
theorem q3057 : (Jvm.Cond.instanceMethod ({ cls := "PlanMemoModel", name := "keep", desc := "(II)I" } : Jvm.MethodName)) ∈ lw_all := lw_g (lw_at lw_m13 77 rfl) rfl
theorem q3058 : (Jvm.Cond.selects "PlanMemoModel" ({ cls := "PlanMemoModel", name := "keep", desc := "(II)I" } : Jvm.MethodName) ({ cls := "PlanMemoModel", name := "keep", desc := "(II)I" } : Jvm.MethodName)) ∈ lw_all := lw_g (lw_at lw_m13 78 rfl) rfl
theorem q3059 : (Jvm.Cond.code ({ cls := "PlanMemoModel", name := "keep", desc := "(II)I" } : Jvm.MethodName) prog_53_method_30_code (3 : Nat) (Option.some Jvm.ClassFile.FieldType.int)) ∈ lw_all := lw_g (lw_at lw_m13 79 rfl) rfl
theorem q3060 : (Jvm.Cond.methodLink "PlanMemoModel" (268 : Nat) ({ cls := "PlanMemoModel", name := "isGroup", desc := "(I)Z" } : Jvm.MethodName)) ∈ lw_all := lw_g (lw_at lw_m13 80 rfl) rfl
theorem q3061 : (Jvm.Cond.privateMethod ({ cls := "PlanMemoModel", name := "isGroup", desc := "(I)Z" } : Jvm.MethodName)) ∈ lw_tbl := lw_at lw_m13 81 rfl
theorem q3062 : (Jvm.Cond.instanceMethod ({ cls := "PlanMemoModel", name := "isGroup", desc := "(I)Z" } : Jvm.MethodName)) ∈ lw_all := lw_g (lw_at lw_m13 82 rfl) rfl
theorem q3063 : (Jvm.Cond.code ({ cls := "PlanMemoModel", name := "isGroup", desc := "(I)Z" } : Jvm.MethodName) prog_53_method_5_code (2 : Nat) (Option.some Jvm.ClassFile.FieldType.boolean)) ∈ lw_all := lw_g (lw_at lw_m13 83 rfl) rfl
theorem q3064 : (Jvm.Cond.methodLink "PlanMemoModel" (271 : Nat) ({ cls := "PlanMemoModel", name := "may", desc := "(IIII)Z" } : Jvm.MethodName)) ∈ lw_all := lw_g (lw_at lw_m13 84 rfl) rfl
theorem q3065 : (Jvm.Cond.privateMethod ({ cls := "PlanMemoModel", name := "may", desc := "(IIII)Z" } : Jvm.MethodName)) ∈ lw_tbl := lw_at lw_m13 85 rfl
theorem q3066 : (Jvm.Cond.instanceMethod ({ cls := "PlanMemoModel", name := "may", desc := "(IIII)Z" } : Jvm.MethodName)) ∈ lw_all := lw_g (lw_at lw_m13 86 rfl) rfl
theorem q3067 : (Jvm.Cond.code ({ cls := "PlanMemoModel", name := "may", desc := "(IIII)Z" } : Jvm.MethodName) prog_53_method_27_code (6 : Nat) (Option.some Jvm.ClassFile.FieldType.boolean)) ∈ lw_all := lw_g (lw_at lw_m13 87 rfl) rfl
theorem q3068 : (Jvm.Cond.methodLink "PlanMemoModel" (259 : Nat) ({ cls := "PlanMemoModel", name := "tells", desc := "()V" } : Jvm.MethodName)) ∈ lw_all := lw_g (lw_at lw_m13 88 rfl) rfl
theorem q3069 : (Jvm.Cond.privateMethod ({ cls := "PlanMemoModel", name := "tells", desc := "()V" } : Jvm.MethodName)) ∈ lw_tbl := lw_at lw_m13 89 rfl
theorem q3070 : (Jvm.Cond.instanceMethod ({ cls := "PlanMemoModel", name := "tells", desc := "()V" } : Jvm.MethodName)) ∈ lw_all := lw_g (lw_at lw_m13 90 rfl) rfl
theorem q3071 : (Jvm.Cond.code ({ cls := "PlanMemoModel", name := "tells", desc := "()V" } : Jvm.MethodName) prog_53_method_22_code (9 : Nat) (Option.none : Option Jvm.ClassFile.FieldType)) ∈ lw_all := lw_g (lw_at lw_m13 91 rfl) rfl
theorem q3072 : (Jvm.Cond.constantLong "PlanMemoModel" (235 : Nat) (1000000 : Int64)) ∈ lw_all := lw_g (lw_at lw_m13 92 rfl) rfl
theorem q3073 : (Jvm.Cond.methodLink "PlanMemoModel" (237 : Nat) ({ cls := "java/lang/Math", name := "min", desc := "(JJ)J" } : Jvm.MethodName)) ∈ lw_all := lw_g (lw_at lw_m13 93 rfl) rfl
theorem q3074 : (Jvm.Cond.methodLink "PlanMemoModel" (243 : Nat) ({ cls := "java/lang/Math", name := "max", desc := "(JJ)J" } : Jvm.MethodName)) ∈ lw_all := lw_g (lw_at lw_m13 94 rfl) rfl
theorem q3075 : (Jvm.Cond.methodLink "PlanMemoModel" (246 : Nat) ({ cls := "java/lang/Math", name := "min", desc := "(II)I" } : Jvm.MethodName)) ∈ lw_all := lw_g (lw_at lw_m13 95 rfl) rfl
theorem q3076 : (Jvm.Cond.methodLink "PlanMemoModel" (249 : Nat) ({ cls := "java/lang/Math", name := "max", desc := "(II)I" } : Jvm.MethodName)) ∈ lw_all := lw_g (lw_at lw_m13 96 rfl) rfl
theorem q3078 : (Jvm.Cond.instanceMethod ({ cls := "PlanMemoModel", name := "tally", desc := "(II)I" } : Jvm.MethodName)) ∈ lw_all := lw_g (lw_at lw_m13 98 rfl) rfl
theorem q3079 : (Jvm.Cond.selects "PlanMemoModel" ({ cls := "PlanMemoModel", name := "tally", desc := "(II)I" } : Jvm.MethodName) ({ cls := "PlanMemoModel", name := "tally", desc := "(II)I" } : Jvm.MethodName)) ∈ lw_all := lw_g (lw_at lw_m13 99 rfl) rfl
theorem q3080 : (Jvm.Cond.code ({ cls := "PlanMemoModel", name := "tally", desc := "(II)I" } : Jvm.MethodName) prog_53_method_31_code (3 : Nat) (Option.some Jvm.ClassFile.FieldType.int)) ∈ lw_all := lw_g (lw_at lw_m13 100 rfl) rfl
theorem q3082 : (Jvm.Cond.instanceMethod ({ cls := "PlanMemoModel", name := "join", desc := "(III)I" } : Jvm.MethodName)) ∈ lw_all := lw_g (lw_at lw_m13 102 rfl) rfl
theorem q3083 : (Jvm.Cond.selects "PlanMemoModel" ({ cls := "PlanMemoModel", name := "join", desc := "(III)I" } : Jvm.MethodName) ({ cls := "PlanMemoModel", name := "join", desc := "(III)I" } : Jvm.MethodName)) ∈ lw_all := lw_g (lw_at lw_m13 103 rfl) rfl
theorem q3084 : (Jvm.Cond.code ({ cls := "PlanMemoModel", name := "join", desc := "(III)I" } : Jvm.MethodName) prog_53_method_33_code (4 : Nat) (Option.some Jvm.ClassFile.FieldType.int)) ∈ lw_all := lw_g (lw_at lw_m13 104 rfl) rfl
theorem q3085 : (Jvm.Cond.methodLink "PlanMemoModel" (275 : Nat) ({ cls := "PlanMemoModel", name := "two", desc := "(IIII)I" } : Jvm.MethodName)) ∈ lw_all := lw_g (lw_at lw_m13 105 rfl) rfl
theorem q3086 : (Jvm.Cond.privateMethod ({ cls := "PlanMemoModel", name := "two", desc := "(IIII)I" } : Jvm.MethodName)) ∈ lw_tbl := lw_at lw_m13 106 rfl
theorem q3087 : (Jvm.Cond.instanceMethod ({ cls := "PlanMemoModel", name := "two", desc := "(IIII)I" } : Jvm.MethodName)) ∈ lw_all := lw_g (lw_at lw_m13 107 rfl) rfl
theorem q3088 : (Jvm.Cond.code ({ cls := "PlanMemoModel", name := "two", desc := "(IIII)I" } : Jvm.MethodName) prog_53_method_32_code (5 : Nat) (Option.some Jvm.ClassFile.FieldType.int)) ∈ lw_all := lw_g (lw_at lw_m13 108 rfl) rfl
theorem q3090 : (Jvm.Cond.instanceMethod ({ cls := "PlanMemoModel", name := "half", desc := "(III)I" } : Jvm.MethodName)) ∈ lw_all := lw_g (lw_at lw_m13 110 rfl) rfl
theorem q3091 : (Jvm.Cond.selects "PlanMemoModel" ({ cls := "PlanMemoModel", name := "half", desc := "(III)I" } : Jvm.MethodName) ({ cls := "PlanMemoModel", name := "half", desc := "(III)I" } : Jvm.MethodName)) ∈ lw_all := lw_g (lw_at lw_m13 111 rfl) rfl
theorem q3092 : (Jvm.Cond.code ({ cls := "PlanMemoModel", name := "half", desc := "(III)I" } : Jvm.MethodName) prog_53_method_34_code (4 : Nat) (Option.some Jvm.ClassFile.FieldType.int)) ∈ lw_all := lw_g (lw_at lw_m13 112 rfl) rfl
theorem q3094 : (Jvm.Cond.instanceMethod ({ cls := "PlanMemoModel", name := "read", desc := "(I)I" } : Jvm.MethodName)) ∈ lw_all := lw_g (lw_at lw_m13 114 rfl) rfl
theorem q3095 : (Jvm.Cond.selects "PlanMemoModel" ({ cls := "PlanMemoModel", name := "read", desc := "(I)I" } : Jvm.MethodName) ({ cls := "PlanMemoModel", name := "read", desc := "(I)I" } : Jvm.MethodName)) ∈ lw_all := lw_g (lw_at lw_m13 115 rfl) rfl
theorem q3096 : (Jvm.Cond.code ({ cls := "PlanMemoModel", name := "read", desc := "(I)I" } : Jvm.MethodName) prog_53_method_39_code (5 : Nat) (Option.some Jvm.ClassFile.FieldType.int)) ∈ lw_all := lw_g (lw_at lw_m13 116 rfl) rfl
theorem q3097 : (Jvm.Cond.methodLink "PlanMemoModel" (313 : Nat) ({ cls := "PlanMemoModel", name := "reads", desc := "()I" } : Jvm.MethodName)) ∈ lw_all := lw_g (lw_at lw_m13 117 rfl) rfl
theorem q3098 : (Jvm.Cond.privateMethod ({ cls := "PlanMemoModel", name := "reads", desc := "()I" } : Jvm.MethodName)) ∈ lw_tbl := lw_at lw_m13 118 rfl
theorem q3099 : (Jvm.Cond.instanceMethod ({ cls := "PlanMemoModel", name := "reads", desc := "()I" } : Jvm.MethodName)) ∈ lw_all := lw_g (lw_at lw_m13 119 rfl) rfl
theorem q3100 : (Jvm.Cond.code ({ cls := "PlanMemoModel", name := "reads", desc := "()I" } : Jvm.MethodName) prog_53_method_38_code (7 : Nat) (Option.some Jvm.ClassFile.FieldType.int)) ∈ lw_all := lw_g (lw_at lw_m13 120 rfl) rfl
theorem q3101 : (Jvm.Cond.stringRef "PlanMemoModel" (297 : Nat) "scan ") ∈ lw_tbl := lw_at lw_m13 121 rfl
theorem q3102 : (Jvm.Cond.stringRef "PlanMemoModel" (299 : Nat) "keep ") ∈ lw_tbl := lw_at lw_m13 122 rfl
theorem q3103 : (Jvm.Cond.stringRef "PlanMemoModel" (301 : Nat) "tally ") ∈ lw_tbl := lw_at lw_m13 123 rfl
theorem q3104 : (Jvm.Cond.stringRef "PlanMemoModel" (303 : Nat) "join ") ∈ lw_tbl := lw_at lw_m13 124 rfl
theorem q3105 : (Jvm.Cond.stringRef "PlanMemoModel" (305 : Nat) "half ") ∈ lw_tbl := lw_at lw_m13 125 rfl
theorem q3106 : (Jvm.Cond.methodLink "PlanMemoModel" (307 : Nat) ({ cls := "PlanMemoModel", name := "goes", desc := "(Ljava/lang/String;)Z" } : Jvm.MethodName)) ∈ lw_all := lw_g (lw_at lw_m13 126 rfl) rfl
theorem q3107 : (Jvm.Cond.privateMethod ({ cls := "PlanMemoModel", name := "goes", desc := "(Ljava/lang/String;)Z" } : Jvm.MethodName)) ∈ lw_tbl := lw_at lw_m13 127 rfl
theorem q3108 : (Jvm.Cond.instanceMethod ({ cls := "PlanMemoModel", name := "goes", desc := "(Ljava/lang/String;)Z" } : Jvm.MethodName)) ∈ lw_all := lw_g (lw_at lw_m13 128 rfl) rfl
theorem q3109 : (Jvm.Cond.code ({ cls := "PlanMemoModel", name := "goes", desc := "(Ljava/lang/String;)Z" } : Jvm.MethodName) prog_53_method_36_code (3 : Nat) (Option.some Jvm.ClassFile.FieldType.boolean)) ∈ lw_all := lw_g (lw_at lw_m13 129 rfl) rfl
theorem q3110 : (Jvm.Cond.methodLink "PlanMemoModel" (284 : Nat) ({ cls := "java/lang/String", name := "length", desc := "()I" } : Jvm.MethodName)) ∈ lw_all := lw_g (lw_at lw_m13 130 rfl) rfl
theorem q3111 : (Jvm.Cond.methodLink "PlanMemoModel" (290 : Nat) ({ cls := "java/lang/String", name := "charAt", desc := "(I)C" } : Jvm.MethodName)) ∈ lw_all := lw_g (lw_at lw_m13 131 rfl) rfl
theorem q3112 : (Jvm.Cond.methodLink "PlanMemoModel" (294 : Nat) ({ cls := "PlanMemoModel", name := "goes", desc := "(I)Z" } : Jvm.MethodName)) ∈ lw_all := lw_g (lw_at lw_m13 132 rfl) rfl
theorem q3113 : (Jvm.Cond.privateMethod ({ cls := "PlanMemoModel", name := "goes", desc := "(I)Z" } : Jvm.MethodName)) ∈ lw_tbl := lw_at lw_m13 133 rfl
theorem q3114 : (Jvm.Cond.instanceMethod ({ cls := "PlanMemoModel", name := "goes", desc := "(I)Z" } : Jvm.MethodName)) ∈ lw_all := lw_g (lw_at lw_m13 134 rfl) rfl
theorem q3115 : (Jvm.Cond.code ({ cls := "PlanMemoModel", name := "goes", desc := "(I)Z" } : Jvm.MethodName) prog_53_method_35_code (2 : Nat) (Option.some Jvm.ClassFile.FieldType.boolean)) ∈ lw_all := lw_g (lw_at lw_m13 135 rfl) rfl
theorem q3116 : (Jvm.Cond.methodLink "PlanMemoModel" (310 : Nat) ({ cls := "PlanMemoModel", name := "digit", desc := "(I)I" } : Jvm.MethodName)) ∈ lw_all := lw_g (lw_at lw_m13 136 rfl) rfl
theorem q3117 : (Jvm.Cond.privateMethod ({ cls := "PlanMemoModel", name := "digit", desc := "(I)I" } : Jvm.MethodName)) ∈ lw_tbl := lw_at lw_m13 137 rfl
theorem q3118 : (Jvm.Cond.instanceMethod ({ cls := "PlanMemoModel", name := "digit", desc := "(I)I" } : Jvm.MethodName)) ∈ lw_all := lw_g (lw_at lw_m13 138 rfl) rfl
theorem q3119 : (Jvm.Cond.code ({ cls := "PlanMemoModel", name := "digit", desc := "(I)I" } : Jvm.MethodName) prog_53_method_37_code (2 : Nat) (Option.some Jvm.ClassFile.FieldType.int)) ∈ lw_all := lw_g (lw_at lw_m13 139 rfl) rfl
theorem q3121 : (Jvm.Cond.instanceMethod ({ cls := "PlanMemoModel", name := "fault", desc := "()I" } : Jvm.MethodName)) ∈ lw_all := lw_g (lw_at lw_m13 141 rfl) rfl
theorem q3122 : (Jvm.Cond.selects "PlanMemoModel" ({ cls := "PlanMemoModel", name := "fault", desc := "()I" } : Jvm.MethodName) ({ cls := "PlanMemoModel", name := "fault", desc := "()I" } : Jvm.MethodName)) ∈ lw_all := lw_g (lw_at lw_m13 142 rfl) rfl
theorem q3123 : (Jvm.Cond.code ({ cls := "PlanMemoModel", name := "fault", desc := "()I" } : Jvm.MethodName) prog_53_method_40_code (1 : Nat) (Option.some Jvm.ClassFile.FieldType.int)) ∈ lw_all := lw_g (lw_at lw_m13 143 rfl) rfl
theorem q3125 : (Jvm.Cond.instanceMethod ({ cls := "PlanMemoModel", name := "same", desc := "(II)I" } : Jvm.MethodName)) ∈ lw_all := lw_g (lw_at lw_m13 145 rfl) rfl
theorem q3126 : (Jvm.Cond.selects "PlanMemoModel" ({ cls := "PlanMemoModel", name := "same", desc := "(II)I" } : Jvm.MethodName) ({ cls := "PlanMemoModel", name := "same", desc := "(II)I" } : Jvm.MethodName)) ∈ lw_all := lw_g (lw_at lw_m13 146 rfl) rfl
theorem q3127 : (Jvm.Cond.code ({ cls := "PlanMemoModel", name := "same", desc := "(II)I" } : Jvm.MethodName) prog_53_method_41_code (3 : Nat) (Option.some Jvm.ClassFile.FieldType.int)) ∈ lw_all := lw_g (lw_at lw_m13 147 rfl) rfl
theorem q3128 : (Jvm.Cond.methodLink "PlanMemoModel" (316 : Nat) ({ cls := "PlanMemoModel", name := "merges", desc := "(II)V" } : Jvm.MethodName)) ∈ lw_all := lw_g (lw_at lw_m13 148 rfl) rfl
theorem q3129 : (Jvm.Cond.privateMethod ({ cls := "PlanMemoModel", name := "merges", desc := "(II)V" } : Jvm.MethodName)) ∈ lw_tbl := lw_at lw_m13 149 rfl
theorem q3130 : (Jvm.Cond.instanceMethod ({ cls := "PlanMemoModel", name := "merges", desc := "(II)V" } : Jvm.MethodName)) ∈ lw_all := lw_g (lw_at lw_m13 150 rfl) rfl
theorem q3131 : (Jvm.Cond.code ({ cls := "PlanMemoModel", name := "merges", desc := "(II)V" } : Jvm.MethodName) prog_53_method_26_code (8 : Nat) (Option.none : Option Jvm.ClassFile.FieldType)) ∈ lw_all := lw_g (lw_at lw_m13 151 rfl) rfl
theorem q3133 : (Jvm.Cond.instanceMethod ({ cls := "PlanMemoModel", name := "groupOf", desc := "(I)I" } : Jvm.MethodName)) ∈ lw_all := lw_g (lw_at lw_m13 153 rfl) rfl
theorem q3134 : (Jvm.Cond.selects "PlanMemoModel" ({ cls := "PlanMemoModel", name := "groupOf", desc := "(I)I" } : Jvm.MethodName) ({ cls := "PlanMemoModel", name := "groupOf", desc := "(I)I" } : Jvm.MethodName)) ∈ lw_all := lw_g (lw_at lw_m13 154 rfl) rfl
theorem q3135 : (Jvm.Cond.code ({ cls := "PlanMemoModel", name := "groupOf", desc := "(I)I" } : Jvm.MethodName) prog_53_method_42_code (2 : Nat) (Option.some Jvm.ClassFile.FieldType.int)) ∈ lw_all := lw_g (lw_at lw_m13 155 rfl) rfl
theorem q3137 : (Jvm.Cond.instanceMethod ({ cls := "PlanMemoModel", name := "group", desc := "(II)I" } : Jvm.MethodName)) ∈ lw_all := lw_g (lw_at lw_m13 157 rfl) rfl
theorem q3138 : (Jvm.Cond.selects "PlanMemoModel" ({ cls := "PlanMemoModel", name := "group", desc := "(II)I" } : Jvm.MethodName) ({ cls := "PlanMemoModel", name := "group", desc := "(II)I" } : Jvm.MethodName)) ∈ lw_all := lw_g (lw_at lw_m13 158 rfl) rfl
theorem q3139 : (Jvm.Cond.code ({ cls := "PlanMemoModel", name := "group", desc := "(II)I" } : Jvm.MethodName) prog_53_method_43_code (7 : Nat) (Option.some Jvm.ClassFile.FieldType.int)) ∈ lw_all := lw_g (lw_at lw_m13 159 rfl) rfl
theorem q3141 : (Jvm.Cond.instanceMethod ({ cls := "PlanMemoModel", name := "expression", desc := "(II)I" } : Jvm.MethodName)) ∈ lw_all := lw_g (lw_at lw_m13 161 rfl) rfl
theorem q3142 : (Jvm.Cond.selects "PlanMemoModel" ({ cls := "PlanMemoModel", name := "expression", desc := "(II)I" } : Jvm.MethodName) ({ cls := "PlanMemoModel", name := "expression", desc := "(II)I" } : Jvm.MethodName)) ∈ lw_all := lw_g (lw_at lw_m13 162 rfl) rfl
theorem q3143 : (Jvm.Cond.code ({ cls := "PlanMemoModel", name := "expression", desc := "(II)I" } : Jvm.MethodName) prog_53_method_44_code (3 : Nat) (Option.some Jvm.ClassFile.FieldType.int)) ∈ lw_all := lw_g (lw_at lw_m13 163 rfl) rfl
theorem q3145 : (Jvm.Cond.instanceMethod ({ cls := "PlanMemoModel", name := "explore", desc := "(I)I" } : Jvm.MethodName)) ∈ lw_all := lw_g (lw_at lw_m13 165 rfl) rfl
theorem q3146 : (Jvm.Cond.selects "PlanMemoModel" ({ cls := "PlanMemoModel", name := "explore", desc := "(I)I" } : Jvm.MethodName) ({ cls := "PlanMemoModel", name := "explore", desc := "(I)I" } : Jvm.MethodName)) ∈ lw_all := lw_g (lw_at lw_m13 166 rfl) rfl
theorem q3147 : (Jvm.Cond.code ({ cls := "PlanMemoModel", name := "explore", desc := "(I)I" } : Jvm.MethodName) prog_53_method_52_code (3 : Nat) (Option.some Jvm.ClassFile.FieldType.int)) ∈ lw_all := lw_g (lw_at lw_m13 167 rfl) rfl
theorem q3148 : (Jvm.Cond.methodLink "PlanMemoModel" (346 : Nat) ({ cls := "PlanMemoModel", name := "finds", desc := "()Z" } : Jvm.MethodName)) ∈ lw_all := lw_g (lw_at lw_m13 168 rfl) rfl
theorem q3149 : (Jvm.Cond.privateMethod ({ cls := "PlanMemoModel", name := "finds", desc := "()Z" } : Jvm.MethodName)) ∈ lw_tbl := lw_at lw_m13 169 rfl
theorem q3150 : (Jvm.Cond.instanceMethod ({ cls := "PlanMemoModel", name := "finds", desc := "()Z" } : Jvm.MethodName)) ∈ lw_all := lw_g (lw_at lw_m13 170 rfl) rfl
theorem q3151 : (Jvm.Cond.code ({ cls := "PlanMemoModel", name := "finds", desc := "()Z" } : Jvm.MethodName) prog_53_method_46_code (4 : Nat) (Option.some Jvm.ClassFile.FieldType.boolean)) ∈ lw_all := lw_g (lw_at lw_m13 171 rfl) rfl
theorem q3152 : (Jvm.Cond.methodLink "PlanMemoModel" (329 : Nat) ({ cls := "PlanMemoModel", name := "fits", desc := "(III)Z" } : Jvm.MethodName)) ∈ lw_all := lw_g (lw_at lw_m13 172 rfl) rfl
theorem q3153 : (Jvm.Cond.privateMethod ({ cls := "PlanMemoModel", name := "fits", desc := "(III)Z" } : Jvm.MethodName)) ∈ lw_tbl := lw_at lw_m13 173 rfl
theorem q3154 : (Jvm.Cond.instanceMethod ({ cls := "PlanMemoModel", name := "fits", desc := "(III)Z" } : Jvm.MethodName)) ∈ lw_all := lw_g (lw_at lw_m13 174 rfl) rfl
theorem q3155 : (Jvm.Cond.code ({ cls := "PlanMemoModel", name := "fits", desc := "(III)Z" } : Jvm.MethodName) prog_53_method_45_code (6 : Nat) (Option.some Jvm.ClassFile.FieldType.boolean)) ∈ lw_all := lw_g (lw_at lw_m13 175 rfl) rfl
theorem q3156 : (Jvm.Cond.methodLink "PlanMemoModel" (350 : Nat) ({ cls := "PlanMemoModel", name := "news", desc := "()I" } : Jvm.MethodName)) ∈ lw_all := lw_g (lw_at lw_m13 176 rfl) rfl
theorem q3157 : (Jvm.Cond.privateMethod ({ cls := "PlanMemoModel", name := "news", desc := "()I" } : Jvm.MethodName)) ∈ lw_tbl := lw_at lw_m13 177 rfl
theorem q3158 : (Jvm.Cond.instanceMethod ({ cls := "PlanMemoModel", name := "news", desc := "()I" } : Jvm.MethodName)) ∈ lw_all := lw_g (lw_at lw_m13 178 rfl) rfl
theorem q3159 : (Jvm.Cond.code ({ cls := "PlanMemoModel", name := "news", desc := "()I" } : Jvm.MethodName) prog_53_method_50_code (2 : Nat) (Option.some Jvm.ClassFile.FieldType.int)) ∈ lw_all := lw_g (lw_at lw_m13 179 rfl) rfl
theorem q3160 : (Jvm.Cond.methodLink "PlanMemoModel" (336 : Nat) ({ cls := "PlanMemoModel", name := "bracket", desc := "()V" } : Jvm.MethodName)) ∈ lw_all := lw_g (lw_at lw_m13 180 rfl) rfl
theorem q3161 : (Jvm.Cond.privateMethod ({ cls := "PlanMemoModel", name := "bracket", desc := "()V" } : Jvm.MethodName)) ∈ lw_tbl := lw_at lw_m13 181 rfl
theorem q3162 : (Jvm.Cond.instanceMethod ({ cls := "PlanMemoModel", name := "bracket", desc := "()V" } : Jvm.MethodName)) ∈ lw_all := lw_g (lw_at lw_m13 182 rfl) rfl
theorem q3163 : (Jvm.Cond.code ({ cls := "PlanMemoModel", name := "bracket", desc := "()V" } : Jvm.MethodName) prog_53_method_48_code (3 : Nat) (Option.none : Option Jvm.ClassFile.FieldType)) ∈ lw_all := lw_g (lw_at lw_m13 183 rfl) rfl
theorem q3164 : (Jvm.Cond.methodLink "PlanMemoModel" (332 : Nat) ({ cls := "PlanMemoModel", name := "says", desc := "(IIII)V" } : Jvm.MethodName)) ∈ lw_all := lw_g (lw_at lw_m13 184 rfl) rfl
theorem q3165 : (Jvm.Cond.privateMethod ({ cls := "PlanMemoModel", name := "says", desc := "(IIII)V" } : Jvm.MethodName)) ∈ lw_tbl := lw_at lw_m13 185 rfl
theorem q3166 : (Jvm.Cond.instanceMethod ({ cls := "PlanMemoModel", name := "says", desc := "(IIII)V" } : Jvm.MethodName)) ∈ lw_all := lw_g (lw_at lw_m13 186 rfl) rfl
theorem q3167 : (Jvm.Cond.code ({ cls := "PlanMemoModel", name := "says", desc := "(IIII)V" } : Jvm.MethodName) prog_53_method_47_code (5 : Nat) (Option.none : Option Jvm.ClassFile.FieldType)) ∈ lw_all := lw_g (lw_at lw_m13 187 rfl) rfl
theorem q3168 : (Jvm.Cond.methodLink "PlanMemoModel" (339 : Nat) ({ cls := "PlanMemoModel", name := "comes", desc := "(I)V" } : Jvm.MethodName)) ∈ lw_all := lw_g (lw_at lw_m13 188 rfl) rfl
theorem q3169 : (Jvm.Cond.privateMethod ({ cls := "PlanMemoModel", name := "comes", desc := "(I)V" } : Jvm.MethodName)) ∈ lw_tbl := lw_at lw_m13 189 rfl
theorem q3170 : (Jvm.Cond.instanceMethod ({ cls := "PlanMemoModel", name := "comes", desc := "(I)V" } : Jvm.MethodName)) ∈ lw_all := lw_g (lw_at lw_m13 190 rfl) rfl
theorem q3171 : (Jvm.Cond.code ({ cls := "PlanMemoModel", name := "comes", desc := "(I)V" } : Jvm.MethodName) prog_53_method_49_code (4 : Nat) (Option.none : Option Jvm.ClassFile.FieldType)) ∈ lw_all := lw_g (lw_at lw_m13 191 rfl) rfl
theorem q3172 : (Jvm.Cond.methodLink "PlanMemoModel" (353 : Nat) ({ cls := "PlanMemoModel", name := "fires", desc := "()V" } : Jvm.MethodName)) ∈ lw_all := lw_g (lw_at lw_m13 192 rfl) rfl
theorem q3173 : (Jvm.Cond.privateMethod ({ cls := "PlanMemoModel", name := "fires", desc := "()V" } : Jvm.MethodName)) ∈ lw_tbl := lw_at lw_m13 193 rfl
theorem q3174 : (Jvm.Cond.instanceMethod ({ cls := "PlanMemoModel", name := "fires", desc := "()V" } : Jvm.MethodName)) ∈ lw_all := lw_g (lw_at lw_m13 194 rfl) rfl
theorem q3175 : (Jvm.Cond.code ({ cls := "PlanMemoModel", name := "fires", desc := "()V" } : Jvm.MethodName) prog_53_method_51_code (4 : Nat) (Option.none : Option Jvm.ClassFile.FieldType)) ∈ lw_all := lw_g (lw_at lw_m13 195 rfl) rfl
theorem q3177 : (Jvm.Cond.instanceMethod ({ cls := "PlanMemoModel", name := "next", desc := "(I)I" } : Jvm.MethodName)) ∈ lw_all := lw_g (lw_at lw_m13 197 rfl) rfl
theorem q3178 : (Jvm.Cond.selects "PlanMemoModel" ({ cls := "PlanMemoModel", name := "next", desc := "(I)I" } : Jvm.MethodName) ({ cls := "PlanMemoModel", name := "next", desc := "(I)I" } : Jvm.MethodName)) ∈ lw_all := lw_g (lw_at lw_m13 198 rfl) rfl
theorem q3179 : (Jvm.Cond.code ({ cls := "PlanMemoModel", name := "next", desc := "(I)I" } : Jvm.MethodName) prog_53_method_53_code (2 : Nat) (Option.some Jvm.ClassFile.FieldType.int)) ∈ lw_all := lw_g (lw_at lw_m13 199 rfl) rfl
theorem q3181 : (Jvm.Cond.instanceMethod ({ cls := "PlanMemoModel", name := "fired", desc := "(I)I" } : Jvm.MethodName)) ∈ lw_all := lw_g (lw_at lw_m13 201 rfl) rfl
theorem q3182 : (Jvm.Cond.selects "PlanMemoModel" ({ cls := "PlanMemoModel", name := "fired", desc := "(I)I" } : Jvm.MethodName) ({ cls := "PlanMemoModel", name := "fired", desc := "(I)I" } : Jvm.MethodName)) ∈ lw_all := lw_g (lw_at lw_m13 202 rfl) rfl
theorem q3183 : (Jvm.Cond.code ({ cls := "PlanMemoModel", name := "fired", desc := "(I)I" } : Jvm.MethodName) prog_53_method_54_code (2 : Nat) (Option.some Jvm.ClassFile.FieldType.int)) ∈ lw_all := lw_g (lw_at lw_m13 203 rfl) rfl
theorem q3185 : (Jvm.Cond.instanceMethod ({ cls := "PlanMemoModel", name := "price", desc := "(IIII)J" } : Jvm.MethodName)) ∈ lw_all := lw_g (lw_at lw_m13 205 rfl) rfl
theorem q3186 : (Jvm.Cond.selects "PlanMemoModel" ({ cls := "PlanMemoModel", name := "price", desc := "(IIII)J" } : Jvm.MethodName) ({ cls := "PlanMemoModel", name := "price", desc := "(IIII)J" } : Jvm.MethodName)) ∈ lw_all := lw_g (lw_at lw_m13 206 rfl) rfl
theorem q3187 : (Jvm.Cond.code ({ cls := "PlanMemoModel", name := "price", desc := "(IIII)J" } : Jvm.MethodName) prog_53_method_60_code (5 : Nat) (Option.some Jvm.ClassFile.FieldType.long)) ∈ lw_all := lw_g (lw_at lw_m13 207 rfl) rfl
theorem q3188 : (Jvm.Cond.methodLink "PlanMemoModel" (374 : Nat) ({ cls := "PlanMemoModel", name := "priceOf", desc := "(IJJJ)J" } : Jvm.MethodName)) ∈ lw_all := lw_g (lw_at lw_m13 208 rfl) rfl
theorem q3189 : (Jvm.Cond.privateMethod ({ cls := "PlanMemoModel", name := "priceOf", desc := "(IJJJ)J" } : Jvm.MethodName)) ∈ lw_tbl := lw_at lw_m13 209 rfl
theorem q3190 : (Jvm.Cond.instanceMethod ({ cls := "PlanMemoModel", name := "priceOf", desc := "(IJJJ)J" } : Jvm.MethodName)) ∈ lw_all := lw_g (lw_at lw_m13 210 rfl) rfl
theorem q3191 : (Jvm.Cond.code ({ cls := "PlanMemoModel", name := "priceOf", desc := "(IJJJ)J" } : Jvm.MethodName) prog_53_method_59_code (10 : Nat) (Option.some Jvm.ClassFile.FieldType.long)) ∈ lw_all := lw_g (lw_at lw_m13 211 rfl) rfl
theorem q3192 : (Jvm.Cond.methodLink "PlanMemoModel" (358 : Nat) ({ cls := "PlanMemoModel", name := "runs", desc := "(I)V" } : Jvm.MethodName)) ∈ lw_all := lw_g (lw_at lw_m13 212 rfl) rfl
theorem q3193 : (Jvm.Cond.privateMethod ({ cls := "PlanMemoModel", name := "runs", desc := "(I)V" } : Jvm.MethodName)) ∈ lw_tbl := lw_at lw_m13 213 rfl
theorem q3194 : (Jvm.Cond.instanceMethod ({ cls := "PlanMemoModel", name := "runs", desc := "(I)V" } : Jvm.MethodName)) ∈ lw_all := lw_g (lw_at lw_m13 214 rfl) rfl
theorem q3195 : (Jvm.Cond.code ({ cls := "PlanMemoModel", name := "runs", desc := "(I)V" } : Jvm.MethodName) prog_53_method_56_code (2 : Nat) (Option.none : Option Jvm.ClassFile.FieldType)) ∈ lw_all := lw_g (lw_at lw_m13 215 rfl) rfl
theorem q3196 : (Jvm.Cond.methodLink "PlanMemoModel" (361 : Nat) ({ cls := "PlanMemoModel", name := "reads", desc := "(IJJJ)J" } : Jvm.MethodName)) ∈ lw_all := lw_g (lw_at lw_m13 216 rfl) rfl
theorem q3197 : (Jvm.Cond.privateMethod ({ cls := "PlanMemoModel", name := "reads", desc := "(IJJJ)J" } : Jvm.MethodName)) ∈ lw_tbl := lw_at lw_m13 217 rfl
theorem q3198 : (Jvm.Cond.instanceMethod ({ cls := "PlanMemoModel", name := "reads", desc := "(IJJJ)J" } : Jvm.MethodName)) ∈ lw_all := lw_g (lw_at lw_m13 218 rfl) rfl
theorem q3199 : (Jvm.Cond.code ({ cls := "PlanMemoModel", name := "reads", desc := "(IJJJ)J" } : Jvm.MethodName) prog_53_method_57_code (8 : Nat) (Option.some Jvm.ClassFile.FieldType.long)) ∈ lw_all := lw_g (lw_at lw_m13 219 rfl) rfl
theorem q3200 : (Jvm.Cond.constantLong "PlanMemoModel" (364 : Nat) (2 : Int64)) ∈ lw_all := lw_g (lw_at lw_m13 220 rfl) rfl
theorem q3201 : (Jvm.Cond.methodLink "PlanMemoModel" (366 : Nat) ({ cls := "PlanMemoModel", name := "under", desc := "(I)I" } : Jvm.MethodName)) ∈ lw_all := lw_g (lw_at lw_m13 221 rfl) rfl
theorem q3202 : (Jvm.Cond.static ({ cls := "PlanMemoModel", name := "under", desc := "(I)I" } : Jvm.MethodName)) ∈ lw_all := lw_g (lw_at lw_m13 222 rfl) rfl
theorem q3203 : (Jvm.Cond.code ({ cls := "PlanMemoModel", name := "under", desc := "(I)I" } : Jvm.MethodName) prog_53_method_55_code (1 : Nat) (Option.some Jvm.ClassFile.FieldType.int)) ∈ lw_all := lw_g (lw_at lw_m13 223 rfl) rfl
theorem q3204 : (Jvm.Cond.methodLink "PlanMemoModel" (369 : Nat) ({ cls := "PlanMemoModel", name := "works", desc := "(IJJJ)J" } : Jvm.MethodName)) ∈ lw_all := lw_g (lw_at lw_m13 224 rfl) rfl
theorem q3205 : (Jvm.Cond.privateMethod ({ cls := "PlanMemoModel", name := "works", desc := "(IJJJ)J" } : Jvm.MethodName)) ∈ lw_tbl := lw_at lw_m13 225 rfl
theorem q3206 : (Jvm.Cond.instanceMethod ({ cls := "PlanMemoModel", name := "works", desc := "(IJJJ)J" } : Jvm.MethodName)) ∈ lw_all := lw_g (lw_at lw_m13 226 rfl) rfl
theorem q3207 : (Jvm.Cond.code ({ cls := "PlanMemoModel", name := "works", desc := "(IJJJ)J" } : Jvm.MethodName) prog_53_method_58_code (12 : Nat) (Option.some Jvm.ClassFile.FieldType.long)) ∈ lw_all := lw_g (lw_at lw_m13 227 rfl) rfl
theorem q3208 : (Jvm.Cond.constantLong "PlanMemoModel" (372 : Nat) (3 : Int64)) ∈ lw_all := lw_g (lw_at lw_m13 228 rfl) rfl
theorem q3210 : (Jvm.Cond.instanceMethod ({ cls := "PlanMemoModel", name := "trace", desc := "(I)I" } : Jvm.MethodName)) ∈ lw_all := lw_g (lw_at lw_m13 230 rfl) rfl
theorem q3211 : (Jvm.Cond.selects "PlanMemoModel" ({ cls := "PlanMemoModel", name := "trace", desc := "(I)I" } : Jvm.MethodName) ({ cls := "PlanMemoModel", name := "trace", desc := "(I)I" } : Jvm.MethodName)) ∈ lw_all := lw_g (lw_at lw_m13 231 rfl) rfl
theorem q3212 : (Jvm.Cond.code ({ cls := "PlanMemoModel", name := "trace", desc := "(I)I" } : Jvm.MethodName) prog_53_method_62_code (2 : Nat) (Option.some Jvm.ClassFile.FieldType.int)) ∈ lw_all := lw_g (lw_at lw_m13 232 rfl) rfl
theorem q3214 : (Jvm.Cond.instanceMethod ({ cls := "PlanMemoModel", name := "allow", desc := "(IZ)I" } : Jvm.MethodName)) ∈ lw_all := lw_g (lw_at lw_m13 234 rfl) rfl
theorem q3215 : (Jvm.Cond.selects "PlanMemoModel" ({ cls := "PlanMemoModel", name := "allow", desc := "(IZ)I" } : Jvm.MethodName) ({ cls := "PlanMemoModel", name := "allow", desc := "(IZ)I" } : Jvm.MethodName)) ∈ lw_all := lw_g (lw_at lw_m13 235 rfl) rfl
theorem q3216 : (Jvm.Cond.code ({ cls := "PlanMemoModel", name := "allow", desc := "(IZ)I" } : Jvm.MethodName) prog_53_method_72_code (4 : Nat) (Option.some Jvm.ClassFile.FieldType.int)) ∈ lw_all := lw_g (lw_at lw_m13 236 rfl) rfl
theorem q3217 : (Jvm.Cond.methodLink "PlanMemoModel" (411 : Nat) ({ cls := "PlanMemoModel", name := "isWay", desc := "(I)Z" } : Jvm.MethodName)) ∈ lw_all := lw_g (lw_at lw_m13 237 rfl) rfl
theorem q3218 : (Jvm.Cond.privateMethod ({ cls := "PlanMemoModel", name := "isWay", desc := "(I)Z" } : Jvm.MethodName)) ∈ lw_tbl := lw_at lw_m13 238 rfl
theorem q3219 : (Jvm.Cond.instanceMethod ({ cls := "PlanMemoModel", name := "isWay", desc := "(I)Z" } : Jvm.MethodName)) ∈ lw_all := lw_g (lw_at lw_m13 239 rfl) rfl
theorem q3220 : (Jvm.Cond.code ({ cls := "PlanMemoModel", name := "isWay", desc := "(I)Z" } : Jvm.MethodName) prog_53_method_73_code (2 : Nat) (Option.some Jvm.ClassFile.FieldType.boolean)) ∈ lw_all := lw_g (lw_at lw_m14 0 rfl) rfl
theorem q3222 : (Jvm.Cond.instanceMethod ({ cls := "PlanMemoModel", name := "cost", desc := "(III)J" } : Jvm.MethodName)) ∈ lw_all := lw_g (lw_at lw_m14 2 rfl) rfl
theorem q3223 : (Jvm.Cond.selects "PlanMemoModel" ({ cls := "PlanMemoModel", name := "cost", desc := "(III)J" } : Jvm.MethodName) ({ cls := "PlanMemoModel", name := "cost", desc := "(III)J" } : Jvm.MethodName)) ∈ lw_all := lw_g (lw_at lw_m14 3 rfl) rfl
theorem q3224 : (Jvm.Cond.code ({ cls := "PlanMemoModel", name := "cost", desc := "(III)J" } : Jvm.MethodName) prog_53_method_74_code (4 : Nat) (Option.some Jvm.ClassFile.FieldType.long)) ∈ lw_all := lw_g (lw_at lw_m14 4 rfl) rfl
theorem q3225 : (Jvm.Cond.methodLink "PlanMemoModel" (414 : Nat) ({ cls := "PlanMemoModel", name := "noTen", desc := "(I)I" } : Jvm.MethodName)) ∈ lw_all := lw_g (lw_at lw_m14 5 rfl) rfl
theorem q3226 : (Jvm.Cond.privateMethod ({ cls := "PlanMemoModel", name := "noTen", desc := "(I)I" } : Jvm.MethodName)) ∈ lw_tbl := lw_at lw_m14 6 rfl
theorem q3227 : (Jvm.Cond.instanceMethod ({ cls := "PlanMemoModel", name := "noTen", desc := "(I)I" } : Jvm.MethodName)) ∈ lw_all := lw_g (lw_at lw_m14 7 rfl) rfl
theorem q3228 : (Jvm.Cond.code ({ cls := "PlanMemoModel", name := "noTen", desc := "(I)I" } : Jvm.MethodName) prog_53_method_3_code (2 : Nat) (Option.some Jvm.ClassFile.FieldType.int)) ∈ lw_all := lw_g (lw_at lw_m14 8 rfl) rfl
theorem q3229 : (Jvm.Cond.methodLink "PlanMemoModel" (417 : Nat) ({ cls := "PlanMemoModel", name := "isDemand", desc := "(II)Z" } : Jvm.MethodName)) ∈ lw_all := lw_g (lw_at lw_m14 9 rfl) rfl
theorem q3230 : (Jvm.Cond.privateMethod ({ cls := "PlanMemoModel", name := "isDemand", desc := "(II)Z" } : Jvm.MethodName)) ∈ lw_tbl := lw_at lw_m14 10 rfl
theorem q3231 : (Jvm.Cond.instanceMethod ({ cls := "PlanMemoModel", name := "isDemand", desc := "(II)Z" } : Jvm.MethodName)) ∈ lw_all := lw_g (lw_at lw_m14 11 rfl) rfl
theorem q3232 : (Jvm.Cond.code ({ cls := "PlanMemoModel", name := "isDemand", desc := "(II)Z" } : Jvm.MethodName) prog_53_method_70_code (3 : Nat) (Option.some Jvm.ClassFile.FieldType.boolean)) ∈ lw_all := lw_g (lw_at lw_m14 12 rfl) rfl
theorem q3233 : (Jvm.Cond.methodLink "PlanMemoModel" (420 : Nat) ({ cls := "PlanMemoModel", name := "costs", desc := "()V" } : Jvm.MethodName)) ∈ lw_all := lw_g (lw_at lw_m14 13 rfl) rfl
theorem q3234 : (Jvm.Cond.privateMethod ({ cls := "PlanMemoModel", name := "costs", desc := "()V" } : Jvm.MethodName)) ∈ lw_tbl := lw_at lw_m14 14 rfl
theorem q3235 : (Jvm.Cond.instanceMethod ({ cls := "PlanMemoModel", name := "costs", desc := "()V" } : Jvm.MethodName)) ∈ lw_all := lw_g (lw_at lw_m14 15 rfl) rfl
theorem q3236 : (Jvm.Cond.code ({ cls := "PlanMemoModel", name := "costs", desc := "()V" } : Jvm.MethodName) prog_53_method_69_code (6 : Nat) (Option.none : Option Jvm.ClassFile.FieldType)) ∈ lw_all := lw_g (lw_at lw_m14 16 rfl) rfl
theorem q3237 : (Jvm.Cond.constantLong "PlanMemoModel" (400 : Nat) (4000000000000 : Int64)) ∈ lw_all := lw_g (lw_at lw_m14 17 rfl) rfl
theorem q3238 : (Jvm.Cond.methodLink "PlanMemoModel" (402 : Nat) ({ cls := "PlanMemoModel", name := "waysOf", desc := "(I)V" } : Jvm.MethodName)) ∈ lw_all := lw_g (lw_at lw_m14 18 rfl) rfl
theorem q3239 : (Jvm.Cond.privateMethod ({ cls := "PlanMemoModel", name := "waysOf", desc := "(I)V" } : Jvm.MethodName)) ∈ lw_tbl := lw_at lw_m14 19 rfl
theorem q3240 : (Jvm.Cond.instanceMethod ({ cls := "PlanMemoModel", name := "waysOf", desc := "(I)V" } : Jvm.MethodName)) ∈ lw_all := lw_g (lw_at lw_m14 20 rfl) rfl
theorem q3241 : (Jvm.Cond.code ({ cls := "PlanMemoModel", name := "waysOf", desc := "(I)V" } : Jvm.MethodName) prog_53_method_67_code (6 : Nat) (Option.none : Option Jvm.ClassFile.FieldType)) ∈ lw_all := lw_g (lw_at lw_m14 21 rfl) rfl
theorem q3242 : (Jvm.Cond.methodLink "PlanMemoModel" (394 : Nat) ({ cls := "PlanMemoModel", name := "waysBy", desc := "(III)V" } : Jvm.MethodName)) ∈ lw_all := lw_g (lw_at lw_m14 22 rfl) rfl
theorem q3243 : (Jvm.Cond.privateMethod ({ cls := "PlanMemoModel", name := "waysBy", desc := "(III)V" } : Jvm.MethodName)) ∈ lw_tbl := lw_at lw_m14 23 rfl
theorem q3244 : (Jvm.Cond.instanceMethod ({ cls := "PlanMemoModel", name := "waysBy", desc := "(III)V" } : Jvm.MethodName)) ∈ lw_all := lw_g (lw_at lw_m14 24 rfl) rfl
theorem q3245 : (Jvm.Cond.code ({ cls := "PlanMemoModel", name := "waysBy", desc := "(III)V" } : Jvm.MethodName) prog_53_method_66_code (13 : Nat) (Option.none : Option Jvm.ClassFile.FieldType)) ∈ lw_all := lw_g (lw_at lw_m14 25 rfl) rfl
theorem q3246 : (Jvm.Cond.methodLink "PlanMemoModel" (383 : Nat) ({ cls := "PlanMemoModel", name := "meets", desc := "(II)Z" } : Jvm.MethodName)) ∈ lw_all := lw_g (lw_at lw_m14 26 rfl) rfl
theorem q3247 : (Jvm.Cond.static ({ cls := "PlanMemoModel", name := "meets", desc := "(II)Z" } : Jvm.MethodName)) ∈ lw_all := lw_g (lw_at lw_m14 27 rfl) rfl
theorem q3248 : (Jvm.Cond.code ({ cls := "PlanMemoModel", name := "meets", desc := "(II)Z" } : Jvm.MethodName) prog_53_method_65_code (2 : Nat) (Option.some Jvm.ClassFile.FieldType.boolean)) ∈ lw_all := lw_g (lw_at lw_m14 28 rfl) rfl
theorem q3249 : (Jvm.Cond.methodLink "PlanMemoModel" (386 : Nat) ({ cls := "PlanMemoModel", name := "way", desc := "(IIIIIJJJ)V" } : Jvm.MethodName)) ∈ lw_all := lw_g (lw_at lw_m14 29 rfl) rfl
theorem q3250 : (Jvm.Cond.privateMethod ({ cls := "PlanMemoModel", name := "way", desc := "(IIIIIJJJ)V" } : Jvm.MethodName)) ∈ lw_tbl := lw_at lw_m14 30 rfl
theorem q3251 : (Jvm.Cond.instanceMethod ({ cls := "PlanMemoModel", name := "way", desc := "(IIIIIJJJ)V" } : Jvm.MethodName)) ∈ lw_all := lw_g (lw_at lw_m14 31 rfl) rfl
theorem q3252 : (Jvm.Cond.code ({ cls := "PlanMemoModel", name := "way", desc := "(IIIIIJJJ)V" } : Jvm.MethodName) prog_53_method_64_code (12 : Nat) (Option.none : Option Jvm.ClassFile.FieldType)) ∈ lw_all := lw_g (lw_at lw_m14 32 rfl) rfl
theorem q3253 : (Jvm.Cond.methodLink "PlanMemoModel" (380 : Nat) ({ cls := "PlanMemoModel", name := "silent", desc := "(IJJJ)J" } : Jvm.MethodName)) ∈ lw_all := lw_g (lw_at lw_m14 33 rfl) rfl
theorem q3254 : (Jvm.Cond.privateMethod ({ cls := "PlanMemoModel", name := "silent", desc := "(IJJJ)J" } : Jvm.MethodName)) ∈ lw_tbl := lw_at lw_m14 34 rfl
theorem q3255 : (Jvm.Cond.instanceMethod ({ cls := "PlanMemoModel", name := "silent", desc := "(IJJJ)J" } : Jvm.MethodName)) ∈ lw_all := lw_g (lw_at lw_m14 35 rfl) rfl
theorem q3256 : (Jvm.Cond.code ({ cls := "PlanMemoModel", name := "silent", desc := "(IJJJ)J" } : Jvm.MethodName) prog_53_method_61_code (11 : Nat) (Option.some Jvm.ClassFile.FieldType.long)) ∈ lw_all := lw_g (lw_at lw_m14 36 rfl) rfl
theorem q3257 : (Jvm.Cond.methodLink "PlanMemoModel" (390 : Nat) ({ cls := "PlanMemoModel", name := "demand", desc := "(III)I" } : Jvm.MethodName)) ∈ lw_all := lw_g (lw_at lw_m14 37 rfl) rfl
theorem q3258 : (Jvm.Cond.static ({ cls := "PlanMemoModel", name := "demand", desc := "(III)I" } : Jvm.MethodName)) ∈ lw_all := lw_g (lw_at lw_m14 38 rfl) rfl
theorem q3259 : (Jvm.Cond.code ({ cls := "PlanMemoModel", name := "demand", desc := "(III)I" } : Jvm.MethodName) prog_53_method_63_code (3 : Nat) (Option.some Jvm.ClassFile.FieldType.int)) ∈ lw_all := lw_g (lw_at lw_m14 39 rfl) rfl
theorem q3260 : (Jvm.Cond.methodLink "PlanMemoModel" (405 : Nat) ({ cls := "PlanMemoModel", name := "sum", desc := "(I)J" } : Jvm.MethodName)) ∈ lw_all := lw_g (lw_at lw_m14 40 rfl) rfl
theorem q3261 : (Jvm.Cond.privateMethod ({ cls := "PlanMemoModel", name := "sum", desc := "(I)J" } : Jvm.MethodName)) ∈ lw_tbl := lw_at lw_m14 41 rfl
theorem q3262 : (Jvm.Cond.instanceMethod ({ cls := "PlanMemoModel", name := "sum", desc := "(I)J" } : Jvm.MethodName)) ∈ lw_all := lw_g (lw_at lw_m14 42 rfl) rfl
theorem q3263 : (Jvm.Cond.code ({ cls := "PlanMemoModel", name := "sum", desc := "(I)J" } : Jvm.MethodName) prog_53_method_68_code (4 : Nat) (Option.some Jvm.ClassFile.FieldType.long)) ∈ lw_all := lw_g (lw_at lw_m14 43 rfl) rfl
theorem q3264 : (Jvm.Cond.constantLong "PlanMemoModel" (398 : Nat) (1000000000000 : Int64)) ∈ lw_all := lw_g (lw_at lw_m14 44 rfl) rfl
theorem q3265 : (Jvm.Cond.methodLink "PlanMemoModel" (423 : Nat) ({ cls := "PlanMemoModel", name := "orNone", desc := "(J)J" } : Jvm.MethodName)) ∈ lw_all := lw_g (lw_at lw_m14 45 rfl) rfl
theorem q3266 : (Jvm.Cond.static ({ cls := "PlanMemoModel", name := "orNone", desc := "(J)J" } : Jvm.MethodName)) ∈ lw_all := lw_g (lw_at lw_m14 46 rfl) rfl
theorem q3267 : (Jvm.Cond.code ({ cls := "PlanMemoModel", name := "orNone", desc := "(J)J" } : Jvm.MethodName) prog_53_method_71_code (2 : Nat) (Option.some Jvm.ClassFile.FieldType.long)) ∈ lw_all := lw_g (lw_at lw_m14 47 rfl) rfl
theorem q3268 : (Jvm.Cond.constantLong "PlanMemoModel" (409 : Nat) (-1 : Int64)) ∈ lw_all := lw_g (lw_at lw_m14 48 rfl) rfl
theorem q3270 : (Jvm.Cond.instanceMethod ({ cls := "PlanMemoModel", name := "costBy", desc := "(III)J" } : Jvm.MethodName)) ∈ lw_all := lw_g (lw_at lw_m14 50 rfl) rfl
theorem q3271 : (Jvm.Cond.selects "PlanMemoModel" ({ cls := "PlanMemoModel", name := "costBy", desc := "(III)J" } : Jvm.MethodName) ({ cls := "PlanMemoModel", name := "costBy", desc := "(III)J" } : Jvm.MethodName)) ∈ lw_all := lw_g (lw_at lw_m14 51 rfl) rfl
theorem q3272 : (Jvm.Cond.code ({ cls := "PlanMemoModel", name := "costBy", desc := "(III)J" } : Jvm.MethodName) prog_53_method_75_code (7 : Nat) (Option.some Jvm.ClassFile.FieldType.long)) ∈ lw_all := lw_g (lw_at lw_m14 52 rfl) rfl
theorem q3274 : (Jvm.Cond.instanceMethod ({ cls := "PlanMemoModel", name := "demands", desc := "(III)I" } : Jvm.MethodName)) ∈ lw_all := lw_g (lw_at lw_m14 54 rfl) rfl
theorem q3275 : (Jvm.Cond.selects "PlanMemoModel" ({ cls := "PlanMemoModel", name := "demands", desc := "(III)I" } : Jvm.MethodName) ({ cls := "PlanMemoModel", name := "demands", desc := "(III)I" } : Jvm.MethodName)) ∈ lw_all := lw_g (lw_at lw_m14 55 rfl) rfl
theorem q3276 : (Jvm.Cond.code ({ cls := "PlanMemoModel", name := "demands", desc := "(III)I" } : Jvm.MethodName) prog_53_method_77_code (4 : Nat) (Option.some Jvm.ClassFile.FieldType.int)) ∈ lw_all := lw_g (lw_at lw_m14 56 rfl) rfl
theorem q3277 : (Jvm.Cond.methodLink "PlanMemoModel" (427 : Nat) ({ cls := "PlanMemoModel", name := "closes", desc := "(I)I" } : Jvm.MethodName)) ∈ lw_all := lw_g (lw_at lw_m14 57 rfl) rfl
theorem q3278 : (Jvm.Cond.privateMethod ({ cls := "PlanMemoModel", name := "closes", desc := "(I)I" } : Jvm.MethodName)) ∈ lw_tbl := lw_at lw_m14 58 rfl
theorem q3279 : (Jvm.Cond.instanceMethod ({ cls := "PlanMemoModel", name := "closes", desc := "(I)I" } : Jvm.MethodName)) ∈ lw_all := lw_g (lw_at lw_m14 59 rfl) rfl
theorem q3280 : (Jvm.Cond.code ({ cls := "PlanMemoModel", name := "closes", desc := "(I)I" } : Jvm.MethodName) prog_53_method_76_code (8 : Nat) (Option.some Jvm.ClassFile.FieldType.int)) ∈ lw_all := lw_g (lw_at lw_m14 60 rfl) rfl
theorem q3282 : (Jvm.Cond.instanceMethod ({ cls := "PlanMemoModel", name := "within", desc := "(III)I" } : Jvm.MethodName)) ∈ lw_all := lw_g (lw_at lw_m14 62 rfl) rfl
theorem q3283 : (Jvm.Cond.selects "PlanMemoModel" ({ cls := "PlanMemoModel", name := "within", desc := "(III)I" } : Jvm.MethodName) ({ cls := "PlanMemoModel", name := "within", desc := "(III)I" } : Jvm.MethodName)) ∈ lw_all := lw_g (lw_at lw_m14 63 rfl) rfl
theorem q3284 : (Jvm.Cond.code ({ cls := "PlanMemoModel", name := "within", desc := "(III)I" } : Jvm.MethodName) prog_53_method_78_code (7 : Nat) (Option.some Jvm.ClassFile.FieldType.int)) ∈ lw_all := lw_g (lw_at lw_m14 64 rfl) rfl
theorem q3286 : (Jvm.Cond.instanceMethod ({ cls := "PlanMemoModel", name := "where", desc := "(II)I" } : Jvm.MethodName)) ∈ lw_all := lw_g (lw_at lw_m14 66 rfl) rfl
theorem q3287 : (Jvm.Cond.selects "PlanMemoModel" ({ cls := "PlanMemoModel", name := "where", desc := "(II)I" } : Jvm.MethodName) ({ cls := "PlanMemoModel", name := "where", desc := "(II)I" } : Jvm.MethodName)) ∈ lw_all := lw_g (lw_at lw_m14 67 rfl) rfl
theorem q3288 : (Jvm.Cond.code ({ cls := "PlanMemoModel", name := "where", desc := "(II)I" } : Jvm.MethodName) prog_53_method_79_code (9 : Nat) (Option.some Jvm.ClassFile.FieldType.int)) ∈ lw_all := lw_g (lw_at lw_m14 68 rfl) rfl
theorem q3289 : (Jvm.Cond.constantLong "PlanMemoModel" (430 : Nat) (1000000000001 : Int64)) ∈ lw_all := lw_g (lw_at lw_m14 69 rfl) rfl
theorem q3291 : (Jvm.Cond.instanceMethod ({ cls := "PlanMemoModel", name := "worth", desc := "(IIII)J" } : Jvm.MethodName)) ∈ lw_all := lw_g (lw_at lw_m14 71 rfl) rfl
theorem q3292 : (Jvm.Cond.selects "PlanMemoModel" ({ cls := "PlanMemoModel", name := "worth", desc := "(IIII)J" } : Jvm.MethodName) ({ cls := "PlanMemoModel", name := "worth", desc := "(IIII)J" } : Jvm.MethodName)) ∈ lw_all := lw_g (lw_at lw_m14 72 rfl) rfl
theorem q3293 : (Jvm.Cond.code ({ cls := "PlanMemoModel", name := "worth", desc := "(IIII)J" } : Jvm.MethodName) prog_53_method_80_code (11 : Nat) (Option.some Jvm.ClassFile.FieldType.long)) ∈ lw_all := lw_g (lw_at lw_m14 73 rfl) rfl
theorem q3295 : (Jvm.Cond.instanceMethod ({ cls := "PlanMemoModel", name := "plan", desc := "(III)I" } : Jvm.MethodName)) ∈ lw_all := lw_g (lw_at lw_m14 75 rfl) rfl
theorem q3296 : (Jvm.Cond.selects "PlanMemoModel" ({ cls := "PlanMemoModel", name := "plan", desc := "(III)I" } : Jvm.MethodName) ({ cls := "PlanMemoModel", name := "plan", desc := "(III)I" } : Jvm.MethodName)) ∈ lw_all := lw_g (lw_at lw_m14 76 rfl) rfl
theorem q3297 : (Jvm.Cond.code ({ cls := "PlanMemoModel", name := "plan", desc := "(III)I" } : Jvm.MethodName) prog_53_method_82_code (6 : Nat) (Option.some Jvm.ClassFile.FieldType.int)) ∈ lw_all := lw_g (lw_at lw_m14 77 rfl) rfl
theorem q3298 : (Jvm.Cond.methodLink "PlanMemoModel" (435 : Nat) ({ cls := "PlanMemoModel", name := "plans", desc := "(I)Z" } : Jvm.MethodName)) ∈ lw_all := lw_g (lw_at lw_m14 78 rfl) rfl
theorem q3299 : (Jvm.Cond.privateMethod ({ cls := "PlanMemoModel", name := "plans", desc := "(I)Z" } : Jvm.MethodName)) ∈ lw_tbl := lw_at lw_m14 79 rfl
theorem q3300 : (Jvm.Cond.instanceMethod ({ cls := "PlanMemoModel", name := "plans", desc := "(I)Z" } : Jvm.MethodName)) ∈ lw_all := lw_g (lw_at lw_m14 80 rfl) rfl
theorem q3301 : (Jvm.Cond.code ({ cls := "PlanMemoModel", name := "plans", desc := "(I)Z" } : Jvm.MethodName) prog_53_method_81_code (8 : Nat) (Option.some Jvm.ClassFile.FieldType.boolean)) ∈ lw_all := lw_g (lw_at lw_m14 81 rfl) rfl
theorem q3303 : (Jvm.Cond.instanceMethod ({ cls := "PlanMemoModel", name := "planAt", desc := "(II)I" } : Jvm.MethodName)) ∈ lw_all := lw_g (lw_at lw_m14 83 rfl) rfl
theorem q3304 : (Jvm.Cond.selects "PlanMemoModel" ({ cls := "PlanMemoModel", name := "planAt", desc := "(II)I" } : Jvm.MethodName) ({ cls := "PlanMemoModel", name := "planAt", desc := "(II)I" } : Jvm.MethodName)) ∈ lw_all := lw_g (lw_at lw_m14 84 rfl) rfl
theorem q3305 : (Jvm.Cond.code ({ cls := "PlanMemoModel", name := "planAt", desc := "(II)I" } : Jvm.MethodName) prog_53_method_83_code (3 : Nat) (Option.some Jvm.ClassFile.FieldType.int)) ∈ lw_all := lw_g (lw_at lw_m14 85 rfl) rfl
theorem q3307 : (Jvm.Cond.instanceMethod ({ cls := "PlanMemoModel", name := "planCost", desc := "(I)J" } : Jvm.MethodName)) ∈ lw_all := lw_g (lw_at lw_m14 87 rfl) rfl
theorem q3308 : (Jvm.Cond.selects "PlanMemoModel" ({ cls := "PlanMemoModel", name := "planCost", desc := "(I)J" } : Jvm.MethodName) ({ cls := "PlanMemoModel", name := "planCost", desc := "(I)J" } : Jvm.MethodName)) ∈ lw_all := lw_g (lw_at lw_m14 88 rfl) rfl
theorem q3309 : (Jvm.Cond.code ({ cls := "PlanMemoModel", name := "planCost", desc := "(I)J" } : Jvm.MethodName) prog_53_method_84_code (2 : Nat) (Option.some Jvm.ClassFile.FieldType.long)) ∈ lw_all := lw_g (lw_at lw_m14 89 rfl) rfl
theorem q3311 : (Jvm.Cond.instanceMethod ({ cls := "PlanMemoModel", name := "spell", desc := "(I)I" } : Jvm.MethodName)) ∈ lw_all := lw_g (lw_at lw_m14 91 rfl) rfl
theorem q3312 : (Jvm.Cond.selects "PlanMemoModel" ({ cls := "PlanMemoModel", name := "spell", desc := "(I)I" } : Jvm.MethodName) ({ cls := "PlanMemoModel", name := "spell", desc := "(I)I" } : Jvm.MethodName)) ∈ lw_all := lw_g (lw_at lw_m14 92 rfl) rfl
theorem q3313 : (Jvm.Cond.code ({ cls := "PlanMemoModel", name := "spell", desc := "(I)I" } : Jvm.MethodName) prog_53_method_87_code (3 : Nat) (Option.some Jvm.ClassFile.FieldType.int)) ∈ lw_all := lw_g (lw_at lw_m14 93 rfl) rfl
theorem q3314 : (Jvm.Cond.methodLink "PlanMemoModel" (444 : Nat) ({ cls := "PlanMemoModel", name := "spells", desc := "(I)I" } : Jvm.MethodName)) ∈ lw_all := lw_g (lw_at lw_m14 94 rfl) rfl
theorem q3315 : (Jvm.Cond.privateMethod ({ cls := "PlanMemoModel", name := "spells", desc := "(I)I" } : Jvm.MethodName)) ∈ lw_tbl := lw_at lw_m14 95 rfl
theorem q3316 : (Jvm.Cond.instanceMethod ({ cls := "PlanMemoModel", name := "spells", desc := "(I)I" } : Jvm.MethodName)) ∈ lw_all := lw_g (lw_at lw_m14 96 rfl) rfl
theorem q3317 : (Jvm.Cond.code ({ cls := "PlanMemoModel", name := "spells", desc := "(I)I" } : Jvm.MethodName) prog_53_method_86_code (4 : Nat) (Option.some Jvm.ClassFile.FieldType.int)) ∈ lw_all := lw_g (lw_at lw_m14 97 rfl) rfl
theorem q3318 : (Jvm.Cond.methodLink "PlanMemoModel" (447 : Nat) ({ cls := "PlanMemoModel", name := "writes", desc := "(Ljava/lang/String;)V" } : Jvm.MethodName)) ∈ lw_all := lw_g (lw_at lw_m14 98 rfl) rfl
theorem q3319 : (Jvm.Cond.privateMethod ({ cls := "PlanMemoModel", name := "writes", desc := "(Ljava/lang/String;)V" } : Jvm.MethodName)) ∈ lw_tbl := lw_at lw_m14 99 rfl
theorem q3320 : (Jvm.Cond.instanceMethod ({ cls := "PlanMemoModel", name := "writes", desc := "(Ljava/lang/String;)V" } : Jvm.MethodName)) ∈ lw_all := lw_g (lw_at lw_m14 100 rfl) rfl
theorem q3321 : (Jvm.Cond.code ({ cls := "PlanMemoModel", name := "writes", desc := "(Ljava/lang/String;)V" } : Jvm.MethodName) prog_53_method_85_code (3 : Nat) (Option.none : Option Jvm.ClassFile.FieldType)) ∈ lw_all := lw_g (lw_at lw_m14 101 rfl) rfl
theorem q3322 : (Jvm.Cond.stringRef "PlanMemoModel" (451 : Nat) "(") ∈ lw_tbl := lw_at lw_m14 102 rfl
theorem q3323 : (Jvm.Cond.stringRef "PlanMemoModel" (453 : Nat) ",") ∈ lw_tbl := lw_at lw_m14 103 rfl
theorem q3324 : (Jvm.Cond.stringRef "PlanMemoModel" (455 : Nat) ")") ∈ lw_tbl := lw_at lw_m14 104 rfl
theorem q3326 : (Jvm.Cond.instanceMethod ({ cls := "PlanMemoModel", name := "trees", desc := "(II)I" } : Jvm.MethodName)) ∈ lw_all := lw_g (lw_at lw_m14 106 rfl) rfl
theorem q3327 : (Jvm.Cond.selects "PlanMemoModel" ({ cls := "PlanMemoModel", name := "trees", desc := "(II)I" } : Jvm.MethodName) ({ cls := "PlanMemoModel", name := "trees", desc := "(II)I" } : Jvm.MethodName)) ∈ lw_all := lw_g (lw_at lw_m14 107 rfl) rfl
theorem q3328 : (Jvm.Cond.code ({ cls := "PlanMemoModel", name := "trees", desc := "(II)I" } : Jvm.MethodName) prog_53_method_88_code (7 : Nat) (Option.some Jvm.ClassFile.FieldType.int)) ∈ lw_all := lw_g (lw_at lw_m14 108 rfl) rfl
theorem q3329 : (Jvm.Cond.constantLong "PlanMemoModel" (457 : Nat) (1000000000 : Int64)) ∈ lw_all := lw_g (lw_at lw_m14 109 rfl) rfl
theorem q3331 : (Jvm.Cond.instanceMethod ({ cls := "PlanMemoModel", name := "deal", desc := "(I)I" } : Jvm.MethodName)) ∈ lw_all := lw_g (lw_at lw_m14 111 rfl) rfl
theorem q3332 : (Jvm.Cond.selects "PlanMemoModel" ({ cls := "PlanMemoModel", name := "deal", desc := "(I)I" } : Jvm.MethodName) ({ cls := "PlanMemoModel", name := "deal", desc := "(I)I" } : Jvm.MethodName)) ∈ lw_all := lw_g (lw_at lw_m14 112 rfl) rfl
theorem q3333 : (Jvm.Cond.code ({ cls := "PlanMemoModel", name := "deal", desc := "(I)I" } : Jvm.MethodName) prog_53_method_90_code (7 : Nat) (Option.some Jvm.ClassFile.FieldType.int)) ∈ lw_all := lw_g (lw_at lw_m14 113 rfl) rfl
theorem q3334 : (Jvm.Cond.methodLink "PlanMemoModel" (460 : Nat) ({ cls := "PlanMemoModel", name := "draw", desc := "(I)I" } : Jvm.MethodName)) ∈ lw_all := lw_g (lw_at lw_m14 114 rfl) rfl
theorem q3335 : (Jvm.Cond.privateMethod ({ cls := "PlanMemoModel", name := "draw", desc := "(I)I" } : Jvm.MethodName)) ∈ lw_tbl := lw_at lw_m14 115 rfl
theorem q3336 : (Jvm.Cond.instanceMethod ({ cls := "PlanMemoModel", name := "draw", desc := "(I)I" } : Jvm.MethodName)) ∈ lw_all := lw_g (lw_at lw_m14 116 rfl) rfl
theorem q3337 : (Jvm.Cond.code ({ cls := "PlanMemoModel", name := "draw", desc := "(I)I" } : Jvm.MethodName) prog_53_method_89_code (2 : Nat) (Option.some Jvm.ClassFile.FieldType.int)) ∈ lw_all := lw_g (lw_at lw_m14 117 rfl) rfl
theorem q3338 : (Jvm.Cond.constant "PlanMemoModel" (459 : Nat) (1103515245 : Int32)) ∈ lw_all := lw_g (lw_at lw_m14 118 rfl) rfl
theorem q3340 : (Jvm.Cond.instanceMethod ({ cls := "PlanMemoModel", name := "seed", desc := "(I)I" } : Jvm.MethodName)) ∈ lw_all := lw_g (lw_at lw_m14 120 rfl) rfl
theorem q3341 : (Jvm.Cond.selects "PlanMemoModel" ({ cls := "PlanMemoModel", name := "seed", desc := "(I)I" } : Jvm.MethodName) ({ cls := "PlanMemoModel", name := "seed", desc := "(I)I" } : Jvm.MethodName)) ∈ lw_all := lw_g (lw_at lw_m14 121 rfl) rfl
theorem q3342 : (Jvm.Cond.code ({ cls := "PlanMemoModel", name := "seed", desc := "(I)I" } : Jvm.MethodName) prog_53_method_91_code (3 : Nat) (Option.some Jvm.ClassFile.FieldType.int)) ∈ lw_all := lw_g (lw_at lw_m14 122 rfl) rfl
theorem q3344 : (Jvm.Cond.instanceMethod ({ cls := "PlanMemoModel", name := "image", desc := "()I" } : Jvm.MethodName)) ∈ lw_all := lw_g (lw_at lw_m14 124 rfl) rfl
theorem q3345 : (Jvm.Cond.selects "PlanMemoModel" ({ cls := "PlanMemoModel", name := "image", desc := "()I" } : Jvm.MethodName) ({ cls := "PlanMemoModel", name := "image", desc := "()I" } : Jvm.MethodName)) ∈ lw_all := lw_g (lw_at lw_m14 125 rfl) rfl
theorem q3346 : (Jvm.Cond.code ({ cls := "PlanMemoModel", name := "image", desc := "()I" } : Jvm.MethodName) prog_53_method_92_code (3 : Nat) (Option.some Jvm.ClassFile.FieldType.int)) ∈ lw_all := lw_g (lw_at lw_m14 126 rfl) rfl
theorem q3348 : (Jvm.Cond.instanceMethod ({ cls := "PlanMemoModel", name := "restore", desc := "()I" } : Jvm.MethodName)) ∈ lw_all := lw_g (lw_at lw_m14 128 rfl) rfl
theorem q3349 : (Jvm.Cond.selects "PlanMemoModel" ({ cls := "PlanMemoModel", name := "restore", desc := "()I" } : Jvm.MethodName) ({ cls := "PlanMemoModel", name := "restore", desc := "()I" } : Jvm.MethodName)) ∈ lw_all := lw_g (lw_at lw_m14 129 rfl) rfl
theorem q3350 : (Jvm.Cond.code ({ cls := "PlanMemoModel", name := "restore", desc := "()I" } : Jvm.MethodName) prog_53_method_93_code (3 : Nat) (Option.some Jvm.ClassFile.FieldType.int)) ∈ lw_all := lw_g (lw_at lw_m14 130 rfl) rfl
theorem q3352 : (Jvm.Cond.instanceMethod ({ cls := "PlanMemoModel", name := "status", desc := "(I)I" } : Jvm.MethodName)) ∈ lw_all := lw_g (lw_at lw_m14 132 rfl) rfl
theorem q3353 : (Jvm.Cond.selects "PlanMemoModel" ({ cls := "PlanMemoModel", name := "status", desc := "(I)I" } : Jvm.MethodName) ({ cls := "PlanMemoModel", name := "status", desc := "(I)I" } : Jvm.MethodName)) ∈ lw_all := lw_g (lw_at lw_m14 133 rfl) rfl
theorem q3354 : (Jvm.Cond.code ({ cls := "PlanMemoModel", name := "status", desc := "(I)I" } : Jvm.MethodName) prog_53_method_94_code (4 : Nat) (Option.some Jvm.ClassFile.FieldType.int)) ∈ lw_all := lw_g (lw_at lw_m14 134 rfl) rfl
theorem in_X24 : ∀ w ∈ wsX240, w ∈ lw_all := lw_in wsX240 [2804, 2806, 2808, 2810, 2812, 2814, 2816, 2818, 2820, 2822, 2824, 2826, 2828, 2830, 2832, 2834, 2836, 2838, 2840, 2842, 2844, 2846, 2848, 2850, 2852, 2854, 2856, 2858, 2860, 2862, 2864, 2866, 2868, 2870, 2872, 2874, 2876, 2878, 2880, 2882, 2884, 2886, 2888, 2890, 2892, 2894, 2896, 2898, 2900, 2902, 2904, 2906, 2908, 2910, 2912, 2914, 2916, 2918, 2920, 2922, 2924, 2926, 2928, 2930, 2932, 2934, 2936, 2938, 2940, 2942, 2944, 2946, 2948, 2950, 2952, 2954, 2956, 2958, 2960] (by decide +kernel) (by decide +kernel)
