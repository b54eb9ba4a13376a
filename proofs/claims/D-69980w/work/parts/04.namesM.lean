/-! StreamNodesModel -/
set_option maxRecDepth 100000
def RX6 : String := "StreamNodesModel"
def TX6 : u_T := fun k => match k with
  | 0 => ("StreamNodesModel", "tape", "[B", true)
  | 1 => ("StreamNodesModel", "size", "I", false)
  | 2 => ("StreamNodesModel", "thrown", "I", false)
  | 3 => ("StreamNodesModel", "faultKind", "I", false)
  | 4 => ("StreamNodesModel", "faultPlace", "I", false)
  | 5 => ("StreamNodesModel", "pos", "I", false)
  | 6 => ("StreamNodesModel", "token", "I", false)
  | 7 => ("StreamNodesModel", "tokenAt", "I", false)
  | 8 => ("StreamNodesModel", "tokenEnd", "I", false)
  | 9 => ("StreamNodesModel", "seen", "Z", false)
  | 10 => ("StreamNodesModel", "nodeAt", "[I", true)
  | 11 => ("StreamNodesModel", "nodeSize", "[I", true)
  | 12 => ("StreamNodesModel", "variableFrom", "[I", true)
  | 13 => ("StreamNodesModel", "inputCount", "[I", true)
  | 14 => ("StreamNodesModel", "outputCount", "[I", true)
  | 15 => ("StreamNodesModel", "equationFrom", "[I", true)
  | 16 => ("StreamNodesModel", "callCount", "[I", true)
  | 17 => ("StreamNodesModel", "stateCount", "[I", true)
  | 18 => ("StreamNodesModel", "nodes", "I", false)
  | 19 => ("StreamNodesModel", "variables", "I", false)
  | 20 => ("StreamNodesModel", "wordAt", "[I", true)
  | 21 => ("StreamNodesModel", "wordSize", "[I", true)
  | 22 => ("StreamNodesModel", "clockOf", "[I", true)
  | 23 => ("StreamNodesModel", "given", "[I", true)
  | 24 => ("StreamNodesModel", "truth", "[Z", true)
  | 25 => ("StreamNodesModel", "placeOf", "[I", true)
  | 26 => ("StreamNodesModel", "leftFrom", "[I", true)
  | 27 => ("StreamNodesModel", "bodyOf", "[I", true)
  | 28 => ("StreamNodesModel", "lefts", "[I", true)
  | 29 => ("StreamNodesModel", "fromOf", "[I", true)
  | 30 => ("StreamNodesModel", "equations", "I", false)
  | 31 => ("StreamNodesModel", "leftCount", "I", false)
  | 32 => ("StreamNodesModel", "sort", "[I", true)
  | 33 => ("StreamNodesModel", "one", "[I", true)
  | 34 => ("StreamNodesModel", "kid", "[I", true)
  | 35 => ("StreamNodesModel", "beside", "[I", true)
  | 36 => ("StreamNodesModel", "clock", "[I", true)
  | 37 => ("StreamNodesModel", "state", "[I", true)
  | 38 => ("StreamNodesModel", "price", "[I", true)
  | 39 => ("StreamNodesModel", "high", "[I", true)
  | 40 => ("StreamNodesModel", "parsed", "I", false)
  | 41 => ("StreamNodesModel", "isTruth", "[Z", true)
  | 42 => ("StreamNodesModel", "placeNow", "I", false)
  | 43 => ("StreamNodesModel", "full", "[I", true)
  | 44 => ("StreamNodesModel", "part", "[I", true)
  | 45 => ("StreamNodesModel", "low", "[I", true)
  | 46 => ("StreamNodesModel", "definedBy", "[I", true)
  | 47 => ("StreamNodesModel", "definedAs", "[I", true)
  | 48 => ("StreamNodesModel", "partsOf", "[I", true)
  | 49 => ("StreamNodesModel", "main", "I", false)
  | 50 => ("StreamNodesModel", "instances", "I", false)
  | 51 => ("StreamNodesModel", "all", "I", false)
  | 52 => ("StreamNodesModel", "states", "I", false)
  | 53 => ("StreamNodesModel", "memories", "I", false)
  | 54 => ("StreamNodesModel", "calls", "I", false)
  | 55 => ("StreamNodesModel", "allParts", "I", false)
  | 56 => ("StreamNodesModel", "nodeOf", "[I", true)
  | 57 => ("StreamNodesModel", "outer", "[I", true)
  | 58 => ("StreamNodesModel", "callOf", "[I", true)
  | 59 => ("StreamNodesModel", "base", "[I", true)
  | 60 => ("StreamNodesModel", "statesFrom", "[I", true)
  | 61 => ("StreamNodesModel", "callsFrom", "[I", true)
  | 62 => ("StreamNodesModel", "childOf", "[I", true)
  | 63 => ("StreamNodesModel", "instanceOf", "[I", true)
  | 64 => ("StreamNodesModel", "localOf", "[I", true)
  | 65 => ("StreamNodesModel", "causeFrom", "[I", true)
  | 66 => ("StreamNodesModel", "causeOf", "[I", true)
  | 67 => ("StreamNodesModel", "causesTotal", "I", false)
  | 68 => ("StreamNodesModel", "reached", "[Z", true)
  | 69 => ("StreamNodesModel", "todo", "[I", true)
  | 70 => ("StreamNodesModel", "order", "[I", true)
  | 71 => ("StreamNodesModel", "undone", "[Z", true)
  | 72 => ("StreamNodesModel", "instants", "I", false)
  | 73 => ("StreamNodesModel", "inputs", "[I", true)
  | 74 => ("StreamNodesModel", "value", "[I", true)
  | 75 => ("StreamNodesModel", "memory", "[I", true)
  | 76 => ("StreamNodesModel", "later", "[I", true)
  | 77 => ("StreamNodesModel", "worth", "[I", true)
  | 78 => ("StreamNodesModel", "here", "[Z", true)
  | 79 => ("StreamNodesModel", "keptMemory", "[I", true)
  | 80 => ("StreamNodesModel", "keptValue", "[I", true)
  | 81 => ("StreamNodesModel", "keptHere", "[Z", true)
  | 82 => ("StreamNodesModel", "keptInstants", "I", false)
  | _ => ("StreamNodesModel", "isKept", "Z", false)
def tyX6 : Nat → FieldType := fun k => match k with
  | 0 => .array .byte
  | 1 => .int
  | 2 => .int
  | 3 => .int
  | 4 => .int
  | 5 => .int
  | 6 => .int
  | 7 => .int
  | 8 => .int
  | 9 => .boolean
  | 10 => .array .int
  | 11 => .array .int
  | 12 => .array .int
  | 13 => .array .int
  | 14 => .array .int
  | 15 => .array .int
  | 16 => .array .int
  | 17 => .array .int
  | 18 => .int
  | 19 => .int
  | 20 => .array .int
  | 21 => .array .int
  | 22 => .array .int
  | 23 => .array .int
  | 24 => .array .boolean
  | 25 => .array .int
  | 26 => .array .int
  | 27 => .array .int
  | 28 => .array .int
  | 29 => .array .int
  | 30 => .int
  | 31 => .int
  | 32 => .array .int
  | 33 => .array .int
  | 34 => .array .int
  | 35 => .array .int
  | 36 => .array .int
  | 37 => .array .int
  | 38 => .array .int
  | 39 => .array .int
  | 40 => .int
  | 41 => .array .boolean
  | 42 => .int
  | 43 => .array .int
  | 44 => .array .int
  | 45 => .array .int
  | 46 => .array .int
  | 47 => .array .int
  | 48 => .array .int
  | 49 => .int
  | 50 => .int
  | 51 => .int
  | 52 => .int
  | 53 => .int
  | 54 => .int
  | 55 => .int
  | 56 => .array .int
  | 57 => .array .int
  | 58 => .array .int
  | 59 => .array .int
  | 60 => .array .int
  | 61 => .array .int
  | 62 => .array .int
  | 63 => .array .int
  | 64 => .array .int
  | 65 => .array .int
  | 66 => .array .int
  | 67 => .int
  | 68 => .array .boolean
  | 69 => .array .int
  | 70 => .array .int
  | 71 => .array .boolean
  | 72 => .int
  | 73 => .array .int
  | 74 => .array .int
  | 75 => .array .int
  | 76 => .array .int
  | 77 => .array .int
  | 78 => .array .boolean
  | 79 => .array .int
  | 80 => .array .int
  | 81 => .array .boolean
  | 82 => .int
  | _ => .boolean
abbrev wsX60 : List Cond := u_ws RX6 TX6 84
set_option maxRecDepth 100000 in
theorem nmX6 : ∀ a, a < 84 → ∀ b, b < 84 → a ≠ b → (TX6 a).2.1 ≠ (TX6 b).2.1 := by decide +kernel
set_option maxRecDepth 100000 in
theorem tyX6_ok : ∀ k, k < 84 → parseFieldDescriptor (TX6 k).2.2.1 = some (tyX6 k) := by decide +kernel
abbrev cX6_init : ByteArray := prog_26_method_1_code
def yX6_init : MethodName := ⟨RX6, "<init>", "()V"⟩
def dkwX6_init_27 : List UInt8 := [181, 1, 10, 177]
abbrev dktX6_init_27 : List UInt8 := dkwX6_init_27 ++ []
def dkwX6_init_26 : List UInt8 := [17, 23, 212, 188, 10, 181, 1, 1, 42, 17, 23, 212, 188, 4, 181, 1, 4, 42, 3, 181, 1, 7, 42, 3]
abbrev dktX6_init_26 : List UInt8 := dkwX6_init_26 ++ dktX6_init_27
def dkwX6_init_25 : List UInt8 := [181, 0, 248, 42, 17, 23, 212, 188, 4, 181, 0, 251, 42, 17, 25, 200, 188, 10, 181, 0, 254, 42]
abbrev dktX6_init_25 : List UInt8 := dkwX6_init_25 ++ dktX6_init_26
def dkwX6_init_24 : List UInt8 := [17, 25, 200, 188, 10, 181, 0, 242, 42, 17, 25, 200, 188, 10, 181, 0, 245, 42, 18, 99, 188, 10]
abbrev dktX6_init_24 : List UInt8 := dkwX6_init_24 ++ dktX6_init_25
def dkwX6_init_23 : List UInt8 := [3, 181, 0, 233, 42, 16, 100, 188, 10, 181, 0, 236, 42, 17, 23, 212, 188, 10, 181, 0, 239, 42]
abbrev dktX6_init_23 : List UInt8 := dkwX6_init_23 ++ dktX6_init_24
def dkwX6_init_22 : List UInt8 := [188, 10, 181, 0, 224, 42, 17, 23, 212, 188, 10, 181, 0, 227, 42, 17, 23, 212, 188, 4, 181, 0, 230, 42]
abbrev dktX6_init_22 : List UInt8 := dkwX6_init_22 ++ dktX6_init_23
def dkwX6_init_21 : List UInt8 := [188, 10, 181, 0, 215, 42, 3, 181, 0, 218, 42, 17, 23, 212, 188, 4, 181, 0, 221, 42, 17, 23, 212]
abbrev dktX6_init_21 : List UInt8 := dkwX6_init_21 ++ dktX6_init_22
def dkwX6_init_20 : List UInt8 := [181, 0, 205, 42, 17, 23, 212, 188, 10, 181, 0, 208, 42, 17, 23, 213, 188, 10, 181, 0, 211, 42, 18, 214]
abbrev dktX6_init_20 : List UInt8 := dkwX6_init_20 ++ dktX6_init_21
def dkwX6_init_19 : List UInt8 := [17, 12, 128, 188, 10, 181, 0, 199, 42, 17, 12, 128, 188, 10, 181, 0, 202, 42, 17, 23, 212, 188, 10]
abbrev dktX6_init_19 : List UInt8 := dkwX6_init_19 ++ dktX6_init_20
def dkwX6_init_18 : List UInt8 := [181, 0, 190, 42, 17, 12, 128, 188, 10, 181, 0, 193, 42, 17, 12, 128, 188, 10, 181, 0, 196, 42]
abbrev dktX6_init_18 : List UInt8 := dkwX6_init_18 ++ dktX6_init_19
def dkwX6_init_17 : List UInt8 := [42, 17, 12, 128, 188, 10, 181, 0, 184, 42, 17, 12, 128, 188, 10, 181, 0, 187, 42, 17, 12, 128, 188, 10]
abbrev dktX6_init_17 : List UInt8 := dkwX6_init_17 ++ dktX6_init_18
def dkwX6_init_16 : List UInt8 := [3, 181, 0, 169, 42, 3, 181, 0, 172, 42, 3, 181, 0, 175, 42, 3, 181, 0, 178, 42, 3, 181, 0, 181]
abbrev dktX6_init_16 : List UInt8 := dkwX6_init_16 ++ dktX6_init_17
def dkwX6_init_15 : List UInt8 := [188, 10, 181, 0, 157, 42, 16, 60, 188, 10, 181, 0, 160, 42, 2, 181, 0, 163, 42, 3, 181, 0, 166, 42]
abbrev dktX6_init_15 : List UInt8 := dkwX6_init_15 ++ dktX6_init_16
def dkwX6_init_14 : List UInt8 := [181, 0, 148, 42, 18, 99, 188, 10, 181, 0, 151, 42, 17, 23, 112, 188, 10, 181, 0, 154, 42, 17, 23, 112]
abbrev dktX6_init_14 : List UInt8 := dkwX6_init_14 ++ dktX6_init_15
def dkwX6_init_13 : List UInt8 := [188, 4, 181, 0, 139, 42, 3, 181, 0, 142, 42, 18, 99, 188, 10, 181, 0, 145, 42, 18, 99, 188, 10]
abbrev dktX6_init_13 : List UInt8 := dkwX6_init_13 ++ dktX6_init_14
def dkwX6_init_12 : List UInt8 := [18, 99, 188, 10, 181, 0, 130, 42, 18, 99, 188, 10, 181, 0, 133, 42, 3, 181, 0, 136, 42, 18, 99]
abbrev dktX6_init_12 : List UInt8 := dkwX6_init_12 ++ dktX6_init_13
def dkwX6_init_11 : List UInt8 := [18, 99, 188, 10, 181, 0, 121, 42, 18, 99, 188, 10, 181, 0, 124, 42, 18, 99, 188, 10, 181, 0, 127, 42]
abbrev dktX6_init_11 : List UInt8 := dkwX6_init_11 ++ dktX6_init_12
def dkwX6_init_10 : List UInt8 := [18, 99, 188, 10, 181, 0, 112, 42, 18, 99, 188, 10, 181, 0, 115, 42, 18, 99, 188, 10, 181, 0, 118, 42]
abbrev dktX6_init_10 : List UInt8 := dkwX6_init_10 ++ dktX6_init_11
def dkwX6_init_9 : List UInt8 := [181, 0, 100, 42, 17, 66, 104, 188, 10, 181, 0, 103, 42, 3, 181, 0, 106, 42, 3, 181, 0, 109, 42]
abbrev dktX6_init_9 : List UInt8 := dkwX6_init_9 ++ dktX6_init_10
def dkwX6_init_8 : List UInt8 := [17, 66, 105, 188, 10, 181, 0, 93, 42, 17, 66, 104, 188, 10, 181, 0, 96, 42, 18, 99, 188, 10]
abbrev dktX6_init_8 : List UInt8 := dkwX6_init_8 ++ dktX6_init_9
def dkwX6_init_7 : List UInt8 := [181, 0, 83, 42, 17, 23, 112, 188, 4, 181, 0, 86, 42, 17, 66, 104, 188, 10, 181, 0, 90, 42]
abbrev dktX6_init_7 : List UInt8 := dkwX6_init_7 ++ dktX6_init_8
def dkwX6_init_6 : List UInt8 := [17, 23, 112, 188, 10, 181, 0, 77, 42, 17, 23, 112, 188, 10, 181, 0, 80, 42, 17, 23, 112, 188, 10]
abbrev dktX6_init_6 : List UInt8 := dkwX6_init_6 ++ dktX6_init_7
def dkwX6_init_5 : List UInt8 := [181, 0, 65, 42, 3, 181, 0, 68, 42, 3, 181, 0, 71, 42, 17, 23, 112, 188, 10, 181, 0, 74, 42]
abbrev dktX6_init_5 : List UInt8 := dkwX6_init_5 ++ dktX6_init_6
def dkwX6_init_4 : List UInt8 := [181, 0, 56, 42, 16, 61, 188, 10, 181, 0, 59, 42, 16, 60, 188, 10, 181, 0, 62, 42, 16, 60, 188, 10]
abbrev dktX6_init_4 : List UInt8 := dkwX6_init_4 ++ dktX6_init_5
def dkwX6_init_3 : List UInt8 := [181, 0, 47, 42, 16, 61, 188, 10, 181, 0, 50, 42, 16, 60, 188, 10, 181, 0, 53, 42, 16, 60, 188, 10]
abbrev dktX6_init_3 : List UInt8 := dkwX6_init_3 ++ dktX6_init_4
def dkwX6_init_2 : List UInt8 := [3, 181, 0, 36, 42, 3, 181, 0, 39, 42, 16, 60, 188, 10, 181, 0, 43, 42, 16, 60, 188, 10]
abbrev dktX6_init_2 : List UInt8 := dkwX6_init_2 ++ dktX6_init_3
def dkwX6_init_1 : List UInt8 := [181, 0, 21, 42, 3, 181, 0, 24, 42, 3, 181, 0, 27, 42, 3, 181, 0, 30, 42, 3, 181, 0, 33, 42]
abbrev dktX6_init_1 : List UInt8 := dkwX6_init_1 ++ dktX6_init_2
def dkwX6_init_0 : List UInt8 := [42, 183, 0, 1, 42, 18, 7, 188, 8, 181, 0, 8, 42, 3, 181, 0, 14, 42, 3, 181, 0, 18, 42, 3]
abbrev dktX6_init_0 : List UInt8 := dkwX6_init_0 ++ dktX6_init_1
theorem dksX6_init_0 : cX6_init.data.toList.drop 0 = dktX6_init_0 := by decide +kernel
theorem dksX6_init_1 : cX6_init.data.toList.drop 24 = dktX6_init_1 := dk_seg dksX6_init_0 24 rfl rfl
theorem dksX6_init_2 : cX6_init.data.toList.drop 48 = dktX6_init_2 := dk_seg dksX6_init_1 24 rfl rfl
theorem dksX6_init_3 : cX6_init.data.toList.drop 70 = dktX6_init_3 := dk_seg dksX6_init_2 22 rfl rfl
theorem dksX6_init_4 : cX6_init.data.toList.drop 94 = dktX6_init_4 := dk_seg dksX6_init_3 24 rfl rfl
theorem dksX6_init_5 : cX6_init.data.toList.drop 118 = dktX6_init_5 := dk_seg dksX6_init_4 24 rfl rfl
theorem dksX6_init_6 : cX6_init.data.toList.drop 141 = dktX6_init_6 := dk_seg dksX6_init_5 23 rfl rfl
theorem dksX6_init_7 : cX6_init.data.toList.drop 164 = dktX6_init_7 := dk_seg dksX6_init_6 23 rfl rfl
theorem dksX6_init_8 : cX6_init.data.toList.drop 186 = dktX6_init_8 := dk_seg dksX6_init_7 22 rfl rfl
theorem dksX6_init_9 : cX6_init.data.toList.drop 208 = dktX6_init_9 := dk_seg dksX6_init_8 22 rfl rfl
theorem dksX6_init_10 : cX6_init.data.toList.drop 231 = dktX6_init_10 := dk_seg dksX6_init_9 23 rfl rfl
theorem dksX6_init_11 : cX6_init.data.toList.drop 255 = dktX6_init_11 := dk_seg dksX6_init_10 24 rfl rfl
theorem dksX6_init_12 : cX6_init.data.toList.drop 279 = dktX6_init_12 := dk_seg dksX6_init_11 24 rfl rfl
theorem dksX6_init_13 : cX6_init.data.toList.drop 302 = dktX6_init_13 := dk_seg dksX6_init_12 23 rfl rfl
theorem dksX6_init_14 : cX6_init.data.toList.drop 325 = dktX6_init_14 := dk_seg dksX6_init_13 23 rfl rfl
theorem dksX6_init_15 : cX6_init.data.toList.drop 349 = dktX6_init_15 := dk_seg dksX6_init_14 24 rfl rfl
theorem dksX6_init_16 : cX6_init.data.toList.drop 373 = dktX6_init_16 := dk_seg dksX6_init_15 24 rfl rfl
theorem dksX6_init_17 : cX6_init.data.toList.drop 397 = dktX6_init_17 := dk_seg dksX6_init_16 24 rfl rfl
theorem dksX6_init_18 : cX6_init.data.toList.drop 421 = dktX6_init_18 := dk_seg dksX6_init_17 24 rfl rfl
theorem dksX6_init_19 : cX6_init.data.toList.drop 443 = dktX6_init_19 := dk_seg dksX6_init_18 22 rfl rfl
theorem dksX6_init_20 : cX6_init.data.toList.drop 466 = dktX6_init_20 := dk_seg dksX6_init_19 23 rfl rfl
theorem dksX6_init_21 : cX6_init.data.toList.drop 490 = dktX6_init_21 := dk_seg dksX6_init_20 24 rfl rfl
theorem dksX6_init_22 : cX6_init.data.toList.drop 513 = dktX6_init_22 := dk_seg dksX6_init_21 23 rfl rfl
theorem dksX6_init_23 : cX6_init.data.toList.drop 537 = dktX6_init_23 := dk_seg dksX6_init_22 24 rfl rfl
theorem dksX6_init_24 : cX6_init.data.toList.drop 559 = dktX6_init_24 := dk_seg dksX6_init_23 22 rfl rfl
theorem dksX6_init_25 : cX6_init.data.toList.drop 581 = dktX6_init_25 := dk_seg dksX6_init_24 22 rfl rfl
theorem dksX6_init_26 : cX6_init.data.toList.drop 603 = dktX6_init_26 := dk_seg dksX6_init_25 22 rfl rfl
theorem dksX6_init_27 : cX6_init.data.toList.drop 627 = dktX6_init_27 := dk_seg dksX6_init_26 24 rfl rfl
theorem dX6_init_0 : decode cX6_init 0 = .ok (.aload_n 0, 1) := dk_42 (dk_at dksX6_init_0 0 rfl rfl)
theorem dX6_init_1 : decode cX6_init 1 = .ok (.invokespecial 1, 3) := dk_183 0 1 (dk_at dksX6_init_0 1 rfl rfl)
theorem dX6_init_4 : decode cX6_init 4 = .ok (.aload_n 0, 1) := dk_42 (dk_at dksX6_init_0 4 rfl rfl)
theorem dX6_init_5 : decode cX6_init 5 = .ok (.ldc 7, 2) := dk_18 7 (dk_at dksX6_init_0 5 rfl rfl)
theorem dX6_init_7 : decode cX6_init 7 = .ok (.newarray .byte, 2) := dk_188_8 (dk_at dksX6_init_0 7 rfl rfl)
theorem dX6_init_9 : decode cX6_init 9 = .ok (.putfield 8, 3) := dk_181 0 8 (dk_at dksX6_init_0 9 rfl rfl)
theorem dX6_init_12 : decode cX6_init 12 = .ok (.aload_n 0, 1) := dk_42 (dk_at dksX6_init_0 12 rfl rfl)
theorem dX6_init_13 : decode cX6_init 13 = .ok (.iconst 0, 1) := dk_3 (dk_at dksX6_init_0 13 rfl rfl)
theorem dX6_init_14 : decode cX6_init 14 = .ok (.putfield 14, 3) := dk_181 0 14 (dk_at dksX6_init_0 14 rfl rfl)
theorem dX6_init_17 : decode cX6_init 17 = .ok (.aload_n 0, 1) := dk_42 (dk_at dksX6_init_0 17 rfl rfl)
theorem dX6_init_18 : decode cX6_init 18 = .ok (.iconst 0, 1) := dk_3 (dk_at dksX6_init_0 18 rfl rfl)
theorem dX6_init_19 : decode cX6_init 19 = .ok (.putfield 18, 3) := dk_181 0 18 (dk_at dksX6_init_0 19 rfl rfl)
theorem dX6_init_22 : decode cX6_init 22 = .ok (.aload_n 0, 1) := dk_42 (dk_at dksX6_init_0 22 rfl rfl)
theorem dX6_init_23 : decode cX6_init 23 = .ok (.iconst 0, 1) := dk_3 (dk_at dksX6_init_0 23 rfl rfl)
theorem dX6_init_24 : decode cX6_init 24 = .ok (.putfield 21, 3) := dk_181 0 21 (dk_at dksX6_init_1 0 rfl rfl)
theorem dX6_init_27 : decode cX6_init 27 = .ok (.aload_n 0, 1) := dk_42 (dk_at dksX6_init_1 3 rfl rfl)
theorem dX6_init_28 : decode cX6_init 28 = .ok (.iconst 0, 1) := dk_3 (dk_at dksX6_init_1 4 rfl rfl)
theorem dX6_init_29 : decode cX6_init 29 = .ok (.putfield 24, 3) := dk_181 0 24 (dk_at dksX6_init_1 5 rfl rfl)
theorem dX6_init_32 : decode cX6_init 32 = .ok (.aload_n 0, 1) := dk_42 (dk_at dksX6_init_1 8 rfl rfl)
theorem dX6_init_33 : decode cX6_init 33 = .ok (.iconst 0, 1) := dk_3 (dk_at dksX6_init_1 9 rfl rfl)
theorem dX6_init_34 : decode cX6_init 34 = .ok (.putfield 27, 3) := dk_181 0 27 (dk_at dksX6_init_1 10 rfl rfl)
theorem dX6_init_37 : decode cX6_init 37 = .ok (.aload_n 0, 1) := dk_42 (dk_at dksX6_init_1 13 rfl rfl)
theorem dX6_init_38 : decode cX6_init 38 = .ok (.iconst 0, 1) := dk_3 (dk_at dksX6_init_1 14 rfl rfl)
theorem dX6_init_39 : decode cX6_init 39 = .ok (.putfield 30, 3) := dk_181 0 30 (dk_at dksX6_init_1 15 rfl rfl)
theorem dX6_init_42 : decode cX6_init 42 = .ok (.aload_n 0, 1) := dk_42 (dk_at dksX6_init_1 18 rfl rfl)
theorem dX6_init_43 : decode cX6_init 43 = .ok (.iconst 0, 1) := dk_3 (dk_at dksX6_init_1 19 rfl rfl)
theorem dX6_init_44 : decode cX6_init 44 = .ok (.putfield 33, 3) := dk_181 0 33 (dk_at dksX6_init_1 20 rfl rfl)
theorem dX6_init_47 : decode cX6_init 47 = .ok (.aload_n 0, 1) := dk_42 (dk_at dksX6_init_1 23 rfl rfl)
theorem dX6_init_48 : decode cX6_init 48 = .ok (.iconst 0, 1) := dk_3 (dk_at dksX6_init_2 0 rfl rfl)
theorem dX6_init_49 : decode cX6_init 49 = .ok (.putfield 36, 3) := dk_181 0 36 (dk_at dksX6_init_2 1 rfl rfl)
theorem dX6_init_52 : decode cX6_init 52 = .ok (.aload_n 0, 1) := dk_42 (dk_at dksX6_init_2 4 rfl rfl)
theorem dX6_init_53 : decode cX6_init 53 = .ok (.iconst 0, 1) := dk_3 (dk_at dksX6_init_2 5 rfl rfl)
theorem dX6_init_54 : decode cX6_init 54 = .ok (.putfield 39, 3) := dk_181 0 39 (dk_at dksX6_init_2 6 rfl rfl)
theorem dX6_init_57 : decode cX6_init 57 = .ok (.aload_n 0, 1) := dk_42 (dk_at dksX6_init_2 9 rfl rfl)
theorem dX6_init_58 : decode cX6_init 58 = .ok (.bipush 60, 2) := dk_16 60 (dk_at dksX6_init_2 10 rfl rfl)
theorem dX6_init_60 : decode cX6_init 60 = .ok (.newarray .int, 2) := dk_188_10 (dk_at dksX6_init_2 12 rfl rfl)
theorem dX6_init_62 : decode cX6_init 62 = .ok (.putfield 43, 3) := dk_181 0 43 (dk_at dksX6_init_2 14 rfl rfl)
theorem dX6_init_65 : decode cX6_init 65 = .ok (.aload_n 0, 1) := dk_42 (dk_at dksX6_init_2 17 rfl rfl)
theorem dX6_init_66 : decode cX6_init 66 = .ok (.bipush 60, 2) := dk_16 60 (dk_at dksX6_init_2 18 rfl rfl)
theorem dX6_init_68 : decode cX6_init 68 = .ok (.newarray .int, 2) := dk_188_10 (dk_at dksX6_init_2 20 rfl rfl)
theorem dX6_init_70 : decode cX6_init 70 = .ok (.putfield 47, 3) := dk_181 0 47 (dk_at dksX6_init_3 0 rfl rfl)
theorem dX6_init_73 : decode cX6_init 73 = .ok (.aload_n 0, 1) := dk_42 (dk_at dksX6_init_3 3 rfl rfl)
theorem dX6_init_74 : decode cX6_init 74 = .ok (.bipush 61, 2) := dk_16 61 (dk_at dksX6_init_3 4 rfl rfl)
theorem dX6_init_76 : decode cX6_init 76 = .ok (.newarray .int, 2) := dk_188_10 (dk_at dksX6_init_3 6 rfl rfl)
theorem dX6_init_78 : decode cX6_init 78 = .ok (.putfield 50, 3) := dk_181 0 50 (dk_at dksX6_init_3 8 rfl rfl)
theorem dX6_init_81 : decode cX6_init 81 = .ok (.aload_n 0, 1) := dk_42 (dk_at dksX6_init_3 11 rfl rfl)
theorem dX6_init_82 : decode cX6_init 82 = .ok (.bipush 60, 2) := dk_16 60 (dk_at dksX6_init_3 12 rfl rfl)
theorem dX6_init_84 : decode cX6_init 84 = .ok (.newarray .int, 2) := dk_188_10 (dk_at dksX6_init_3 14 rfl rfl)
theorem dX6_init_86 : decode cX6_init 86 = .ok (.putfield 53, 3) := dk_181 0 53 (dk_at dksX6_init_3 16 rfl rfl)
theorem dX6_init_89 : decode cX6_init 89 = .ok (.aload_n 0, 1) := dk_42 (dk_at dksX6_init_3 19 rfl rfl)
theorem dX6_init_90 : decode cX6_init 90 = .ok (.bipush 60, 2) := dk_16 60 (dk_at dksX6_init_3 20 rfl rfl)
theorem dX6_init_92 : decode cX6_init 92 = .ok (.newarray .int, 2) := dk_188_10 (dk_at dksX6_init_3 22 rfl rfl)
theorem dX6_init_94 : decode cX6_init 94 = .ok (.putfield 56, 3) := dk_181 0 56 (dk_at dksX6_init_4 0 rfl rfl)
theorem dX6_init_97 : decode cX6_init 97 = .ok (.aload_n 0, 1) := dk_42 (dk_at dksX6_init_4 3 rfl rfl)
theorem dX6_init_98 : decode cX6_init 98 = .ok (.bipush 61, 2) := dk_16 61 (dk_at dksX6_init_4 4 rfl rfl)
theorem dX6_init_100 : decode cX6_init 100 = .ok (.newarray .int, 2) := dk_188_10 (dk_at dksX6_init_4 6 rfl rfl)
theorem dX6_init_102 : decode cX6_init 102 = .ok (.putfield 59, 3) := dk_181 0 59 (dk_at dksX6_init_4 8 rfl rfl)
theorem dX6_init_105 : decode cX6_init 105 = .ok (.aload_n 0, 1) := dk_42 (dk_at dksX6_init_4 11 rfl rfl)
theorem dX6_init_106 : decode cX6_init 106 = .ok (.bipush 60, 2) := dk_16 60 (dk_at dksX6_init_4 12 rfl rfl)
theorem dX6_init_108 : decode cX6_init 108 = .ok (.newarray .int, 2) := dk_188_10 (dk_at dksX6_init_4 14 rfl rfl)
theorem dX6_init_110 : decode cX6_init 110 = .ok (.putfield 62, 3) := dk_181 0 62 (dk_at dksX6_init_4 16 rfl rfl)
theorem dX6_init_113 : decode cX6_init 113 = .ok (.aload_n 0, 1) := dk_42 (dk_at dksX6_init_4 19 rfl rfl)
theorem dX6_init_114 : decode cX6_init 114 = .ok (.bipush 60, 2) := dk_16 60 (dk_at dksX6_init_4 20 rfl rfl)
theorem dX6_init_116 : decode cX6_init 116 = .ok (.newarray .int, 2) := dk_188_10 (dk_at dksX6_init_4 22 rfl rfl)
theorem dX6_init_118 : decode cX6_init 118 = .ok (.putfield 65, 3) := dk_181 0 65 (dk_at dksX6_init_5 0 rfl rfl)
theorem dX6_init_121 : decode cX6_init 121 = .ok (.aload_n 0, 1) := dk_42 (dk_at dksX6_init_5 3 rfl rfl)
theorem dX6_init_122 : decode cX6_init 122 = .ok (.iconst 0, 1) := dk_3 (dk_at dksX6_init_5 4 rfl rfl)
theorem dX6_init_123 : decode cX6_init 123 = .ok (.putfield 68, 3) := dk_181 0 68 (dk_at dksX6_init_5 5 rfl rfl)
theorem dX6_init_126 : decode cX6_init 126 = .ok (.aload_n 0, 1) := dk_42 (dk_at dksX6_init_5 8 rfl rfl)
theorem dX6_init_127 : decode cX6_init 127 = .ok (.iconst 0, 1) := dk_3 (dk_at dksX6_init_5 9 rfl rfl)
theorem dX6_init_128 : decode cX6_init 128 = .ok (.putfield 71, 3) := dk_181 0 71 (dk_at dksX6_init_5 10 rfl rfl)
theorem dX6_init_131 : decode cX6_init 131 = .ok (.aload_n 0, 1) := dk_42 (dk_at dksX6_init_5 13 rfl rfl)
theorem dX6_init_132 : decode cX6_init 132 = .ok (.sipush 6000, 3) := dk_17 23 112 (dk_at dksX6_init_5 14 rfl rfl)
theorem dX6_init_135 : decode cX6_init 135 = .ok (.newarray .int, 2) := dk_188_10 (dk_at dksX6_init_5 17 rfl rfl)
theorem dX6_init_137 : decode cX6_init 137 = .ok (.putfield 74, 3) := dk_181 0 74 (dk_at dksX6_init_5 19 rfl rfl)
theorem dX6_init_140 : decode cX6_init 140 = .ok (.aload_n 0, 1) := dk_42 (dk_at dksX6_init_5 22 rfl rfl)
theorem dX6_init_141 : decode cX6_init 141 = .ok (.sipush 6000, 3) := dk_17 23 112 (dk_at dksX6_init_6 0 rfl rfl)
theorem dX6_init_144 : decode cX6_init 144 = .ok (.newarray .int, 2) := dk_188_10 (dk_at dksX6_init_6 3 rfl rfl)
theorem dX6_init_146 : decode cX6_init 146 = .ok (.putfield 77, 3) := dk_181 0 77 (dk_at dksX6_init_6 5 rfl rfl)
theorem dX6_init_149 : decode cX6_init 149 = .ok (.aload_n 0, 1) := dk_42 (dk_at dksX6_init_6 8 rfl rfl)
theorem dX6_init_150 : decode cX6_init 150 = .ok (.sipush 6000, 3) := dk_17 23 112 (dk_at dksX6_init_6 9 rfl rfl)
theorem dX6_init_153 : decode cX6_init 153 = .ok (.newarray .int, 2) := dk_188_10 (dk_at dksX6_init_6 12 rfl rfl)
theorem dX6_init_155 : decode cX6_init 155 = .ok (.putfield 80, 3) := dk_181 0 80 (dk_at dksX6_init_6 14 rfl rfl)
theorem dX6_init_158 : decode cX6_init 158 = .ok (.aload_n 0, 1) := dk_42 (dk_at dksX6_init_6 17 rfl rfl)
theorem dX6_init_159 : decode cX6_init 159 = .ok (.sipush 6000, 3) := dk_17 23 112 (dk_at dksX6_init_6 18 rfl rfl)
theorem dX6_init_162 : decode cX6_init 162 = .ok (.newarray .int, 2) := dk_188_10 (dk_at dksX6_init_6 21 rfl rfl)
theorem dX6_init_164 : decode cX6_init 164 = .ok (.putfield 83, 3) := dk_181 0 83 (dk_at dksX6_init_7 0 rfl rfl)
theorem dX6_init_167 : decode cX6_init 167 = .ok (.aload_n 0, 1) := dk_42 (dk_at dksX6_init_7 3 rfl rfl)
theorem dX6_init_168 : decode cX6_init 168 = .ok (.sipush 6000, 3) := dk_17 23 112 (dk_at dksX6_init_7 4 rfl rfl)
theorem dX6_init_171 : decode cX6_init 171 = .ok (.newarray .boolean, 2) := dk_188_4 (dk_at dksX6_init_7 7 rfl rfl)
theorem dX6_init_173 : decode cX6_init 173 = .ok (.putfield 86, 3) := dk_181 0 86 (dk_at dksX6_init_7 9 rfl rfl)
theorem dX6_init_176 : decode cX6_init 176 = .ok (.aload_n 0, 1) := dk_42 (dk_at dksX6_init_7 12 rfl rfl)
theorem dX6_init_177 : decode cX6_init 177 = .ok (.sipush 17000, 3) := dk_17 66 104 (dk_at dksX6_init_7 13 rfl rfl)
theorem dX6_init_180 : decode cX6_init 180 = .ok (.newarray .int, 2) := dk_188_10 (dk_at dksX6_init_7 16 rfl rfl)
theorem dX6_init_182 : decode cX6_init 182 = .ok (.putfield 90, 3) := dk_181 0 90 (dk_at dksX6_init_7 18 rfl rfl)
theorem dX6_init_185 : decode cX6_init 185 = .ok (.aload_n 0, 1) := dk_42 (dk_at dksX6_init_7 21 rfl rfl)
theorem dX6_init_186 : decode cX6_init 186 = .ok (.sipush 17001, 3) := dk_17 66 105 (dk_at dksX6_init_8 0 rfl rfl)
theorem dX6_init_189 : decode cX6_init 189 = .ok (.newarray .int, 2) := dk_188_10 (dk_at dksX6_init_8 3 rfl rfl)
theorem dX6_init_191 : decode cX6_init 191 = .ok (.putfield 93, 3) := dk_181 0 93 (dk_at dksX6_init_8 5 rfl rfl)
theorem dX6_init_194 : decode cX6_init 194 = .ok (.aload_n 0, 1) := dk_42 (dk_at dksX6_init_8 8 rfl rfl)
theorem dX6_init_195 : decode cX6_init 195 = .ok (.sipush 17000, 3) := dk_17 66 104 (dk_at dksX6_init_8 9 rfl rfl)
theorem dX6_init_198 : decode cX6_init 198 = .ok (.newarray .int, 2) := dk_188_10 (dk_at dksX6_init_8 12 rfl rfl)
theorem dX6_init_200 : decode cX6_init 200 = .ok (.putfield 96, 3) := dk_181 0 96 (dk_at dksX6_init_8 14 rfl rfl)
theorem dX6_init_203 : decode cX6_init 203 = .ok (.aload_n 0, 1) := dk_42 (dk_at dksX6_init_8 17 rfl rfl)
theorem dX6_init_204 : decode cX6_init 204 = .ok (.ldc 99, 2) := dk_18 99 (dk_at dksX6_init_8 18 rfl rfl)
theorem dX6_init_206 : decode cX6_init 206 = .ok (.newarray .int, 2) := dk_188_10 (dk_at dksX6_init_8 20 rfl rfl)
theorem dX6_init_208 : decode cX6_init 208 = .ok (.putfield 100, 3) := dk_181 0 100 (dk_at dksX6_init_9 0 rfl rfl)
theorem dX6_init_211 : decode cX6_init 211 = .ok (.aload_n 0, 1) := dk_42 (dk_at dksX6_init_9 3 rfl rfl)
theorem dX6_init_212 : decode cX6_init 212 = .ok (.sipush 17000, 3) := dk_17 66 104 (dk_at dksX6_init_9 4 rfl rfl)
theorem dX6_init_215 : decode cX6_init 215 = .ok (.newarray .int, 2) := dk_188_10 (dk_at dksX6_init_9 7 rfl rfl)
theorem dX6_init_217 : decode cX6_init 217 = .ok (.putfield 103, 3) := dk_181 0 103 (dk_at dksX6_init_9 9 rfl rfl)
theorem dX6_init_220 : decode cX6_init 220 = .ok (.aload_n 0, 1) := dk_42 (dk_at dksX6_init_9 12 rfl rfl)
theorem dX6_init_221 : decode cX6_init 221 = .ok (.iconst 0, 1) := dk_3 (dk_at dksX6_init_9 13 rfl rfl)
theorem dX6_init_222 : decode cX6_init 222 = .ok (.putfield 106, 3) := dk_181 0 106 (dk_at dksX6_init_9 14 rfl rfl)
theorem dX6_init_225 : decode cX6_init 225 = .ok (.aload_n 0, 1) := dk_42 (dk_at dksX6_init_9 17 rfl rfl)
theorem dX6_init_226 : decode cX6_init 226 = .ok (.iconst 0, 1) := dk_3 (dk_at dksX6_init_9 18 rfl rfl)
theorem dX6_init_227 : decode cX6_init 227 = .ok (.putfield 109, 3) := dk_181 0 109 (dk_at dksX6_init_9 19 rfl rfl)
theorem dX6_init_230 : decode cX6_init 230 = .ok (.aload_n 0, 1) := dk_42 (dk_at dksX6_init_9 22 rfl rfl)
theorem dX6_init_231 : decode cX6_init 231 = .ok (.ldc 99, 2) := dk_18 99 (dk_at dksX6_init_10 0 rfl rfl)
theorem dX6_init_233 : decode cX6_init 233 = .ok (.newarray .int, 2) := dk_188_10 (dk_at dksX6_init_10 2 rfl rfl)
theorem dX6_init_235 : decode cX6_init 235 = .ok (.putfield 112, 3) := dk_181 0 112 (dk_at dksX6_init_10 4 rfl rfl)
theorem dX6_init_238 : decode cX6_init 238 = .ok (.aload_n 0, 1) := dk_42 (dk_at dksX6_init_10 7 rfl rfl)
theorem dX6_init_239 : decode cX6_init 239 = .ok (.ldc 99, 2) := dk_18 99 (dk_at dksX6_init_10 8 rfl rfl)
theorem dX6_init_241 : decode cX6_init 241 = .ok (.newarray .int, 2) := dk_188_10 (dk_at dksX6_init_10 10 rfl rfl)
theorem dX6_init_243 : decode cX6_init 243 = .ok (.putfield 115, 3) := dk_181 0 115 (dk_at dksX6_init_10 12 rfl rfl)
theorem dX6_init_246 : decode cX6_init 246 = .ok (.aload_n 0, 1) := dk_42 (dk_at dksX6_init_10 15 rfl rfl)
theorem dX6_init_247 : decode cX6_init 247 = .ok (.ldc 99, 2) := dk_18 99 (dk_at dksX6_init_10 16 rfl rfl)
theorem dX6_init_249 : decode cX6_init 249 = .ok (.newarray .int, 2) := dk_188_10 (dk_at dksX6_init_10 18 rfl rfl)
theorem dX6_init_251 : decode cX6_init 251 = .ok (.putfield 118, 3) := dk_181 0 118 (dk_at dksX6_init_10 20 rfl rfl)
theorem dX6_init_254 : decode cX6_init 254 = .ok (.aload_n 0, 1) := dk_42 (dk_at dksX6_init_10 23 rfl rfl)
theorem dX6_init_255 : decode cX6_init 255 = .ok (.ldc 99, 2) := dk_18 99 (dk_at dksX6_init_11 0 rfl rfl)
theorem dX6_init_257 : decode cX6_init 257 = .ok (.newarray .int, 2) := dk_188_10 (dk_at dksX6_init_11 2 rfl rfl)
theorem dX6_init_259 : decode cX6_init 259 = .ok (.putfield 121, 3) := dk_181 0 121 (dk_at dksX6_init_11 4 rfl rfl)
theorem dX6_init_262 : decode cX6_init 262 = .ok (.aload_n 0, 1) := dk_42 (dk_at dksX6_init_11 7 rfl rfl)
theorem dX6_init_263 : decode cX6_init 263 = .ok (.ldc 99, 2) := dk_18 99 (dk_at dksX6_init_11 8 rfl rfl)
theorem dX6_init_265 : decode cX6_init 265 = .ok (.newarray .int, 2) := dk_188_10 (dk_at dksX6_init_11 10 rfl rfl)
theorem dX6_init_267 : decode cX6_init 267 = .ok (.putfield 124, 3) := dk_181 0 124 (dk_at dksX6_init_11 12 rfl rfl)
theorem dX6_init_270 : decode cX6_init 270 = .ok (.aload_n 0, 1) := dk_42 (dk_at dksX6_init_11 15 rfl rfl)
theorem dX6_init_271 : decode cX6_init 271 = .ok (.ldc 99, 2) := dk_18 99 (dk_at dksX6_init_11 16 rfl rfl)
theorem dX6_init_273 : decode cX6_init 273 = .ok (.newarray .int, 2) := dk_188_10 (dk_at dksX6_init_11 18 rfl rfl)
theorem dX6_init_275 : decode cX6_init 275 = .ok (.putfield 127, 3) := dk_181 0 127 (dk_at dksX6_init_11 20 rfl rfl)
theorem dX6_init_278 : decode cX6_init 278 = .ok (.aload_n 0, 1) := dk_42 (dk_at dksX6_init_11 23 rfl rfl)
theorem dX6_init_279 : decode cX6_init 279 = .ok (.ldc 99, 2) := dk_18 99 (dk_at dksX6_init_12 0 rfl rfl)
theorem dX6_init_281 : decode cX6_init 281 = .ok (.newarray .int, 2) := dk_188_10 (dk_at dksX6_init_12 2 rfl rfl)
theorem dX6_init_283 : decode cX6_init 283 = .ok (.putfield 130, 3) := dk_181 0 130 (dk_at dksX6_init_12 4 rfl rfl)
theorem dX6_init_286 : decode cX6_init 286 = .ok (.aload_n 0, 1) := dk_42 (dk_at dksX6_init_12 7 rfl rfl)
theorem dX6_init_287 : decode cX6_init 287 = .ok (.ldc 99, 2) := dk_18 99 (dk_at dksX6_init_12 8 rfl rfl)
theorem dX6_init_289 : decode cX6_init 289 = .ok (.newarray .int, 2) := dk_188_10 (dk_at dksX6_init_12 10 rfl rfl)
theorem dX6_init_291 : decode cX6_init 291 = .ok (.putfield 133, 3) := dk_181 0 133 (dk_at dksX6_init_12 12 rfl rfl)
theorem dX6_init_294 : decode cX6_init 294 = .ok (.aload_n 0, 1) := dk_42 (dk_at dksX6_init_12 15 rfl rfl)
theorem dX6_init_295 : decode cX6_init 295 = .ok (.iconst 0, 1) := dk_3 (dk_at dksX6_init_12 16 rfl rfl)
theorem dX6_init_296 : decode cX6_init 296 = .ok (.putfield 136, 3) := dk_181 0 136 (dk_at dksX6_init_12 17 rfl rfl)
theorem dX6_init_299 : decode cX6_init 299 = .ok (.aload_n 0, 1) := dk_42 (dk_at dksX6_init_12 20 rfl rfl)
theorem dX6_init_300 : decode cX6_init 300 = .ok (.ldc 99, 2) := dk_18 99 (dk_at dksX6_init_12 21 rfl rfl)
theorem dX6_init_302 : decode cX6_init 302 = .ok (.newarray .boolean, 2) := dk_188_4 (dk_at dksX6_init_13 0 rfl rfl)
theorem dX6_init_304 : decode cX6_init 304 = .ok (.putfield 139, 3) := dk_181 0 139 (dk_at dksX6_init_13 2 rfl rfl)
theorem dX6_init_307 : decode cX6_init 307 = .ok (.aload_n 0, 1) := dk_42 (dk_at dksX6_init_13 5 rfl rfl)
theorem dX6_init_308 : decode cX6_init 308 = .ok (.iconst 0, 1) := dk_3 (dk_at dksX6_init_13 6 rfl rfl)
theorem dX6_init_309 : decode cX6_init 309 = .ok (.putfield 142, 3) := dk_181 0 142 (dk_at dksX6_init_13 7 rfl rfl)
theorem dX6_init_312 : decode cX6_init 312 = .ok (.aload_n 0, 1) := dk_42 (dk_at dksX6_init_13 10 rfl rfl)
theorem dX6_init_313 : decode cX6_init 313 = .ok (.ldc 99, 2) := dk_18 99 (dk_at dksX6_init_13 11 rfl rfl)
theorem dX6_init_315 : decode cX6_init 315 = .ok (.newarray .int, 2) := dk_188_10 (dk_at dksX6_init_13 13 rfl rfl)
theorem dX6_init_317 : decode cX6_init 317 = .ok (.putfield 145, 3) := dk_181 0 145 (dk_at dksX6_init_13 15 rfl rfl)
theorem dX6_init_320 : decode cX6_init 320 = .ok (.aload_n 0, 1) := dk_42 (dk_at dksX6_init_13 18 rfl rfl)
theorem dX6_init_321 : decode cX6_init 321 = .ok (.ldc 99, 2) := dk_18 99 (dk_at dksX6_init_13 19 rfl rfl)
theorem dX6_init_323 : decode cX6_init 323 = .ok (.newarray .int, 2) := dk_188_10 (dk_at dksX6_init_13 21 rfl rfl)
theorem dX6_init_325 : decode cX6_init 325 = .ok (.putfield 148, 3) := dk_181 0 148 (dk_at dksX6_init_14 0 rfl rfl)
theorem dX6_init_328 : decode cX6_init 328 = .ok (.aload_n 0, 1) := dk_42 (dk_at dksX6_init_14 3 rfl rfl)
theorem dX6_init_329 : decode cX6_init 329 = .ok (.ldc 99, 2) := dk_18 99 (dk_at dksX6_init_14 4 rfl rfl)
theorem dX6_init_331 : decode cX6_init 331 = .ok (.newarray .int, 2) := dk_188_10 (dk_at dksX6_init_14 6 rfl rfl)
theorem dX6_init_333 : decode cX6_init 333 = .ok (.putfield 151, 3) := dk_181 0 151 (dk_at dksX6_init_14 8 rfl rfl)
theorem dX6_init_336 : decode cX6_init 336 = .ok (.aload_n 0, 1) := dk_42 (dk_at dksX6_init_14 11 rfl rfl)
theorem dX6_init_337 : decode cX6_init 337 = .ok (.sipush 6000, 3) := dk_17 23 112 (dk_at dksX6_init_14 12 rfl rfl)
theorem dX6_init_340 : decode cX6_init 340 = .ok (.newarray .int, 2) := dk_188_10 (dk_at dksX6_init_14 15 rfl rfl)
theorem dX6_init_342 : decode cX6_init 342 = .ok (.putfield 154, 3) := dk_181 0 154 (dk_at dksX6_init_14 17 rfl rfl)
theorem dX6_init_345 : decode cX6_init 345 = .ok (.aload_n 0, 1) := dk_42 (dk_at dksX6_init_14 20 rfl rfl)
theorem dX6_init_346 : decode cX6_init 346 = .ok (.sipush 6000, 3) := dk_17 23 112 (dk_at dksX6_init_14 21 rfl rfl)
theorem dX6_init_349 : decode cX6_init 349 = .ok (.newarray .int, 2) := dk_188_10 (dk_at dksX6_init_15 0 rfl rfl)
theorem dX6_init_351 : decode cX6_init 351 = .ok (.putfield 157, 3) := dk_181 0 157 (dk_at dksX6_init_15 2 rfl rfl)
theorem dX6_init_354 : decode cX6_init 354 = .ok (.aload_n 0, 1) := dk_42 (dk_at dksX6_init_15 5 rfl rfl)
theorem dX6_init_355 : decode cX6_init 355 = .ok (.bipush 60, 2) := dk_16 60 (dk_at dksX6_init_15 6 rfl rfl)
theorem dX6_init_357 : decode cX6_init 357 = .ok (.newarray .int, 2) := dk_188_10 (dk_at dksX6_init_15 8 rfl rfl)
theorem dX6_init_359 : decode cX6_init 359 = .ok (.putfield 160, 3) := dk_181 0 160 (dk_at dksX6_init_15 10 rfl rfl)
theorem dX6_init_362 : decode cX6_init 362 = .ok (.aload_n 0, 1) := dk_42 (dk_at dksX6_init_15 13 rfl rfl)
theorem dX6_init_363 : decode cX6_init 363 = .ok (.iconst (-1), 1) := dk_2 (dk_at dksX6_init_15 14 rfl rfl)
theorem dX6_init_364 : decode cX6_init 364 = .ok (.putfield 163, 3) := dk_181 0 163 (dk_at dksX6_init_15 15 rfl rfl)
theorem dX6_init_367 : decode cX6_init 367 = .ok (.aload_n 0, 1) := dk_42 (dk_at dksX6_init_15 18 rfl rfl)
theorem dX6_init_368 : decode cX6_init 368 = .ok (.iconst 0, 1) := dk_3 (dk_at dksX6_init_15 19 rfl rfl)
theorem dX6_init_369 : decode cX6_init 369 = .ok (.putfield 166, 3) := dk_181 0 166 (dk_at dksX6_init_15 20 rfl rfl)
theorem dX6_init_372 : decode cX6_init 372 = .ok (.aload_n 0, 1) := dk_42 (dk_at dksX6_init_15 23 rfl rfl)
theorem dX6_init_373 : decode cX6_init 373 = .ok (.iconst 0, 1) := dk_3 (dk_at dksX6_init_16 0 rfl rfl)
theorem dX6_init_374 : decode cX6_init 374 = .ok (.putfield 169, 3) := dk_181 0 169 (dk_at dksX6_init_16 1 rfl rfl)
theorem dX6_init_377 : decode cX6_init 377 = .ok (.aload_n 0, 1) := dk_42 (dk_at dksX6_init_16 4 rfl rfl)
theorem dX6_init_378 : decode cX6_init 378 = .ok (.iconst 0, 1) := dk_3 (dk_at dksX6_init_16 5 rfl rfl)
theorem dX6_init_379 : decode cX6_init 379 = .ok (.putfield 172, 3) := dk_181 0 172 (dk_at dksX6_init_16 6 rfl rfl)
theorem dX6_init_382 : decode cX6_init 382 = .ok (.aload_n 0, 1) := dk_42 (dk_at dksX6_init_16 9 rfl rfl)
theorem dX6_init_383 : decode cX6_init 383 = .ok (.iconst 0, 1) := dk_3 (dk_at dksX6_init_16 10 rfl rfl)
theorem dX6_init_384 : decode cX6_init 384 = .ok (.putfield 175, 3) := dk_181 0 175 (dk_at dksX6_init_16 11 rfl rfl)
theorem dX6_init_387 : decode cX6_init 387 = .ok (.aload_n 0, 1) := dk_42 (dk_at dksX6_init_16 14 rfl rfl)
theorem dX6_init_388 : decode cX6_init 388 = .ok (.iconst 0, 1) := dk_3 (dk_at dksX6_init_16 15 rfl rfl)
theorem dX6_init_389 : decode cX6_init 389 = .ok (.putfield 178, 3) := dk_181 0 178 (dk_at dksX6_init_16 16 rfl rfl)
theorem dX6_init_392 : decode cX6_init 392 = .ok (.aload_n 0, 1) := dk_42 (dk_at dksX6_init_16 19 rfl rfl)
theorem dX6_init_393 : decode cX6_init 393 = .ok (.iconst 0, 1) := dk_3 (dk_at dksX6_init_16 20 rfl rfl)
theorem dX6_init_394 : decode cX6_init 394 = .ok (.putfield 181, 3) := dk_181 0 181 (dk_at dksX6_init_16 21 rfl rfl)
theorem dX6_init_397 : decode cX6_init 397 = .ok (.aload_n 0, 1) := dk_42 (dk_at dksX6_init_17 0 rfl rfl)
theorem dX6_init_398 : decode cX6_init 398 = .ok (.sipush 3200, 3) := dk_17 12 128 (dk_at dksX6_init_17 1 rfl rfl)
theorem dX6_init_401 : decode cX6_init 401 = .ok (.newarray .int, 2) := dk_188_10 (dk_at dksX6_init_17 4 rfl rfl)
theorem dX6_init_403 : decode cX6_init 403 = .ok (.putfield 184, 3) := dk_181 0 184 (dk_at dksX6_init_17 6 rfl rfl)
theorem dX6_init_406 : decode cX6_init 406 = .ok (.aload_n 0, 1) := dk_42 (dk_at dksX6_init_17 9 rfl rfl)
theorem dX6_init_407 : decode cX6_init 407 = .ok (.sipush 3200, 3) := dk_17 12 128 (dk_at dksX6_init_17 10 rfl rfl)
theorem dX6_init_410 : decode cX6_init 410 = .ok (.newarray .int, 2) := dk_188_10 (dk_at dksX6_init_17 13 rfl rfl)
theorem dX6_init_412 : decode cX6_init 412 = .ok (.putfield 187, 3) := dk_181 0 187 (dk_at dksX6_init_17 15 rfl rfl)
theorem dX6_init_415 : decode cX6_init 415 = .ok (.aload_n 0, 1) := dk_42 (dk_at dksX6_init_17 18 rfl rfl)
theorem dX6_init_416 : decode cX6_init 416 = .ok (.sipush 3200, 3) := dk_17 12 128 (dk_at dksX6_init_17 19 rfl rfl)
theorem dX6_init_419 : decode cX6_init 419 = .ok (.newarray .int, 2) := dk_188_10 (dk_at dksX6_init_17 22 rfl rfl)
theorem dX6_init_421 : decode cX6_init 421 = .ok (.putfield 190, 3) := dk_181 0 190 (dk_at dksX6_init_18 0 rfl rfl)
theorem dX6_init_424 : decode cX6_init 424 = .ok (.aload_n 0, 1) := dk_42 (dk_at dksX6_init_18 3 rfl rfl)
theorem dX6_init_425 : decode cX6_init 425 = .ok (.sipush 3200, 3) := dk_17 12 128 (dk_at dksX6_init_18 4 rfl rfl)
theorem dX6_init_428 : decode cX6_init 428 = .ok (.newarray .int, 2) := dk_188_10 (dk_at dksX6_init_18 7 rfl rfl)
theorem dX6_init_430 : decode cX6_init 430 = .ok (.putfield 193, 3) := dk_181 0 193 (dk_at dksX6_init_18 9 rfl rfl)
theorem dX6_init_433 : decode cX6_init 433 = .ok (.aload_n 0, 1) := dk_42 (dk_at dksX6_init_18 12 rfl rfl)
theorem dX6_init_434 : decode cX6_init 434 = .ok (.sipush 3200, 3) := dk_17 12 128 (dk_at dksX6_init_18 13 rfl rfl)
theorem dX6_init_437 : decode cX6_init 437 = .ok (.newarray .int, 2) := dk_188_10 (dk_at dksX6_init_18 16 rfl rfl)
theorem dX6_init_439 : decode cX6_init 439 = .ok (.putfield 196, 3) := dk_181 0 196 (dk_at dksX6_init_18 18 rfl rfl)
theorem dX6_init_442 : decode cX6_init 442 = .ok (.aload_n 0, 1) := dk_42 (dk_at dksX6_init_18 21 rfl rfl)
theorem dX6_init_443 : decode cX6_init 443 = .ok (.sipush 3200, 3) := dk_17 12 128 (dk_at dksX6_init_19 0 rfl rfl)
theorem dX6_init_446 : decode cX6_init 446 = .ok (.newarray .int, 2) := dk_188_10 (dk_at dksX6_init_19 3 rfl rfl)
theorem dX6_init_448 : decode cX6_init 448 = .ok (.putfield 199, 3) := dk_181 0 199 (dk_at dksX6_init_19 5 rfl rfl)
theorem dX6_init_451 : decode cX6_init 451 = .ok (.aload_n 0, 1) := dk_42 (dk_at dksX6_init_19 8 rfl rfl)
theorem dX6_init_452 : decode cX6_init 452 = .ok (.sipush 3200, 3) := dk_17 12 128 (dk_at dksX6_init_19 9 rfl rfl)
theorem dX6_init_455 : decode cX6_init 455 = .ok (.newarray .int, 2) := dk_188_10 (dk_at dksX6_init_19 12 rfl rfl)
theorem dX6_init_457 : decode cX6_init 457 = .ok (.putfield 202, 3) := dk_181 0 202 (dk_at dksX6_init_19 14 rfl rfl)
theorem dX6_init_460 : decode cX6_init 460 = .ok (.aload_n 0, 1) := dk_42 (dk_at dksX6_init_19 17 rfl rfl)
theorem dX6_init_461 : decode cX6_init 461 = .ok (.sipush 6100, 3) := dk_17 23 212 (dk_at dksX6_init_19 18 rfl rfl)
theorem dX6_init_464 : decode cX6_init 464 = .ok (.newarray .int, 2) := dk_188_10 (dk_at dksX6_init_19 21 rfl rfl)
theorem dX6_init_466 : decode cX6_init 466 = .ok (.putfield 205, 3) := dk_181 0 205 (dk_at dksX6_init_20 0 rfl rfl)
theorem dX6_init_469 : decode cX6_init 469 = .ok (.aload_n 0, 1) := dk_42 (dk_at dksX6_init_20 3 rfl rfl)
theorem dX6_init_470 : decode cX6_init 470 = .ok (.sipush 6100, 3) := dk_17 23 212 (dk_at dksX6_init_20 4 rfl rfl)
theorem dX6_init_473 : decode cX6_init 473 = .ok (.newarray .int, 2) := dk_188_10 (dk_at dksX6_init_20 7 rfl rfl)
theorem dX6_init_475 : decode cX6_init 475 = .ok (.putfield 208, 3) := dk_181 0 208 (dk_at dksX6_init_20 9 rfl rfl)
theorem dX6_init_478 : decode cX6_init 478 = .ok (.aload_n 0, 1) := dk_42 (dk_at dksX6_init_20 12 rfl rfl)
theorem dX6_init_479 : decode cX6_init 479 = .ok (.sipush 6101, 3) := dk_17 23 213 (dk_at dksX6_init_20 13 rfl rfl)
theorem dX6_init_482 : decode cX6_init 482 = .ok (.newarray .int, 2) := dk_188_10 (dk_at dksX6_init_20 16 rfl rfl)
theorem dX6_init_484 : decode cX6_init 484 = .ok (.putfield 211, 3) := dk_181 0 211 (dk_at dksX6_init_20 18 rfl rfl)
theorem dX6_init_487 : decode cX6_init 487 = .ok (.aload_n 0, 1) := dk_42 (dk_at dksX6_init_20 21 rfl rfl)
theorem dX6_init_488 : decode cX6_init 488 = .ok (.ldc 214, 2) := dk_18 214 (dk_at dksX6_init_20 22 rfl rfl)
theorem dX6_init_490 : decode cX6_init 490 = .ok (.newarray .int, 2) := dk_188_10 (dk_at dksX6_init_21 0 rfl rfl)
theorem dX6_init_492 : decode cX6_init 492 = .ok (.putfield 215, 3) := dk_181 0 215 (dk_at dksX6_init_21 2 rfl rfl)
theorem dX6_init_495 : decode cX6_init 495 = .ok (.aload_n 0, 1) := dk_42 (dk_at dksX6_init_21 5 rfl rfl)
theorem dX6_init_496 : decode cX6_init 496 = .ok (.iconst 0, 1) := dk_3 (dk_at dksX6_init_21 6 rfl rfl)
theorem dX6_init_497 : decode cX6_init 497 = .ok (.putfield 218, 3) := dk_181 0 218 (dk_at dksX6_init_21 7 rfl rfl)
theorem dX6_init_500 : decode cX6_init 500 = .ok (.aload_n 0, 1) := dk_42 (dk_at dksX6_init_21 10 rfl rfl)
theorem dX6_init_501 : decode cX6_init 501 = .ok (.sipush 6100, 3) := dk_17 23 212 (dk_at dksX6_init_21 11 rfl rfl)
theorem dX6_init_504 : decode cX6_init 504 = .ok (.newarray .boolean, 2) := dk_188_4 (dk_at dksX6_init_21 14 rfl rfl)
theorem dX6_init_506 : decode cX6_init 506 = .ok (.putfield 221, 3) := dk_181 0 221 (dk_at dksX6_init_21 16 rfl rfl)
theorem dX6_init_509 : decode cX6_init 509 = .ok (.aload_n 0, 1) := dk_42 (dk_at dksX6_init_21 19 rfl rfl)
theorem dX6_init_510 : decode cX6_init 510 = .ok (.sipush 6100, 3) := dk_17 23 212 (dk_at dksX6_init_21 20 rfl rfl)
theorem dX6_init_513 : decode cX6_init 513 = .ok (.newarray .int, 2) := dk_188_10 (dk_at dksX6_init_22 0 rfl rfl)
theorem dX6_init_515 : decode cX6_init 515 = .ok (.putfield 224, 3) := dk_181 0 224 (dk_at dksX6_init_22 2 rfl rfl)
theorem dX6_init_518 : decode cX6_init 518 = .ok (.aload_n 0, 1) := dk_42 (dk_at dksX6_init_22 5 rfl rfl)
theorem dX6_init_519 : decode cX6_init 519 = .ok (.sipush 6100, 3) := dk_17 23 212 (dk_at dksX6_init_22 6 rfl rfl)
theorem dX6_init_522 : decode cX6_init 522 = .ok (.newarray .int, 2) := dk_188_10 (dk_at dksX6_init_22 9 rfl rfl)
theorem dX6_init_524 : decode cX6_init 524 = .ok (.putfield 227, 3) := dk_181 0 227 (dk_at dksX6_init_22 11 rfl rfl)
theorem dX6_init_527 : decode cX6_init 527 = .ok (.aload_n 0, 1) := dk_42 (dk_at dksX6_init_22 14 rfl rfl)
theorem dX6_init_528 : decode cX6_init 528 = .ok (.sipush 6100, 3) := dk_17 23 212 (dk_at dksX6_init_22 15 rfl rfl)
theorem dX6_init_531 : decode cX6_init 531 = .ok (.newarray .boolean, 2) := dk_188_4 (dk_at dksX6_init_22 18 rfl rfl)
theorem dX6_init_533 : decode cX6_init 533 = .ok (.putfield 230, 3) := dk_181 0 230 (dk_at dksX6_init_22 20 rfl rfl)
theorem dX6_init_536 : decode cX6_init 536 = .ok (.aload_n 0, 1) := dk_42 (dk_at dksX6_init_22 23 rfl rfl)
theorem dX6_init_537 : decode cX6_init 537 = .ok (.iconst 0, 1) := dk_3 (dk_at dksX6_init_23 0 rfl rfl)
theorem dX6_init_538 : decode cX6_init 538 = .ok (.putfield 233, 3) := dk_181 0 233 (dk_at dksX6_init_23 1 rfl rfl)
theorem dX6_init_541 : decode cX6_init 541 = .ok (.aload_n 0, 1) := dk_42 (dk_at dksX6_init_23 4 rfl rfl)
theorem dX6_init_542 : decode cX6_init 542 = .ok (.bipush 100, 2) := dk_16 100 (dk_at dksX6_init_23 5 rfl rfl)
theorem dX6_init_544 : decode cX6_init 544 = .ok (.newarray .int, 2) := dk_188_10 (dk_at dksX6_init_23 7 rfl rfl)
theorem dX6_init_546 : decode cX6_init 546 = .ok (.putfield 236, 3) := dk_181 0 236 (dk_at dksX6_init_23 9 rfl rfl)
theorem dX6_init_549 : decode cX6_init 549 = .ok (.aload_n 0, 1) := dk_42 (dk_at dksX6_init_23 12 rfl rfl)
theorem dX6_init_550 : decode cX6_init 550 = .ok (.sipush 6100, 3) := dk_17 23 212 (dk_at dksX6_init_23 13 rfl rfl)
theorem dX6_init_553 : decode cX6_init 553 = .ok (.newarray .int, 2) := dk_188_10 (dk_at dksX6_init_23 16 rfl rfl)
theorem dX6_init_555 : decode cX6_init 555 = .ok (.putfield 239, 3) := dk_181 0 239 (dk_at dksX6_init_23 18 rfl rfl)
theorem dX6_init_558 : decode cX6_init 558 = .ok (.aload_n 0, 1) := dk_42 (dk_at dksX6_init_23 21 rfl rfl)
theorem dX6_init_559 : decode cX6_init 559 = .ok (.sipush 6600, 3) := dk_17 25 200 (dk_at dksX6_init_24 0 rfl rfl)
theorem dX6_init_562 : decode cX6_init 562 = .ok (.newarray .int, 2) := dk_188_10 (dk_at dksX6_init_24 3 rfl rfl)
theorem dX6_init_564 : decode cX6_init 564 = .ok (.putfield 242, 3) := dk_181 0 242 (dk_at dksX6_init_24 5 rfl rfl)
theorem dX6_init_567 : decode cX6_init 567 = .ok (.aload_n 0, 1) := dk_42 (dk_at dksX6_init_24 8 rfl rfl)
theorem dX6_init_568 : decode cX6_init 568 = .ok (.sipush 6600, 3) := dk_17 25 200 (dk_at dksX6_init_24 9 rfl rfl)
theorem dX6_init_571 : decode cX6_init 571 = .ok (.newarray .int, 2) := dk_188_10 (dk_at dksX6_init_24 12 rfl rfl)
theorem dX6_init_573 : decode cX6_init 573 = .ok (.putfield 245, 3) := dk_181 0 245 (dk_at dksX6_init_24 14 rfl rfl)
theorem dX6_init_576 : decode cX6_init 576 = .ok (.aload_n 0, 1) := dk_42 (dk_at dksX6_init_24 17 rfl rfl)
theorem dX6_init_577 : decode cX6_init 577 = .ok (.ldc 99, 2) := dk_18 99 (dk_at dksX6_init_24 18 rfl rfl)
theorem dX6_init_579 : decode cX6_init 579 = .ok (.newarray .int, 2) := dk_188_10 (dk_at dksX6_init_24 20 rfl rfl)
theorem dX6_init_581 : decode cX6_init 581 = .ok (.putfield 248, 3) := dk_181 0 248 (dk_at dksX6_init_25 0 rfl rfl)
theorem dX6_init_584 : decode cX6_init 584 = .ok (.aload_n 0, 1) := dk_42 (dk_at dksX6_init_25 3 rfl rfl)
theorem dX6_init_585 : decode cX6_init 585 = .ok (.sipush 6100, 3) := dk_17 23 212 (dk_at dksX6_init_25 4 rfl rfl)
theorem dX6_init_588 : decode cX6_init 588 = .ok (.newarray .boolean, 2) := dk_188_4 (dk_at dksX6_init_25 7 rfl rfl)
theorem dX6_init_590 : decode cX6_init 590 = .ok (.putfield 251, 3) := dk_181 0 251 (dk_at dksX6_init_25 9 rfl rfl)
theorem dX6_init_593 : decode cX6_init 593 = .ok (.aload_n 0, 1) := dk_42 (dk_at dksX6_init_25 12 rfl rfl)
theorem dX6_init_594 : decode cX6_init 594 = .ok (.sipush 6600, 3) := dk_17 25 200 (dk_at dksX6_init_25 13 rfl rfl)
theorem dX6_init_597 : decode cX6_init 597 = .ok (.newarray .int, 2) := dk_188_10 (dk_at dksX6_init_25 16 rfl rfl)
theorem dX6_init_599 : decode cX6_init 599 = .ok (.putfield 254, 3) := dk_181 0 254 (dk_at dksX6_init_25 18 rfl rfl)
theorem dX6_init_602 : decode cX6_init 602 = .ok (.aload_n 0, 1) := dk_42 (dk_at dksX6_init_25 21 rfl rfl)
theorem dX6_init_603 : decode cX6_init 603 = .ok (.sipush 6100, 3) := dk_17 23 212 (dk_at dksX6_init_26 0 rfl rfl)
theorem dX6_init_606 : decode cX6_init 606 = .ok (.newarray .int, 2) := dk_188_10 (dk_at dksX6_init_26 3 rfl rfl)
theorem dX6_init_608 : decode cX6_init 608 = .ok (.putfield 257, 3) := dk_181 1 1 (dk_at dksX6_init_26 5 rfl rfl)
theorem dX6_init_611 : decode cX6_init 611 = .ok (.aload_n 0, 1) := dk_42 (dk_at dksX6_init_26 8 rfl rfl)
theorem dX6_init_612 : decode cX6_init 612 = .ok (.sipush 6100, 3) := dk_17 23 212 (dk_at dksX6_init_26 9 rfl rfl)
theorem dX6_init_615 : decode cX6_init 615 = .ok (.newarray .boolean, 2) := dk_188_4 (dk_at dksX6_init_26 12 rfl rfl)
theorem dX6_init_617 : decode cX6_init 617 = .ok (.putfield 260, 3) := dk_181 1 4 (dk_at dksX6_init_26 14 rfl rfl)
theorem dX6_init_620 : decode cX6_init 620 = .ok (.aload_n 0, 1) := dk_42 (dk_at dksX6_init_26 17 rfl rfl)
theorem dX6_init_621 : decode cX6_init 621 = .ok (.iconst 0, 1) := dk_3 (dk_at dksX6_init_26 18 rfl rfl)
theorem dX6_init_622 : decode cX6_init 622 = .ok (.putfield 263, 3) := dk_181 1 7 (dk_at dksX6_init_26 19 rfl rfl)
theorem dX6_init_625 : decode cX6_init 625 = .ok (.aload_n 0, 1) := dk_42 (dk_at dksX6_init_26 22 rfl rfl)
theorem dX6_init_626 : decode cX6_init 626 = .ok (.iconst 0, 1) := dk_3 (dk_at dksX6_init_26 23 rfl rfl)
theorem dX6_init_627 : decode cX6_init 627 = .ok (.putfield 266, 3) := dk_181 1 10 (dk_at dksX6_init_27 0 rfl rfl)
theorem dX6_init_630 : decode cX6_init 630 = .ok (.return_, 1) := dk_177 (dk_at dksX6_init_27 3 rfl rfl)
abbrev cX6_thrown : ByteArray := prog_26_method_2_code
def yX6_thrown : MethodName := ⟨RX6, "thrown", "()I"⟩
theorem dX6_thrown_0 : decode cX6_thrown 0 = .ok (.aload_n 0, 1) := by decide +kernel
theorem dX6_thrown_1 : decode cX6_thrown 1 = .ok (.getfield 18, 3) := by decide +kernel
theorem dX6_thrown_4 : decode cX6_thrown 4 = .ok (.ireturn, 1) := by decide +kernel
abbrev cX6_feed : ByteArray := prog_26_method_4_code
def yX6_feed : MethodName := ⟨RX6, "feed", "(IIIII)I"⟩
def dkwX6_feed_5 : List UInt8 := [84, 132, 6, 1, 167, 255, 168, 42, 180, 0, 14, 172]
abbrev dktX6_feed_5 : List UInt8 := dkwX6_feed_5 ++ []
def dkwX6_feed_4 : List UInt8 := [89, 180, 0, 14, 90, 4, 96, 181, 0, 14, 21, 7, 16, 24, 16, 8, 21, 6, 7, 112, 104, 100, 124, 145]
abbrev dktX6_feed_4 : List UInt8 := dkwX6_feed_4 ++ dktX6_feed_5
def dkwX6_feed_3 : List UInt8 := [167, 0, 17, 21, 6, 16, 16, 162, 0, 8, 21, 4, 167, 0, 5, 21, 5, 54, 7, 42, 180, 0, 8, 42]
abbrev dktX6_feed_3 : List UInt8 := dkwX6_feed_3 ++ dktX6_feed_4
def dkwX6_feed_2 : List UInt8 := [27, 167, 0, 39, 21, 6, 16, 8, 162, 0, 7, 28, 167, 0, 28, 21, 6, 16, 12, 162, 0, 7, 29]
abbrev dktX6_feed_2 : List UInt8 := dkwX6_feed_2 ++ dktX6_feed_3
def dkwX6_feed_1 : List UInt8 := [182, 1, 14, 153, 0, 5, 3, 172, 3, 54, 6, 21, 6, 16, 20, 162, 0, 87, 21, 6, 7, 162, 0, 7]
abbrev dktX6_feed_1 : List UInt8 := dkwX6_feed_1 ++ dktX6_feed_2
def dkwX6_feed_0 : List UInt8 := [42, 3, 181, 0, 18, 42, 4, 42, 180, 0, 14, 19, 1, 13, 164, 0, 7, 4, 167, 0, 4, 3]
abbrev dktX6_feed_0 : List UInt8 := dkwX6_feed_0 ++ dktX6_feed_1
theorem dksX6_feed_0 : cX6_feed.data.toList.drop 0 = dktX6_feed_0 := by decide +kernel
theorem dksX6_feed_1 : cX6_feed.data.toList.drop 22 = dktX6_feed_1 := dk_seg dksX6_feed_0 22 rfl rfl
theorem dksX6_feed_2 : cX6_feed.data.toList.drop 46 = dktX6_feed_2 := dk_seg dksX6_feed_1 24 rfl rfl
theorem dksX6_feed_3 : cX6_feed.data.toList.drop 69 = dktX6_feed_3 := dk_seg dksX6_feed_2 23 rfl rfl
theorem dksX6_feed_4 : cX6_feed.data.toList.drop 93 = dktX6_feed_4 := dk_seg dksX6_feed_3 24 rfl rfl
theorem dksX6_feed_5 : cX6_feed.data.toList.drop 117 = dktX6_feed_5 := dk_seg dksX6_feed_4 24 rfl rfl
theorem dX6_feed_0 : decode cX6_feed 0 = .ok (.aload_n 0, 1) := dk_42 (dk_at dksX6_feed_0 0 rfl rfl)
theorem dX6_feed_1 : decode cX6_feed 1 = .ok (.iconst 0, 1) := dk_3 (dk_at dksX6_feed_0 1 rfl rfl)
theorem dX6_feed_2 : decode cX6_feed 2 = .ok (.putfield 18, 3) := dk_181 0 18 (dk_at dksX6_feed_0 2 rfl rfl)
theorem dX6_feed_5 : decode cX6_feed 5 = .ok (.aload_n 0, 1) := dk_42 (dk_at dksX6_feed_0 5 rfl rfl)
theorem dX6_feed_6 : decode cX6_feed 6 = .ok (.iconst 1, 1) := dk_4 (dk_at dksX6_feed_0 6 rfl rfl)
theorem dX6_feed_7 : decode cX6_feed 7 = .ok (.aload_n 0, 1) := dk_42 (dk_at dksX6_feed_0 7 rfl rfl)
theorem dX6_feed_8 : decode cX6_feed 8 = .ok (.getfield 14, 3) := dk_180 0 14 (dk_at dksX6_feed_0 8 rfl rfl)
theorem dX6_feed_11 : decode cX6_feed 11 = .ok (.ldc_w 269, 3) := dk_19 1 13 (dk_at dksX6_feed_0 11 rfl rfl)
theorem dX6_feed_14 : decode cX6_feed 14 = .ok (.if_icmp .le 7, 3) := dk_164 0 7 (dk_at dksX6_feed_0 14 rfl rfl)
theorem dX6_feed_17 : decode cX6_feed 17 = .ok (.iconst 1, 1) := dk_4 (dk_at dksX6_feed_0 17 rfl rfl)
theorem dX6_feed_18 : decode cX6_feed 18 = .ok (.goto 4, 3) := dk_167 0 4 (dk_at dksX6_feed_0 18 rfl rfl)
theorem dX6_feed_21 : decode cX6_feed 21 = .ok (.iconst 0, 1) := dk_3 (dk_at dksX6_feed_0 21 rfl rfl)
theorem dX6_feed_22 : decode cX6_feed 22 = .ok (.invokevirtual 270, 3) := dk_182 1 14 (dk_at dksX6_feed_1 0 rfl rfl)
theorem dX6_feed_25 : decode cX6_feed 25 = .ok (.ifCond .eq 5, 3) := dk_153 0 5 (dk_at dksX6_feed_1 3 rfl rfl)
theorem dX6_feed_28 : decode cX6_feed 28 = .ok (.iconst 0, 1) := dk_3 (dk_at dksX6_feed_1 6 rfl rfl)
theorem dX6_feed_29 : decode cX6_feed 29 = .ok (.ireturn, 1) := dk_172 (dk_at dksX6_feed_1 7 rfl rfl)
theorem dX6_feed_30 : decode cX6_feed 30 = .ok (.iconst 0, 1) := dk_3 (dk_at dksX6_feed_1 8 rfl rfl)
theorem dX6_feed_31 : decode cX6_feed 31 = .ok (.istore 6, 2) := dk_54 6 (dk_at dksX6_feed_1 9 rfl rfl)
theorem dX6_feed_33 : decode cX6_feed 33 = .ok (.iload 6, 2) := dk_21 6 (dk_at dksX6_feed_1 11 rfl rfl)
theorem dX6_feed_35 : decode cX6_feed 35 = .ok (.bipush 20, 2) := dk_16 20 (dk_at dksX6_feed_1 13 rfl rfl)
theorem dX6_feed_37 : decode cX6_feed 37 = .ok (.if_icmp .ge 87, 3) := dk_162 0 87 (dk_at dksX6_feed_1 15 rfl rfl)
theorem dX6_feed_40 : decode cX6_feed 40 = .ok (.iload 6, 2) := dk_21 6 (dk_at dksX6_feed_1 18 rfl rfl)
theorem dX6_feed_42 : decode cX6_feed 42 = .ok (.iconst 4, 1) := dk_7 (dk_at dksX6_feed_1 20 rfl rfl)
theorem dX6_feed_43 : decode cX6_feed 43 = .ok (.if_icmp .ge 7, 3) := dk_162 0 7 (dk_at dksX6_feed_1 21 rfl rfl)
theorem dX6_feed_46 : decode cX6_feed 46 = .ok (.iload_n 1, 1) := dk_27 (dk_at dksX6_feed_2 0 rfl rfl)
theorem dX6_feed_47 : decode cX6_feed 47 = .ok (.goto 39, 3) := dk_167 0 39 (dk_at dksX6_feed_2 1 rfl rfl)
theorem dX6_feed_50 : decode cX6_feed 50 = .ok (.iload 6, 2) := dk_21 6 (dk_at dksX6_feed_2 4 rfl rfl)
theorem dX6_feed_52 : decode cX6_feed 52 = .ok (.bipush 8, 2) := dk_16 8 (dk_at dksX6_feed_2 6 rfl rfl)
theorem dX6_feed_54 : decode cX6_feed 54 = .ok (.if_icmp .ge 7, 3) := dk_162 0 7 (dk_at dksX6_feed_2 8 rfl rfl)
theorem dX6_feed_57 : decode cX6_feed 57 = .ok (.iload_n 2, 1) := dk_28 (dk_at dksX6_feed_2 11 rfl rfl)
theorem dX6_feed_58 : decode cX6_feed 58 = .ok (.goto 28, 3) := dk_167 0 28 (dk_at dksX6_feed_2 12 rfl rfl)
theorem dX6_feed_61 : decode cX6_feed 61 = .ok (.iload 6, 2) := dk_21 6 (dk_at dksX6_feed_2 15 rfl rfl)
theorem dX6_feed_63 : decode cX6_feed 63 = .ok (.bipush 12, 2) := dk_16 12 (dk_at dksX6_feed_2 17 rfl rfl)
theorem dX6_feed_65 : decode cX6_feed 65 = .ok (.if_icmp .ge 7, 3) := dk_162 0 7 (dk_at dksX6_feed_2 19 rfl rfl)
theorem dX6_feed_68 : decode cX6_feed 68 = .ok (.iload_n 3, 1) := dk_29 (dk_at dksX6_feed_2 22 rfl rfl)
theorem dX6_feed_69 : decode cX6_feed 69 = .ok (.goto 17, 3) := dk_167 0 17 (dk_at dksX6_feed_3 0 rfl rfl)
theorem dX6_feed_72 : decode cX6_feed 72 = .ok (.iload 6, 2) := dk_21 6 (dk_at dksX6_feed_3 3 rfl rfl)
theorem dX6_feed_74 : decode cX6_feed 74 = .ok (.bipush 16, 2) := dk_16 16 (dk_at dksX6_feed_3 5 rfl rfl)
theorem dX6_feed_76 : decode cX6_feed 76 = .ok (.if_icmp .ge 8, 3) := dk_162 0 8 (dk_at dksX6_feed_3 7 rfl rfl)
theorem dX6_feed_79 : decode cX6_feed 79 = .ok (.iload 4, 2) := dk_21 4 (dk_at dksX6_feed_3 10 rfl rfl)
theorem dX6_feed_81 : decode cX6_feed 81 = .ok (.goto 5, 3) := dk_167 0 5 (dk_at dksX6_feed_3 12 rfl rfl)
theorem dX6_feed_84 : decode cX6_feed 84 = .ok (.iload 5, 2) := dk_21 5 (dk_at dksX6_feed_3 15 rfl rfl)
theorem dX6_feed_86 : decode cX6_feed 86 = .ok (.istore 7, 2) := dk_54 7 (dk_at dksX6_feed_3 17 rfl rfl)
theorem dX6_feed_88 : decode cX6_feed 88 = .ok (.aload_n 0, 1) := dk_42 (dk_at dksX6_feed_3 19 rfl rfl)
theorem dX6_feed_89 : decode cX6_feed 89 = .ok (.getfield 8, 3) := dk_180 0 8 (dk_at dksX6_feed_3 20 rfl rfl)
theorem dX6_feed_92 : decode cX6_feed 92 = .ok (.aload_n 0, 1) := dk_42 (dk_at dksX6_feed_3 23 rfl rfl)
theorem dX6_feed_93 : decode cX6_feed 93 = .ok (.dup, 1) := dk_89 (dk_at dksX6_feed_4 0 rfl rfl)
theorem dX6_feed_94 : decode cX6_feed 94 = .ok (.getfield 14, 3) := dk_180 0 14 (dk_at dksX6_feed_4 1 rfl rfl)
theorem dX6_feed_97 : decode cX6_feed 97 = .ok (.dup_x1, 1) := dk_90 (dk_at dksX6_feed_4 4 rfl rfl)
theorem dX6_feed_98 : decode cX6_feed 98 = .ok (.iconst 1, 1) := dk_4 (dk_at dksX6_feed_4 5 rfl rfl)
theorem dX6_feed_99 : decode cX6_feed 99 = .ok (.iadd, 1) := dk_96 (dk_at dksX6_feed_4 6 rfl rfl)
theorem dX6_feed_100 : decode cX6_feed 100 = .ok (.putfield 14, 3) := dk_181 0 14 (dk_at dksX6_feed_4 7 rfl rfl)
theorem dX6_feed_103 : decode cX6_feed 103 = .ok (.iload 7, 2) := dk_21 7 (dk_at dksX6_feed_4 10 rfl rfl)
theorem dX6_feed_105 : decode cX6_feed 105 = .ok (.bipush 24, 2) := dk_16 24 (dk_at dksX6_feed_4 12 rfl rfl)
theorem dX6_feed_107 : decode cX6_feed 107 = .ok (.bipush 8, 2) := dk_16 8 (dk_at dksX6_feed_4 14 rfl rfl)
theorem dX6_feed_109 : decode cX6_feed 109 = .ok (.iload 6, 2) := dk_21 6 (dk_at dksX6_feed_4 16 rfl rfl)
theorem dX6_feed_111 : decode cX6_feed 111 = .ok (.iconst 4, 1) := dk_7 (dk_at dksX6_feed_4 18 rfl rfl)
theorem dX6_feed_112 : decode cX6_feed 112 = .ok (.irem, 1) := dk_112 (dk_at dksX6_feed_4 19 rfl rfl)
theorem dX6_feed_113 : decode cX6_feed 113 = .ok (.imul, 1) := dk_104 (dk_at dksX6_feed_4 20 rfl rfl)
theorem dX6_feed_114 : decode cX6_feed 114 = .ok (.isub, 1) := dk_100 (dk_at dksX6_feed_4 21 rfl rfl)
theorem dX6_feed_115 : decode cX6_feed 115 = .ok (.iushr, 1) := dk_124 (dk_at dksX6_feed_4 22 rfl rfl)
theorem dX6_feed_116 : decode cX6_feed 116 = .ok (.i2b, 1) := dk_145 (dk_at dksX6_feed_4 23 rfl rfl)
theorem dX6_feed_117 : decode cX6_feed 117 = .ok (.bastore, 1) := dk_84 (dk_at dksX6_feed_5 0 rfl rfl)
theorem dX6_feed_118 : decode cX6_feed 118 = .ok (.iinc 6 1, 3) := dk_132 6 1 (dk_at dksX6_feed_5 1 rfl rfl)
theorem dX6_feed_121 : decode cX6_feed 121 = .ok (.goto (-88), 3) := dk_167 255 168 (dk_at dksX6_feed_5 4 rfl rfl)
theorem dX6_feed_124 : decode cX6_feed 124 = .ok (.aload_n 0, 1) := dk_42 (dk_at dksX6_feed_5 7 rfl rfl)
theorem dX6_feed_125 : decode cX6_feed 125 = .ok (.getfield 14, 3) := dk_180 0 14 (dk_at dksX6_feed_5 8 rfl rfl)
theorem dX6_feed_128 : decode cX6_feed 128 = .ok (.ireturn, 1) := dk_172 (dk_at dksX6_feed_5 11 rfl rfl)
abbrev cX6_refuse : ByteArray := prog_26_method_3_code
def yX6_refuse : MethodName := ⟨RX6, "refuse", "(IZ)Z"⟩
def dkwX6_refuse_0 : List UInt8 := [28, 153, 0, 8, 42, 27, 181, 0, 18, 28, 172]
abbrev dktX6_refuse_0 : List UInt8 := dkwX6_refuse_0 ++ []
theorem dksX6_refuse_0 : cX6_refuse.data.toList.drop 0 = dktX6_refuse_0 := by decide +kernel
theorem dX6_refuse_0 : decode cX6_refuse 0 = .ok (.iload_n 2, 1) := dk_28 (dk_at dksX6_refuse_0 0 rfl rfl)
theorem dX6_refuse_1 : decode cX6_refuse 1 = .ok (.ifCond .eq 8, 3) := dk_153 0 8 (dk_at dksX6_refuse_0 1 rfl rfl)
theorem dX6_refuse_4 : decode cX6_refuse 4 = .ok (.aload_n 0, 1) := dk_42 (dk_at dksX6_refuse_0 4 rfl rfl)
theorem dX6_refuse_5 : decode cX6_refuse 5 = .ok (.iload_n 1, 1) := dk_27 (dk_at dksX6_refuse_0 5 rfl rfl)
theorem dX6_refuse_6 : decode cX6_refuse 6 = .ok (.putfield 18, 3) := dk_181 0 18 (dk_at dksX6_refuse_0 6 rfl rfl)
theorem dX6_refuse_9 : decode cX6_refuse 9 = .ok (.iload_n 2, 1) := dk_28 (dk_at dksX6_refuse_0 9 rfl rfl)
theorem dX6_refuse_10 : decode cX6_refuse 10 = .ok (.ireturn, 1) := dk_172 (dk_at dksX6_refuse_0 10 rfl rfl)
abbrev cX6_end : ByteArray := prog_26_method_5_code
def yX6_end : MethodName := ⟨RX6, "end", "(I)I"⟩
def dkwX6_end_1 : List UInt8 := [182, 1, 14, 153, 0, 5, 3, 172, 42, 27, 181, 0, 14, 27, 172]
abbrev dktX6_end_1 : List UInt8 := dkwX6_end_1 ++ []
def dkwX6_end_0 : List UInt8 := [42, 3, 181, 0, 18, 42, 4, 27, 155, 0, 11, 27, 42, 180, 0, 14, 164, 0, 7, 4, 167, 0, 4, 3]
abbrev dktX6_end_0 : List UInt8 := dkwX6_end_0 ++ dktX6_end_1
theorem dksX6_end_0 : cX6_end.data.toList.drop 0 = dktX6_end_0 := by decide +kernel
theorem dksX6_end_1 : cX6_end.data.toList.drop 24 = dktX6_end_1 := dk_seg dksX6_end_0 24 rfl rfl
theorem dX6_end_0 : decode cX6_end 0 = .ok (.aload_n 0, 1) := dk_42 (dk_at dksX6_end_0 0 rfl rfl)
theorem dX6_end_1 : decode cX6_end 1 = .ok (.iconst 0, 1) := dk_3 (dk_at dksX6_end_0 1 rfl rfl)
theorem dX6_end_2 : decode cX6_end 2 = .ok (.putfield 18, 3) := dk_181 0 18 (dk_at dksX6_end_0 2 rfl rfl)
theorem dX6_end_5 : decode cX6_end 5 = .ok (.aload_n 0, 1) := dk_42 (dk_at dksX6_end_0 5 rfl rfl)
theorem dX6_end_6 : decode cX6_end 6 = .ok (.iconst 1, 1) := dk_4 (dk_at dksX6_end_0 6 rfl rfl)
theorem dX6_end_7 : decode cX6_end 7 = .ok (.iload_n 1, 1) := dk_27 (dk_at dksX6_end_0 7 rfl rfl)
theorem dX6_end_8 : decode cX6_end 8 = .ok (.ifCond .lt 11, 3) := dk_155 0 11 (dk_at dksX6_end_0 8 rfl rfl)
theorem dX6_end_11 : decode cX6_end 11 = .ok (.iload_n 1, 1) := dk_27 (dk_at dksX6_end_0 11 rfl rfl)
theorem dX6_end_12 : decode cX6_end 12 = .ok (.aload_n 0, 1) := dk_42 (dk_at dksX6_end_0 12 rfl rfl)
theorem dX6_end_13 : decode cX6_end 13 = .ok (.getfield 14, 3) := dk_180 0 14 (dk_at dksX6_end_0 13 rfl rfl)
theorem dX6_end_16 : decode cX6_end 16 = .ok (.if_icmp .le 7, 3) := dk_164 0 7 (dk_at dksX6_end_0 16 rfl rfl)
theorem dX6_end_19 : decode cX6_end 19 = .ok (.iconst 1, 1) := dk_4 (dk_at dksX6_end_0 19 rfl rfl)
theorem dX6_end_20 : decode cX6_end 20 = .ok (.goto 4, 3) := dk_167 0 4 (dk_at dksX6_end_0 20 rfl rfl)
theorem dX6_end_23 : decode cX6_end 23 = .ok (.iconst 0, 1) := dk_3 (dk_at dksX6_end_0 23 rfl rfl)
theorem dX6_end_24 : decode cX6_end 24 = .ok (.invokevirtual 270, 3) := dk_182 1 14 (dk_at dksX6_end_1 0 rfl rfl)
theorem dX6_end_27 : decode cX6_end 27 = .ok (.ifCond .eq 5, 3) := dk_153 0 5 (dk_at dksX6_end_1 3 rfl rfl)
theorem dX6_end_30 : decode cX6_end 30 = .ok (.iconst 0, 1) := dk_3 (dk_at dksX6_end_1 6 rfl rfl)
theorem dX6_end_31 : decode cX6_end 31 = .ok (.ireturn, 1) := dk_172 (dk_at dksX6_end_1 7 rfl rfl)
theorem dX6_end_32 : decode cX6_end 32 = .ok (.aload_n 0, 1) := dk_42 (dk_at dksX6_end_1 8 rfl rfl)
theorem dX6_end_33 : decode cX6_end 33 = .ok (.iload_n 1, 1) := dk_27 (dk_at dksX6_end_1 9 rfl rfl)
theorem dX6_end_34 : decode cX6_end 34 = .ok (.putfield 14, 3) := dk_181 0 14 (dk_at dksX6_end_1 10 rfl rfl)
theorem dX6_end_37 : decode cX6_end 37 = .ok (.iload_n 1, 1) := dk_27 (dk_at dksX6_end_1 13 rfl rfl)
theorem dX6_end_38 : decode cX6_end 38 = .ok (.ireturn, 1) := dk_172 (dk_at dksX6_end_1 14 rfl rfl)
abbrev cX6_read : ByteArray := prog_26_method_60_code
def yX6_read : MethodName := ⟨RX6, "read", "()I"⟩
def dkwX6_read_13 : List UInt8 := [42, 180, 0, 242, 3, 184, 2, 9, 42, 180, 0, 163, 156, 0, 7, 2, 167, 0, 7, 42, 180, 0, 169, 172]
abbrev dktX6_read_13 : List UInt8 := dkwX6_read_13 ++ []
def dkwX6_read_12 : List UInt8 := [181, 0, 21, 42, 43, 180, 2, 6, 181, 0, 24, 42, 3, 181, 0, 14, 42, 180, 0, 236, 3, 184, 2, 9]
abbrev dktX6_read_12 : List UInt8 := dkwX6_read_12 ++ dktX6_read_13
def dkwX6_read_11 : List UInt8 := [42, 182, 2, 0, 42, 42, 180, 0, 68, 4, 100, 181, 0, 163, 167, 0, 20, 76, 42, 43, 180, 2, 3]
abbrev dktX6_read_11 : List UInt8 := dkwX6_read_11 ++ dktX6_read_12
def dkwX6_read_10 : List UInt8 := [42, 27, 182, 1, 253, 132, 1, 1, 167, 255, 240, 42, 180, 0, 211, 42, 180, 0, 169, 42, 180, 0, 218, 79]
abbrev dktX6_read_10 : List UInt8 := dkwX6_read_10 ++ dktX6_read_11
def dkwX6_read_9 : List UInt8 := [180, 0, 160, 42, 180, 0, 68, 4, 100, 46, 96, 181, 0, 181, 3, 60, 27, 42, 180, 0, 169, 162, 0, 14]
abbrev dktX6_read_9 : List UInt8 := dkwX6_read_9 ++ dktX6_read_10
def dkwX6_read_8 : List UInt8 := [183, 1, 42, 191, 42, 42, 180, 0, 68, 4, 100, 2, 2, 182, 1, 218, 87, 42, 89, 180, 0, 181, 42]
abbrev dktX6_read_8 : List UInt8 := dkwX6_read_8 ++ dktX6_read_9
def dkwX6_read_7 : List UInt8 := [42, 180, 0, 68, 4, 100, 46, 96, 17, 117, 48, 164, 0, 16, 187, 1, 40, 89, 6, 42, 180, 0, 14]
abbrev dktX6_read_7 : List UInt8 := dkwX6_read_7 ++ dktX6_read_8
def dkwX6_read_6 : List UInt8 := [180, 0, 160, 42, 180, 0, 68, 4, 100, 46, 17, 11, 184, 163, 0, 25, 42, 180, 0, 181, 42, 180, 0, 160]
abbrev dktX6_read_6 : List UInt8 := dkwX6_read_6 ++ dktX6_read_7
def dkwX6_read_5 : List UInt8 := [180, 0, 68, 162, 0, 19, 42, 27, 182, 1, 247, 42, 27, 182, 1, 250, 132, 1, 1, 167, 255, 235, 42]
abbrev dktX6_read_5 : List UInt8 := dkwX6_read_5 ++ dktX6_read_6
def dkwX6_read_4 : List UInt8 := [3, 181, 0, 233, 42, 3, 181, 1, 10, 42, 182, 1, 245, 42, 182, 1, 36, 154, 255, 248, 3, 60, 27, 42]
abbrev dktX6_read_4 : List UInt8 := dkwX6_read_4 ++ dktX6_read_5
def dkwX6_read_3 : List UInt8 := [181, 0, 169, 42, 3, 181, 0, 172, 42, 3, 181, 0, 175, 42, 3, 181, 0, 178, 42, 3, 181, 0, 218, 42]
abbrev dktX6_read_3 : List UInt8 := dkwX6_read_3 ++ dktX6_read_4
def dkwX6_read_2 : List UInt8 := [180, 0, 93, 3, 3, 79, 42, 3, 181, 0, 136, 42, 2, 181, 0, 163, 42, 3, 181, 0, 166, 42, 3]
abbrev dktX6_read_2 : List UInt8 := dkwX6_read_2 ++ dktX6_read_3
def dkwX6_read_1 : List UInt8 := [181, 0, 24, 42, 3, 181, 0, 68, 42, 3, 181, 0, 71, 42, 3, 181, 0, 106, 42, 3, 181, 0, 109, 42]
abbrev dktX6_read_1 : List UInt8 := dkwX6_read_1 ++ dktX6_read_2
def dkwX6_read_0 : List UInt8 := [42, 3, 181, 0, 18, 42, 3, 181, 0, 27, 42, 3, 181, 0, 39, 42, 3, 181, 0, 21, 42, 3]
abbrev dktX6_read_0 : List UInt8 := dkwX6_read_0 ++ dktX6_read_1
theorem dksX6_read_0 : cX6_read.data.toList.drop 0 = dktX6_read_0 := by decide +kernel
theorem dksX6_read_1 : cX6_read.data.toList.drop 22 = dktX6_read_1 := dk_seg dksX6_read_0 22 rfl rfl
theorem dksX6_read_2 : cX6_read.data.toList.drop 46 = dktX6_read_2 := dk_seg dksX6_read_1 24 rfl rfl
theorem dksX6_read_3 : cX6_read.data.toList.drop 69 = dktX6_read_3 := dk_seg dksX6_read_2 23 rfl rfl
theorem dksX6_read_4 : cX6_read.data.toList.drop 93 = dktX6_read_4 := dk_seg dksX6_read_3 24 rfl rfl
theorem dksX6_read_5 : cX6_read.data.toList.drop 117 = dktX6_read_5 := dk_seg dksX6_read_4 24 rfl rfl
theorem dksX6_read_6 : cX6_read.data.toList.drop 140 = dktX6_read_6 := dk_seg dksX6_read_5 23 rfl rfl
theorem dksX6_read_7 : cX6_read.data.toList.drop 164 = dktX6_read_7 := dk_seg dksX6_read_6 24 rfl rfl
theorem dksX6_read_8 : cX6_read.data.toList.drop 187 = dktX6_read_8 := dk_seg dksX6_read_7 23 rfl rfl
theorem dksX6_read_9 : cX6_read.data.toList.drop 210 = dktX6_read_9 := dk_seg dksX6_read_8 23 rfl rfl
theorem dksX6_read_10 : cX6_read.data.toList.drop 234 = dktX6_read_10 := dk_seg dksX6_read_9 24 rfl rfl
theorem dksX6_read_11 : cX6_read.data.toList.drop 258 = dktX6_read_11 := dk_seg dksX6_read_10 24 rfl rfl
theorem dksX6_read_12 : cX6_read.data.toList.drop 281 = dktX6_read_12 := dk_seg dksX6_read_11 23 rfl rfl
theorem dksX6_read_13 : cX6_read.data.toList.drop 305 = dktX6_read_13 := dk_seg dksX6_read_12 24 rfl rfl
theorem dX6_read_0 : decode cX6_read 0 = .ok (.aload_n 0, 1) := dk_42 (dk_at dksX6_read_0 0 rfl rfl)
theorem dX6_read_1 : decode cX6_read 1 = .ok (.iconst 0, 1) := dk_3 (dk_at dksX6_read_0 1 rfl rfl)
theorem dX6_read_2 : decode cX6_read 2 = .ok (.putfield 18, 3) := dk_181 0 18 (dk_at dksX6_read_0 2 rfl rfl)
theorem dX6_read_5 : decode cX6_read 5 = .ok (.aload_n 0, 1) := dk_42 (dk_at dksX6_read_0 5 rfl rfl)
theorem dX6_read_6 : decode cX6_read 6 = .ok (.iconst 0, 1) := dk_3 (dk_at dksX6_read_0 6 rfl rfl)
theorem dX6_read_7 : decode cX6_read 7 = .ok (.putfield 27, 3) := dk_181 0 27 (dk_at dksX6_read_0 7 rfl rfl)
theorem dX6_read_10 : decode cX6_read 10 = .ok (.aload_n 0, 1) := dk_42 (dk_at dksX6_read_0 10 rfl rfl)
theorem dX6_read_11 : decode cX6_read 11 = .ok (.iconst 0, 1) := dk_3 (dk_at dksX6_read_0 11 rfl rfl)
theorem dX6_read_12 : decode cX6_read 12 = .ok (.putfield 39, 3) := dk_181 0 39 (dk_at dksX6_read_0 12 rfl rfl)
theorem dX6_read_15 : decode cX6_read 15 = .ok (.aload_n 0, 1) := dk_42 (dk_at dksX6_read_0 15 rfl rfl)
theorem dX6_read_16 : decode cX6_read 16 = .ok (.iconst 0, 1) := dk_3 (dk_at dksX6_read_0 16 rfl rfl)
theorem dX6_read_17 : decode cX6_read 17 = .ok (.putfield 21, 3) := dk_181 0 21 (dk_at dksX6_read_0 17 rfl rfl)
theorem dX6_read_20 : decode cX6_read 20 = .ok (.aload_n 0, 1) := dk_42 (dk_at dksX6_read_0 20 rfl rfl)
theorem dX6_read_21 : decode cX6_read 21 = .ok (.iconst 0, 1) := dk_3 (dk_at dksX6_read_0 21 rfl rfl)
theorem dX6_read_22 : decode cX6_read 22 = .ok (.putfield 24, 3) := dk_181 0 24 (dk_at dksX6_read_1 0 rfl rfl)
theorem dX6_read_25 : decode cX6_read 25 = .ok (.aload_n 0, 1) := dk_42 (dk_at dksX6_read_1 3 rfl rfl)
theorem dX6_read_26 : decode cX6_read 26 = .ok (.iconst 0, 1) := dk_3 (dk_at dksX6_read_1 4 rfl rfl)
theorem dX6_read_27 : decode cX6_read 27 = .ok (.putfield 68, 3) := dk_181 0 68 (dk_at dksX6_read_1 5 rfl rfl)
theorem dX6_read_30 : decode cX6_read 30 = .ok (.aload_n 0, 1) := dk_42 (dk_at dksX6_read_1 8 rfl rfl)
theorem dX6_read_31 : decode cX6_read 31 = .ok (.iconst 0, 1) := dk_3 (dk_at dksX6_read_1 9 rfl rfl)
theorem dX6_read_32 : decode cX6_read 32 = .ok (.putfield 71, 3) := dk_181 0 71 (dk_at dksX6_read_1 10 rfl rfl)
theorem dX6_read_35 : decode cX6_read 35 = .ok (.aload_n 0, 1) := dk_42 (dk_at dksX6_read_1 13 rfl rfl)
theorem dX6_read_36 : decode cX6_read 36 = .ok (.iconst 0, 1) := dk_3 (dk_at dksX6_read_1 14 rfl rfl)
theorem dX6_read_37 : decode cX6_read 37 = .ok (.putfield 106, 3) := dk_181 0 106 (dk_at dksX6_read_1 15 rfl rfl)
theorem dX6_read_40 : decode cX6_read 40 = .ok (.aload_n 0, 1) := dk_42 (dk_at dksX6_read_1 18 rfl rfl)
theorem dX6_read_41 : decode cX6_read 41 = .ok (.iconst 0, 1) := dk_3 (dk_at dksX6_read_1 19 rfl rfl)
theorem dX6_read_42 : decode cX6_read 42 = .ok (.putfield 109, 3) := dk_181 0 109 (dk_at dksX6_read_1 20 rfl rfl)
theorem dX6_read_45 : decode cX6_read 45 = .ok (.aload_n 0, 1) := dk_42 (dk_at dksX6_read_1 23 rfl rfl)
theorem dX6_read_46 : decode cX6_read 46 = .ok (.getfield 93, 3) := dk_180 0 93 (dk_at dksX6_read_2 0 rfl rfl)
theorem dX6_read_49 : decode cX6_read 49 = .ok (.iconst 0, 1) := dk_3 (dk_at dksX6_read_2 3 rfl rfl)
theorem dX6_read_50 : decode cX6_read 50 = .ok (.iconst 0, 1) := dk_3 (dk_at dksX6_read_2 4 rfl rfl)
theorem dX6_read_51 : decode cX6_read 51 = .ok (.iastore, 1) := dk_79 (dk_at dksX6_read_2 5 rfl rfl)
theorem dX6_read_52 : decode cX6_read 52 = .ok (.aload_n 0, 1) := dk_42 (dk_at dksX6_read_2 6 rfl rfl)
theorem dX6_read_53 : decode cX6_read 53 = .ok (.iconst 0, 1) := dk_3 (dk_at dksX6_read_2 7 rfl rfl)
theorem dX6_read_54 : decode cX6_read 54 = .ok (.putfield 136, 3) := dk_181 0 136 (dk_at dksX6_read_2 8 rfl rfl)
theorem dX6_read_57 : decode cX6_read 57 = .ok (.aload_n 0, 1) := dk_42 (dk_at dksX6_read_2 11 rfl rfl)
theorem dX6_read_58 : decode cX6_read 58 = .ok (.iconst (-1), 1) := dk_2 (dk_at dksX6_read_2 12 rfl rfl)
theorem dX6_read_59 : decode cX6_read 59 = .ok (.putfield 163, 3) := dk_181 0 163 (dk_at dksX6_read_2 13 rfl rfl)
theorem dX6_read_62 : decode cX6_read 62 = .ok (.aload_n 0, 1) := dk_42 (dk_at dksX6_read_2 16 rfl rfl)
theorem dX6_read_63 : decode cX6_read 63 = .ok (.iconst 0, 1) := dk_3 (dk_at dksX6_read_2 17 rfl rfl)
theorem dX6_read_64 : decode cX6_read 64 = .ok (.putfield 166, 3) := dk_181 0 166 (dk_at dksX6_read_2 18 rfl rfl)
theorem dX6_read_67 : decode cX6_read 67 = .ok (.aload_n 0, 1) := dk_42 (dk_at dksX6_read_2 21 rfl rfl)
theorem dX6_read_68 : decode cX6_read 68 = .ok (.iconst 0, 1) := dk_3 (dk_at dksX6_read_2 22 rfl rfl)
theorem dX6_read_69 : decode cX6_read 69 = .ok (.putfield 169, 3) := dk_181 0 169 (dk_at dksX6_read_3 0 rfl rfl)
theorem dX6_read_72 : decode cX6_read 72 = .ok (.aload_n 0, 1) := dk_42 (dk_at dksX6_read_3 3 rfl rfl)
theorem dX6_read_73 : decode cX6_read 73 = .ok (.iconst 0, 1) := dk_3 (dk_at dksX6_read_3 4 rfl rfl)
theorem dX6_read_74 : decode cX6_read 74 = .ok (.putfield 172, 3) := dk_181 0 172 (dk_at dksX6_read_3 5 rfl rfl)
theorem dX6_read_77 : decode cX6_read 77 = .ok (.aload_n 0, 1) := dk_42 (dk_at dksX6_read_3 8 rfl rfl)
theorem dX6_read_78 : decode cX6_read 78 = .ok (.iconst 0, 1) := dk_3 (dk_at dksX6_read_3 9 rfl rfl)
theorem dX6_read_79 : decode cX6_read 79 = .ok (.putfield 175, 3) := dk_181 0 175 (dk_at dksX6_read_3 10 rfl rfl)
theorem dX6_read_82 : decode cX6_read 82 = .ok (.aload_n 0, 1) := dk_42 (dk_at dksX6_read_3 13 rfl rfl)
theorem dX6_read_83 : decode cX6_read 83 = .ok (.iconst 0, 1) := dk_3 (dk_at dksX6_read_3 14 rfl rfl)
theorem dX6_read_84 : decode cX6_read 84 = .ok (.putfield 178, 3) := dk_181 0 178 (dk_at dksX6_read_3 15 rfl rfl)
theorem dX6_read_87 : decode cX6_read 87 = .ok (.aload_n 0, 1) := dk_42 (dk_at dksX6_read_3 18 rfl rfl)
theorem dX6_read_88 : decode cX6_read 88 = .ok (.iconst 0, 1) := dk_3 (dk_at dksX6_read_3 19 rfl rfl)
theorem dX6_read_89 : decode cX6_read 89 = .ok (.putfield 218, 3) := dk_181 0 218 (dk_at dksX6_read_3 20 rfl rfl)
theorem dX6_read_92 : decode cX6_read 92 = .ok (.aload_n 0, 1) := dk_42 (dk_at dksX6_read_3 23 rfl rfl)
theorem dX6_read_93 : decode cX6_read 93 = .ok (.iconst 0, 1) := dk_3 (dk_at dksX6_read_4 0 rfl rfl)
theorem dX6_read_94 : decode cX6_read 94 = .ok (.putfield 233, 3) := dk_181 0 233 (dk_at dksX6_read_4 1 rfl rfl)
theorem dX6_read_97 : decode cX6_read 97 = .ok (.aload_n 0, 1) := dk_42 (dk_at dksX6_read_4 4 rfl rfl)
theorem dX6_read_98 : decode cX6_read 98 = .ok (.iconst 0, 1) := dk_3 (dk_at dksX6_read_4 5 rfl rfl)
theorem dX6_read_99 : decode cX6_read 99 = .ok (.putfield 266, 3) := dk_181 1 10 (dk_at dksX6_read_4 6 rfl rfl)
theorem dX6_read_102 : decode cX6_read 102 = .ok (.aload_n 0, 1) := dk_42 (dk_at dksX6_read_4 9 rfl rfl)
theorem dX6_read_103 : decode cX6_read 103 = .ok (.invokevirtual 501, 3) := dk_182 1 245 (dk_at dksX6_read_4 10 rfl rfl)
theorem dX6_read_106 : decode cX6_read 106 = .ok (.aload_n 0, 1) := dk_42 (dk_at dksX6_read_4 13 rfl rfl)
theorem dX6_read_107 : decode cX6_read 107 = .ok (.invokevirtual 292, 3) := dk_182 1 36 (dk_at dksX6_read_4 14 rfl rfl)
theorem dX6_read_110 : decode cX6_read 110 = .ok (.ifCond .ne (-8), 3) := dk_154 255 248 (dk_at dksX6_read_4 17 rfl rfl)
theorem dX6_read_113 : decode cX6_read 113 = .ok (.iconst 0, 1) := dk_3 (dk_at dksX6_read_4 20 rfl rfl)
theorem dX6_read_114 : decode cX6_read 114 = .ok (.istore_n 1, 1) := dk_60 (dk_at dksX6_read_4 21 rfl rfl)
theorem dX6_read_115 : decode cX6_read 115 = .ok (.iload_n 1, 1) := dk_27 (dk_at dksX6_read_4 22 rfl rfl)
theorem dX6_read_116 : decode cX6_read 116 = .ok (.aload_n 0, 1) := dk_42 (dk_at dksX6_read_4 23 rfl rfl)
theorem dX6_read_117 : decode cX6_read 117 = .ok (.getfield 68, 3) := dk_180 0 68 (dk_at dksX6_read_5 0 rfl rfl)
theorem dX6_read_120 : decode cX6_read 120 = .ok (.if_icmp .ge 19, 3) := dk_162 0 19 (dk_at dksX6_read_5 3 rfl rfl)
theorem dX6_read_123 : decode cX6_read 123 = .ok (.aload_n 0, 1) := dk_42 (dk_at dksX6_read_5 6 rfl rfl)
theorem dX6_read_124 : decode cX6_read 124 = .ok (.iload_n 1, 1) := dk_27 (dk_at dksX6_read_5 7 rfl rfl)
theorem dX6_read_125 : decode cX6_read 125 = .ok (.invokevirtual 503, 3) := dk_182 1 247 (dk_at dksX6_read_5 8 rfl rfl)
theorem dX6_read_128 : decode cX6_read 128 = .ok (.aload_n 0, 1) := dk_42 (dk_at dksX6_read_5 11 rfl rfl)
theorem dX6_read_129 : decode cX6_read 129 = .ok (.iload_n 1, 1) := dk_27 (dk_at dksX6_read_5 12 rfl rfl)
theorem dX6_read_130 : decode cX6_read 130 = .ok (.invokevirtual 506, 3) := dk_182 1 250 (dk_at dksX6_read_5 13 rfl rfl)
theorem dX6_read_133 : decode cX6_read 133 = .ok (.iinc 1 1, 3) := dk_132 1 1 (dk_at dksX6_read_5 16 rfl rfl)
theorem dX6_read_136 : decode cX6_read 136 = .ok (.goto (-21), 3) := dk_167 255 235 (dk_at dksX6_read_5 19 rfl rfl)
theorem dX6_read_139 : decode cX6_read 139 = .ok (.aload_n 0, 1) := dk_42 (dk_at dksX6_read_5 22 rfl rfl)
theorem dX6_read_140 : decode cX6_read 140 = .ok (.getfield 160, 3) := dk_180 0 160 (dk_at dksX6_read_6 0 rfl rfl)
theorem dX6_read_143 : decode cX6_read 143 = .ok (.aload_n 0, 1) := dk_42 (dk_at dksX6_read_6 3 rfl rfl)
theorem dX6_read_144 : decode cX6_read 144 = .ok (.getfield 68, 3) := dk_180 0 68 (dk_at dksX6_read_6 4 rfl rfl)
theorem dX6_read_147 : decode cX6_read 147 = .ok (.iconst 1, 1) := dk_4 (dk_at dksX6_read_6 7 rfl rfl)
theorem dX6_read_148 : decode cX6_read 148 = .ok (.isub, 1) := dk_100 (dk_at dksX6_read_6 8 rfl rfl)
theorem dX6_read_149 : decode cX6_read 149 = .ok (.iaload, 1) := dk_46 (dk_at dksX6_read_6 9 rfl rfl)
theorem dX6_read_150 : decode cX6_read 150 = .ok (.sipush 3000, 3) := dk_17 11 184 (dk_at dksX6_read_6 10 rfl rfl)
theorem dX6_read_153 : decode cX6_read 153 = .ok (.if_icmp .gt 25, 3) := dk_163 0 25 (dk_at dksX6_read_6 13 rfl rfl)
theorem dX6_read_156 : decode cX6_read 156 = .ok (.aload_n 0, 1) := dk_42 (dk_at dksX6_read_6 16 rfl rfl)
theorem dX6_read_157 : decode cX6_read 157 = .ok (.getfield 181, 3) := dk_180 0 181 (dk_at dksX6_read_6 17 rfl rfl)
theorem dX6_read_160 : decode cX6_read 160 = .ok (.aload_n 0, 1) := dk_42 (dk_at dksX6_read_6 20 rfl rfl)
theorem dX6_read_161 : decode cX6_read 161 = .ok (.getfield 160, 3) := dk_180 0 160 (dk_at dksX6_read_6 21 rfl rfl)
theorem dX6_read_164 : decode cX6_read 164 = .ok (.aload_n 0, 1) := dk_42 (dk_at dksX6_read_7 0 rfl rfl)
theorem dX6_read_165 : decode cX6_read 165 = .ok (.getfield 68, 3) := dk_180 0 68 (dk_at dksX6_read_7 1 rfl rfl)
theorem dX6_read_168 : decode cX6_read 168 = .ok (.iconst 1, 1) := dk_4 (dk_at dksX6_read_7 4 rfl rfl)
theorem dX6_read_169 : decode cX6_read 169 = .ok (.isub, 1) := dk_100 (dk_at dksX6_read_7 5 rfl rfl)
theorem dX6_read_170 : decode cX6_read 170 = .ok (.iaload, 1) := dk_46 (dk_at dksX6_read_7 6 rfl rfl)
theorem dX6_read_171 : decode cX6_read 171 = .ok (.iadd, 1) := dk_96 (dk_at dksX6_read_7 7 rfl rfl)
theorem dX6_read_172 : decode cX6_read 172 = .ok (.sipush 30000, 3) := dk_17 117 48 (dk_at dksX6_read_7 8 rfl rfl)
theorem dX6_read_175 : decode cX6_read 175 = .ok (.if_icmp .le 16, 3) := dk_164 0 16 (dk_at dksX6_read_7 11 rfl rfl)
theorem dX6_read_178 : decode cX6_read 178 = .ok (.new 296, 3) := dk_187 1 40 (dk_at dksX6_read_7 14 rfl rfl)
theorem dX6_read_181 : decode cX6_read 181 = .ok (.dup, 1) := dk_89 (dk_at dksX6_read_7 17 rfl rfl)
theorem dX6_read_182 : decode cX6_read 182 = .ok (.iconst 3, 1) := dk_6 (dk_at dksX6_read_7 18 rfl rfl)
theorem dX6_read_183 : decode cX6_read 183 = .ok (.aload_n 0, 1) := dk_42 (dk_at dksX6_read_7 19 rfl rfl)
theorem dX6_read_184 : decode cX6_read 184 = .ok (.getfield 14, 3) := dk_180 0 14 (dk_at dksX6_read_7 20 rfl rfl)
theorem dX6_read_187 : decode cX6_read 187 = .ok (.invokespecial 298, 3) := dk_183 1 42 (dk_at dksX6_read_8 0 rfl rfl)
theorem dX6_read_190 : decode cX6_read 190 = .ok (.athrow, 1) := dk_191 (dk_at dksX6_read_8 3 rfl rfl)
theorem dX6_read_191 : decode cX6_read 191 = .ok (.aload_n 0, 1) := dk_42 (dk_at dksX6_read_8 4 rfl rfl)
theorem dX6_read_192 : decode cX6_read 192 = .ok (.aload_n 0, 1) := dk_42 (dk_at dksX6_read_8 5 rfl rfl)
theorem dX6_read_193 : decode cX6_read 193 = .ok (.getfield 68, 3) := dk_180 0 68 (dk_at dksX6_read_8 6 rfl rfl)
theorem dX6_read_196 : decode cX6_read 196 = .ok (.iconst 1, 1) := dk_4 (dk_at dksX6_read_8 9 rfl rfl)
theorem dX6_read_197 : decode cX6_read 197 = .ok (.isub, 1) := dk_100 (dk_at dksX6_read_8 10 rfl rfl)
theorem dX6_read_198 : decode cX6_read 198 = .ok (.iconst (-1), 1) := dk_2 (dk_at dksX6_read_8 11 rfl rfl)
theorem dX6_read_199 : decode cX6_read 199 = .ok (.iconst (-1), 1) := dk_2 (dk_at dksX6_read_8 12 rfl rfl)
theorem dX6_read_200 : decode cX6_read 200 = .ok (.invokevirtual 474, 3) := dk_182 1 218 (dk_at dksX6_read_8 13 rfl rfl)
theorem dX6_read_203 : decode cX6_read 203 = .ok (.pop, 1) := dk_87 (dk_at dksX6_read_8 16 rfl rfl)
theorem dX6_read_204 : decode cX6_read 204 = .ok (.aload_n 0, 1) := dk_42 (dk_at dksX6_read_8 17 rfl rfl)
theorem dX6_read_205 : decode cX6_read 205 = .ok (.dup, 1) := dk_89 (dk_at dksX6_read_8 18 rfl rfl)
theorem dX6_read_206 : decode cX6_read 206 = .ok (.getfield 181, 3) := dk_180 0 181 (dk_at dksX6_read_8 19 rfl rfl)
theorem dX6_read_209 : decode cX6_read 209 = .ok (.aload_n 0, 1) := dk_42 (dk_at dksX6_read_8 22 rfl rfl)
theorem dX6_read_210 : decode cX6_read 210 = .ok (.getfield 160, 3) := dk_180 0 160 (dk_at dksX6_read_9 0 rfl rfl)
theorem dX6_read_213 : decode cX6_read 213 = .ok (.aload_n 0, 1) := dk_42 (dk_at dksX6_read_9 3 rfl rfl)
theorem dX6_read_214 : decode cX6_read 214 = .ok (.getfield 68, 3) := dk_180 0 68 (dk_at dksX6_read_9 4 rfl rfl)
theorem dX6_read_217 : decode cX6_read 217 = .ok (.iconst 1, 1) := dk_4 (dk_at dksX6_read_9 7 rfl rfl)
theorem dX6_read_218 : decode cX6_read 218 = .ok (.isub, 1) := dk_100 (dk_at dksX6_read_9 8 rfl rfl)
theorem dX6_read_219 : decode cX6_read 219 = .ok (.iaload, 1) := dk_46 (dk_at dksX6_read_9 9 rfl rfl)
theorem dX6_read_220 : decode cX6_read 220 = .ok (.iadd, 1) := dk_96 (dk_at dksX6_read_9 10 rfl rfl)
theorem dX6_read_221 : decode cX6_read 221 = .ok (.putfield 181, 3) := dk_181 0 181 (dk_at dksX6_read_9 11 rfl rfl)
theorem dX6_read_224 : decode cX6_read 224 = .ok (.iconst 0, 1) := dk_3 (dk_at dksX6_read_9 14 rfl rfl)
theorem dX6_read_225 : decode cX6_read 225 = .ok (.istore_n 1, 1) := dk_60 (dk_at dksX6_read_9 15 rfl rfl)
theorem dX6_read_226 : decode cX6_read 226 = .ok (.iload_n 1, 1) := dk_27 (dk_at dksX6_read_9 16 rfl rfl)
theorem dX6_read_227 : decode cX6_read 227 = .ok (.aload_n 0, 1) := dk_42 (dk_at dksX6_read_9 17 rfl rfl)
theorem dX6_read_228 : decode cX6_read 228 = .ok (.getfield 169, 3) := dk_180 0 169 (dk_at dksX6_read_9 18 rfl rfl)
theorem dX6_read_231 : decode cX6_read 231 = .ok (.if_icmp .ge 14, 3) := dk_162 0 14 (dk_at dksX6_read_9 21 rfl rfl)
theorem dX6_read_234 : decode cX6_read 234 = .ok (.aload_n 0, 1) := dk_42 (dk_at dksX6_read_10 0 rfl rfl)
theorem dX6_read_235 : decode cX6_read 235 = .ok (.iload_n 1, 1) := dk_27 (dk_at dksX6_read_10 1 rfl rfl)
theorem dX6_read_236 : decode cX6_read 236 = .ok (.invokevirtual 509, 3) := dk_182 1 253 (dk_at dksX6_read_10 2 rfl rfl)
theorem dX6_read_239 : decode cX6_read 239 = .ok (.iinc 1 1, 3) := dk_132 1 1 (dk_at dksX6_read_10 5 rfl rfl)
theorem dX6_read_242 : decode cX6_read 242 = .ok (.goto (-16), 3) := dk_167 255 240 (dk_at dksX6_read_10 8 rfl rfl)
theorem dX6_read_245 : decode cX6_read 245 = .ok (.aload_n 0, 1) := dk_42 (dk_at dksX6_read_10 11 rfl rfl)
theorem dX6_read_246 : decode cX6_read 246 = .ok (.getfield 211, 3) := dk_180 0 211 (dk_at dksX6_read_10 12 rfl rfl)
theorem dX6_read_249 : decode cX6_read 249 = .ok (.aload_n 0, 1) := dk_42 (dk_at dksX6_read_10 15 rfl rfl)
theorem dX6_read_250 : decode cX6_read 250 = .ok (.getfield 169, 3) := dk_180 0 169 (dk_at dksX6_read_10 16 rfl rfl)
theorem dX6_read_253 : decode cX6_read 253 = .ok (.aload_n 0, 1) := dk_42 (dk_at dksX6_read_10 19 rfl rfl)
theorem dX6_read_254 : decode cX6_read 254 = .ok (.getfield 218, 3) := dk_180 0 218 (dk_at dksX6_read_10 20 rfl rfl)
theorem dX6_read_257 : decode cX6_read 257 = .ok (.iastore, 1) := dk_79 (dk_at dksX6_read_10 23 rfl rfl)
theorem dX6_read_258 : decode cX6_read 258 = .ok (.aload_n 0, 1) := dk_42 (dk_at dksX6_read_11 0 rfl rfl)
theorem dX6_read_259 : decode cX6_read 259 = .ok (.invokevirtual 512, 3) := dk_182 2 0 (dk_at dksX6_read_11 1 rfl rfl)
theorem dX6_read_262 : decode cX6_read 262 = .ok (.aload_n 0, 1) := dk_42 (dk_at dksX6_read_11 4 rfl rfl)
theorem dX6_read_263 : decode cX6_read 263 = .ok (.aload_n 0, 1) := dk_42 (dk_at dksX6_read_11 5 rfl rfl)
theorem dX6_read_264 : decode cX6_read 264 = .ok (.getfield 68, 3) := dk_180 0 68 (dk_at dksX6_read_11 6 rfl rfl)
theorem dX6_read_267 : decode cX6_read 267 = .ok (.iconst 1, 1) := dk_4 (dk_at dksX6_read_11 9 rfl rfl)
theorem dX6_read_268 : decode cX6_read 268 = .ok (.isub, 1) := dk_100 (dk_at dksX6_read_11 10 rfl rfl)
theorem dX6_read_269 : decode cX6_read 269 = .ok (.putfield 163, 3) := dk_181 0 163 (dk_at dksX6_read_11 11 rfl rfl)
theorem dX6_read_272 : decode cX6_read 272 = .ok (.goto 20, 3) := dk_167 0 20 (dk_at dksX6_read_11 14 rfl rfl)
theorem dX6_read_275 : decode cX6_read 275 = .ok (.astore_n 1, 1) := dk_76 (dk_at dksX6_read_11 17 rfl rfl)
theorem dX6_read_276 : decode cX6_read 276 = .ok (.aload_n 0, 1) := dk_42 (dk_at dksX6_read_11 18 rfl rfl)
theorem dX6_read_277 : decode cX6_read 277 = .ok (.aload_n 1, 1) := dk_43 (dk_at dksX6_read_11 19 rfl rfl)
theorem dX6_read_278 : decode cX6_read 278 = .ok (.getfield 515, 3) := dk_180 2 3 (dk_at dksX6_read_11 20 rfl rfl)
theorem dX6_read_281 : decode cX6_read 281 = .ok (.putfield 21, 3) := dk_181 0 21 (dk_at dksX6_read_12 0 rfl rfl)
theorem dX6_read_284 : decode cX6_read 284 = .ok (.aload_n 0, 1) := dk_42 (dk_at dksX6_read_12 3 rfl rfl)
theorem dX6_read_285 : decode cX6_read 285 = .ok (.aload_n 1, 1) := dk_43 (dk_at dksX6_read_12 4 rfl rfl)
theorem dX6_read_286 : decode cX6_read 286 = .ok (.getfield 518, 3) := dk_180 2 6 (dk_at dksX6_read_12 5 rfl rfl)
theorem dX6_read_289 : decode cX6_read 289 = .ok (.putfield 24, 3) := dk_181 0 24 (dk_at dksX6_read_12 8 rfl rfl)
theorem dX6_read_292 : decode cX6_read 292 = .ok (.aload_n 0, 1) := dk_42 (dk_at dksX6_read_12 11 rfl rfl)
theorem dX6_read_293 : decode cX6_read 293 = .ok (.iconst 0, 1) := dk_3 (dk_at dksX6_read_12 12 rfl rfl)
theorem dX6_read_294 : decode cX6_read 294 = .ok (.putfield 14, 3) := dk_181 0 14 (dk_at dksX6_read_12 13 rfl rfl)
theorem dX6_read_297 : decode cX6_read 297 = .ok (.aload_n 0, 1) := dk_42 (dk_at dksX6_read_12 16 rfl rfl)
theorem dX6_read_298 : decode cX6_read 298 = .ok (.getfield 236, 3) := dk_180 0 236 (dk_at dksX6_read_12 17 rfl rfl)
theorem dX6_read_301 : decode cX6_read 301 = .ok (.iconst 0, 1) := dk_3 (dk_at dksX6_read_12 20 rfl rfl)
theorem dX6_read_302 : decode cX6_read 302 = .ok (.invokestatic 521, 3) := dk_184 2 9 (dk_at dksX6_read_12 21 rfl rfl)
theorem dX6_read_305 : decode cX6_read 305 = .ok (.aload_n 0, 1) := dk_42 (dk_at dksX6_read_13 0 rfl rfl)
theorem dX6_read_306 : decode cX6_read 306 = .ok (.getfield 242, 3) := dk_180 0 242 (dk_at dksX6_read_13 1 rfl rfl)
theorem dX6_read_309 : decode cX6_read 309 = .ok (.iconst 0, 1) := dk_3 (dk_at dksX6_read_13 4 rfl rfl)
theorem dX6_read_310 : decode cX6_read 310 = .ok (.invokestatic 521, 3) := dk_184 2 9 (dk_at dksX6_read_13 5 rfl rfl)
theorem dX6_read_313 : decode cX6_read 313 = .ok (.aload_n 0, 1) := dk_42 (dk_at dksX6_read_13 8 rfl rfl)
theorem dX6_read_314 : decode cX6_read 314 = .ok (.getfield 163, 3) := dk_180 0 163 (dk_at dksX6_read_13 9 rfl rfl)
theorem dX6_read_317 : decode cX6_read 317 = .ok (.ifCond .ge 7, 3) := dk_156 0 7 (dk_at dksX6_read_13 12 rfl rfl)
theorem dX6_read_320 : decode cX6_read 320 = .ok (.iconst (-1), 1) := dk_2 (dk_at dksX6_read_13 15 rfl rfl)
theorem dX6_read_321 : decode cX6_read 321 = .ok (.goto 7, 3) := dk_167 0 7 (dk_at dksX6_read_13 16 rfl rfl)
theorem dX6_read_324 : decode cX6_read 324 = .ok (.aload_n 0, 1) := dk_42 (dk_at dksX6_read_13 19 rfl rfl)
theorem dX6_read_325 : decode cX6_read 325 = .ok (.getfield 169, 3) := dk_180 0 169 (dk_at dksX6_read_13 20 rfl rfl)
theorem dX6_read_328 : decode cX6_read 328 = .ok (.ireturn, 1) := dk_172 (dk_at dksX6_read_13 23 rfl rfl)
abbrev cX6_node : ByteArray := prog_26_method_26_code
def yX6_node : MethodName := ⟨RX6, "node", "()V"⟩
def dkwX6_node_18 : List UInt8 := [180, 0, 68, 4, 96, 181, 0, 68, 177]
abbrev dktX6_node_18 : List UInt8 := dkwX6_node_18 ++ []
def dkwX6_node_17 : List UInt8 := [46, 61, 28, 42, 180, 0, 106, 162, 0, 14, 42, 28, 182, 1, 147, 132, 2, 1, 167, 255, 240, 42, 89]
abbrev dktX6_node_17 : List UInt8 := dkwX6_node_17 ++ dktX6_node_18
def dkwX6_node_16 : List UInt8 := [5, 27, 183, 1, 42, 191, 132, 2, 1, 167, 255, 225, 42, 182, 1, 49, 42, 180, 0, 59, 42, 180, 0, 68]
abbrev dktX6_node_16 : List UInt8 := dkwX6_node_16 ++ dktX6_node_17
def dkwX6_node_15 : List UInt8 := [96, 61, 28, 42, 180, 0, 71, 162, 0, 29, 42, 180, 0, 83, 28, 46, 4, 159, 0, 13, 187, 1, 40, 89]
abbrev dktX6_node_15 : List UInt8 := dkwX6_node_15 ++ dktX6_node_16
def dkwX6_node_14 : List UInt8 := [96, 42, 180, 0, 106, 79, 42, 180, 0, 50, 42, 180, 0, 68, 46, 42, 180, 0, 53, 42, 180, 0, 68, 46]
abbrev dktX6_node_14 : List UInt8 := dkwX6_node_14 ++ dktX6_node_15
def dkwX6_node_13 : List UInt8 := [42, 19, 1, 73, 182, 1, 61, 153, 255, 245, 42, 180, 0, 33, 60, 42, 180, 0, 59, 42, 180, 0, 68, 4]
abbrev dktX6_node_13 : List UInt8 := dkwX6_node_13 ++ dktX6_node_14
def dkwX6_node_12 : List UInt8 := [42, 180, 0, 62, 42, 180, 0, 68, 3, 79, 42, 180, 0, 65, 42, 180, 0, 68, 3, 79, 42, 182, 1, 144]
abbrev dktX6_node_12 : List UInt8 := dkwX6_node_12 ++ dktX6_node_13
def dkwX6_node_11 : List UInt8 := [180, 0, 71, 79, 42, 19, 1, 71, 182, 1, 134, 42, 180, 0, 59, 42, 180, 0, 68, 42, 180, 0, 106, 79]
abbrev dktX6_node_11 : List UInt8 := dkwX6_node_11 ++ dktX6_node_12
def dkwX6_node_10 : List UInt8 := [182, 1, 130, 42, 16, 59, 182, 1, 123, 167, 255, 238, 42, 180, 0, 50, 42, 180, 0, 68, 4, 96, 42]
abbrev dktX6_node_10 : List UInt8 := dkwX6_node_10 ++ dktX6_node_11
def dkwX6_node_9 : List UInt8 := [182, 1, 49, 42, 4, 182, 1, 130, 42, 16, 59, 182, 1, 123, 42, 182, 1, 117, 153, 0, 17, 42, 4]
abbrev dktX6_node_9 : List UInt8 := dkwX6_node_9 ++ dktX6_node_10
def dkwX6_node_8 : List UInt8 := [180, 0, 68, 46, 100, 79, 42, 16, 59, 182, 1, 123, 42, 19, 1, 69, 182, 1, 61, 153, 0, 39, 42]
abbrev dktX6_node_8 : List UInt8 := dkwX6_node_8 ++ dktX6_node_9
def dkwX6_node_7 : List UInt8 := [180, 0, 68, 42, 180, 0, 71, 42, 180, 0, 50, 42, 180, 0, 68, 46, 100, 42, 180, 0, 53, 42]
abbrev dktX6_node_7 : List UInt8 := dkwX6_node_7 ++ dktX6_node_8
def dkwX6_node_6 : List UInt8 := [42, 180, 0, 68, 46, 100, 79, 42, 19, 1, 67, 182, 1, 134, 42, 182, 1, 141, 42, 180, 0, 56, 42]
abbrev dktX6_node_6 : List UInt8 := dkwX6_node_6 ++ dktX6_node_7
def dkwX6_node_5 : List UInt8 := [180, 0, 71, 79, 42, 182, 1, 141, 42, 180, 0, 53, 42, 180, 0, 68, 42, 180, 0, 71, 42, 180, 0, 50]
abbrev dktX6_node_5 : List UInt8 := dkwX6_node_5 ++ dktX6_node_6
def dkwX6_node_4 : List UInt8 := [180, 0, 36, 42, 180, 0, 33, 100, 79, 42, 182, 1, 49, 42, 180, 0, 50, 42, 180, 0, 68, 42]
abbrev dktX6_node_4 : List UInt8 := dkwX6_node_4 ++ dktX6_node_5
def dkwX6_node_3 : List UInt8 := [42, 180, 0, 43, 42, 180, 0, 68, 42, 180, 0, 33, 79, 42, 180, 0, 47, 42, 180, 0, 68, 42]
abbrev dktX6_node_3 : List UInt8 := dkwX6_node_3 ++ dktX6_node_4
def dkwX6_node_2 : List UInt8 := [182, 1, 45, 191, 42, 182, 1, 138, 155, 0, 16, 187, 1, 40, 89, 5, 42, 180, 0, 33, 183, 1, 42, 191]
abbrev dktX6_node_2 : List UInt8 := dkwX6_node_2 ++ dktX6_node_3
def dkwX6_node_1 : List UInt8 := [42, 180, 0, 33, 183, 1, 42, 191, 42, 19, 1, 65, 182, 1, 134, 42, 182, 1, 117, 154, 0, 8, 42]
abbrev dktX6_node_1 : List UInt8 := dkwX6_node_1 ++ dktX6_node_2
def dkwX6_node_0 : List UInt8 := [42, 19, 1, 65, 182, 1, 61, 153, 0, 25, 42, 180, 0, 68, 16, 59, 160, 0, 16, 187, 1, 40, 89, 6]
abbrev dktX6_node_0 : List UInt8 := dkwX6_node_0 ++ dktX6_node_1
theorem dksX6_node_0 : cX6_node.data.toList.drop 0 = dktX6_node_0 := by decide +kernel
theorem dksX6_node_1 : cX6_node.data.toList.drop 24 = dktX6_node_1 := dk_seg dksX6_node_0 24 rfl rfl
theorem dksX6_node_2 : cX6_node.data.toList.drop 47 = dktX6_node_2 := dk_seg dksX6_node_1 23 rfl rfl
theorem dksX6_node_3 : cX6_node.data.toList.drop 71 = dktX6_node_3 := dk_seg dksX6_node_2 24 rfl rfl
theorem dksX6_node_4 : cX6_node.data.toList.drop 93 = dktX6_node_4 := dk_seg dksX6_node_3 22 rfl rfl
theorem dksX6_node_5 : cX6_node.data.toList.drop 115 = dktX6_node_5 := dk_seg dksX6_node_4 22 rfl rfl
theorem dksX6_node_6 : cX6_node.data.toList.drop 139 = dktX6_node_6 := dk_seg dksX6_node_5 24 rfl rfl
theorem dksX6_node_7 : cX6_node.data.toList.drop 162 = dktX6_node_7 := dk_seg dksX6_node_6 23 rfl rfl
theorem dksX6_node_8 : cX6_node.data.toList.drop 184 = dktX6_node_8 := dk_seg dksX6_node_7 22 rfl rfl
theorem dksX6_node_9 : cX6_node.data.toList.drop 207 = dktX6_node_9 := dk_seg dksX6_node_8 23 rfl rfl
theorem dksX6_node_10 : cX6_node.data.toList.drop 230 = dktX6_node_10 := dk_seg dksX6_node_9 23 rfl rfl
theorem dksX6_node_11 : cX6_node.data.toList.drop 253 = dktX6_node_11 := dk_seg dksX6_node_10 23 rfl rfl
theorem dksX6_node_12 : cX6_node.data.toList.drop 277 = dktX6_node_12 := dk_seg dksX6_node_11 24 rfl rfl
theorem dksX6_node_13 : cX6_node.data.toList.drop 301 = dktX6_node_13 := dk_seg dksX6_node_12 24 rfl rfl
theorem dksX6_node_14 : cX6_node.data.toList.drop 325 = dktX6_node_14 := dk_seg dksX6_node_13 24 rfl rfl
theorem dksX6_node_15 : cX6_node.data.toList.drop 349 = dktX6_node_15 := dk_seg dksX6_node_14 24 rfl rfl
theorem dksX6_node_16 : cX6_node.data.toList.drop 373 = dktX6_node_16 := dk_seg dksX6_node_15 24 rfl rfl
theorem dksX6_node_17 : cX6_node.data.toList.drop 397 = dktX6_node_17 := dk_seg dksX6_node_16 24 rfl rfl
theorem dksX6_node_18 : cX6_node.data.toList.drop 420 = dktX6_node_18 := dk_seg dksX6_node_17 23 rfl rfl
theorem dX6_node_0 : decode cX6_node 0 = .ok (.aload_n 0, 1) := dk_42 (dk_at dksX6_node_0 0 rfl rfl)
theorem dX6_node_1 : decode cX6_node 1 = .ok (.ldc_w 321, 3) := dk_19 1 65 (dk_at dksX6_node_0 1 rfl rfl)
theorem dX6_node_4 : decode cX6_node 4 = .ok (.invokevirtual 317, 3) := dk_182 1 61 (dk_at dksX6_node_0 4 rfl rfl)
theorem dX6_node_7 : decode cX6_node 7 = .ok (.ifCond .eq 25, 3) := dk_153 0 25 (dk_at dksX6_node_0 7 rfl rfl)
theorem dX6_node_10 : decode cX6_node 10 = .ok (.aload_n 0, 1) := dk_42 (dk_at dksX6_node_0 10 rfl rfl)
theorem dX6_node_11 : decode cX6_node 11 = .ok (.getfield 68, 3) := dk_180 0 68 (dk_at dksX6_node_0 11 rfl rfl)
theorem dX6_node_14 : decode cX6_node 14 = .ok (.bipush 59, 2) := dk_16 59 (dk_at dksX6_node_0 14 rfl rfl)
theorem dX6_node_16 : decode cX6_node 16 = .ok (.if_icmp .ne 16, 3) := dk_160 0 16 (dk_at dksX6_node_0 16 rfl rfl)
theorem dX6_node_19 : decode cX6_node 19 = .ok (.new 296, 3) := dk_187 1 40 (dk_at dksX6_node_0 19 rfl rfl)
theorem dX6_node_22 : decode cX6_node 22 = .ok (.dup, 1) := dk_89 (dk_at dksX6_node_0 22 rfl rfl)
theorem dX6_node_23 : decode cX6_node 23 = .ok (.iconst 3, 1) := dk_6 (dk_at dksX6_node_0 23 rfl rfl)
theorem dX6_node_24 : decode cX6_node 24 = .ok (.aload_n 0, 1) := dk_42 (dk_at dksX6_node_1 0 rfl rfl)
theorem dX6_node_25 : decode cX6_node 25 = .ok (.getfield 33, 3) := dk_180 0 33 (dk_at dksX6_node_1 1 rfl rfl)
theorem dX6_node_28 : decode cX6_node 28 = .ok (.invokespecial 298, 3) := dk_183 1 42 (dk_at dksX6_node_1 4 rfl rfl)
theorem dX6_node_31 : decode cX6_node 31 = .ok (.athrow, 1) := dk_191 (dk_at dksX6_node_1 7 rfl rfl)
theorem dX6_node_32 : decode cX6_node 32 = .ok (.aload_n 0, 1) := dk_42 (dk_at dksX6_node_1 8 rfl rfl)
theorem dX6_node_33 : decode cX6_node 33 = .ok (.ldc_w 321, 3) := dk_19 1 65 (dk_at dksX6_node_1 9 rfl rfl)
theorem dX6_node_36 : decode cX6_node 36 = .ok (.invokevirtual 390, 3) := dk_182 1 134 (dk_at dksX6_node_1 12 rfl rfl)
theorem dX6_node_39 : decode cX6_node 39 = .ok (.aload_n 0, 1) := dk_42 (dk_at dksX6_node_1 15 rfl rfl)
theorem dX6_node_40 : decode cX6_node 40 = .ok (.invokevirtual 373, 3) := dk_182 1 117 (dk_at dksX6_node_1 16 rfl rfl)
theorem dX6_node_43 : decode cX6_node 43 = .ok (.ifCond .ne 8, 3) := dk_154 0 8 (dk_at dksX6_node_1 19 rfl rfl)
theorem dX6_node_46 : decode cX6_node 46 = .ok (.aload_n 0, 1) := dk_42 (dk_at dksX6_node_1 22 rfl rfl)
theorem dX6_node_47 : decode cX6_node 47 = .ok (.invokevirtual 301, 3) := dk_182 1 45 (dk_at dksX6_node_2 0 rfl rfl)
theorem dX6_node_50 : decode cX6_node 50 = .ok (.athrow, 1) := dk_191 (dk_at dksX6_node_2 3 rfl rfl)
theorem dX6_node_51 : decode cX6_node 51 = .ok (.aload_n 0, 1) := dk_42 (dk_at dksX6_node_2 4 rfl rfl)
theorem dX6_node_52 : decode cX6_node 52 = .ok (.invokevirtual 394, 3) := dk_182 1 138 (dk_at dksX6_node_2 5 rfl rfl)
theorem dX6_node_55 : decode cX6_node 55 = .ok (.ifCond .lt 16, 3) := dk_155 0 16 (dk_at dksX6_node_2 8 rfl rfl)
theorem dX6_node_58 : decode cX6_node 58 = .ok (.new 296, 3) := dk_187 1 40 (dk_at dksX6_node_2 11 rfl rfl)
theorem dX6_node_61 : decode cX6_node 61 = .ok (.dup, 1) := dk_89 (dk_at dksX6_node_2 14 rfl rfl)
theorem dX6_node_62 : decode cX6_node 62 = .ok (.iconst 2, 1) := dk_5 (dk_at dksX6_node_2 15 rfl rfl)
theorem dX6_node_63 : decode cX6_node 63 = .ok (.aload_n 0, 1) := dk_42 (dk_at dksX6_node_2 16 rfl rfl)
theorem dX6_node_64 : decode cX6_node 64 = .ok (.getfield 33, 3) := dk_180 0 33 (dk_at dksX6_node_2 17 rfl rfl)
theorem dX6_node_67 : decode cX6_node 67 = .ok (.invokespecial 298, 3) := dk_183 1 42 (dk_at dksX6_node_2 20 rfl rfl)
theorem dX6_node_70 : decode cX6_node 70 = .ok (.athrow, 1) := dk_191 (dk_at dksX6_node_2 23 rfl rfl)
theorem dX6_node_71 : decode cX6_node 71 = .ok (.aload_n 0, 1) := dk_42 (dk_at dksX6_node_3 0 rfl rfl)
theorem dX6_node_72 : decode cX6_node 72 = .ok (.getfield 43, 3) := dk_180 0 43 (dk_at dksX6_node_3 1 rfl rfl)
theorem dX6_node_75 : decode cX6_node 75 = .ok (.aload_n 0, 1) := dk_42 (dk_at dksX6_node_3 4 rfl rfl)
theorem dX6_node_76 : decode cX6_node 76 = .ok (.getfield 68, 3) := dk_180 0 68 (dk_at dksX6_node_3 5 rfl rfl)
theorem dX6_node_79 : decode cX6_node 79 = .ok (.aload_n 0, 1) := dk_42 (dk_at dksX6_node_3 8 rfl rfl)
theorem dX6_node_80 : decode cX6_node 80 = .ok (.getfield 33, 3) := dk_180 0 33 (dk_at dksX6_node_3 9 rfl rfl)
theorem dX6_node_83 : decode cX6_node 83 = .ok (.iastore, 1) := dk_79 (dk_at dksX6_node_3 12 rfl rfl)
theorem dX6_node_84 : decode cX6_node 84 = .ok (.aload_n 0, 1) := dk_42 (dk_at dksX6_node_3 13 rfl rfl)
theorem dX6_node_85 : decode cX6_node 85 = .ok (.getfield 47, 3) := dk_180 0 47 (dk_at dksX6_node_3 14 rfl rfl)
theorem dX6_node_88 : decode cX6_node 88 = .ok (.aload_n 0, 1) := dk_42 (dk_at dksX6_node_3 17 rfl rfl)
theorem dX6_node_89 : decode cX6_node 89 = .ok (.getfield 68, 3) := dk_180 0 68 (dk_at dksX6_node_3 18 rfl rfl)
theorem dX6_node_92 : decode cX6_node 92 = .ok (.aload_n 0, 1) := dk_42 (dk_at dksX6_node_3 21 rfl rfl)
theorem dX6_node_93 : decode cX6_node 93 = .ok (.getfield 36, 3) := dk_180 0 36 (dk_at dksX6_node_4 0 rfl rfl)
theorem dX6_node_96 : decode cX6_node 96 = .ok (.aload_n 0, 1) := dk_42 (dk_at dksX6_node_4 3 rfl rfl)
theorem dX6_node_97 : decode cX6_node 97 = .ok (.getfield 33, 3) := dk_180 0 33 (dk_at dksX6_node_4 4 rfl rfl)
theorem dX6_node_100 : decode cX6_node 100 = .ok (.isub, 1) := dk_100 (dk_at dksX6_node_4 7 rfl rfl)
theorem dX6_node_101 : decode cX6_node 101 = .ok (.iastore, 1) := dk_79 (dk_at dksX6_node_4 8 rfl rfl)
theorem dX6_node_102 : decode cX6_node 102 = .ok (.aload_n 0, 1) := dk_42 (dk_at dksX6_node_4 9 rfl rfl)
theorem dX6_node_103 : decode cX6_node 103 = .ok (.invokevirtual 305, 3) := dk_182 1 49 (dk_at dksX6_node_4 10 rfl rfl)
theorem dX6_node_106 : decode cX6_node 106 = .ok (.aload_n 0, 1) := dk_42 (dk_at dksX6_node_4 13 rfl rfl)
theorem dX6_node_107 : decode cX6_node 107 = .ok (.getfield 50, 3) := dk_180 0 50 (dk_at dksX6_node_4 14 rfl rfl)
theorem dX6_node_110 : decode cX6_node 110 = .ok (.aload_n 0, 1) := dk_42 (dk_at dksX6_node_4 17 rfl rfl)
theorem dX6_node_111 : decode cX6_node 111 = .ok (.getfield 68, 3) := dk_180 0 68 (dk_at dksX6_node_4 18 rfl rfl)
theorem dX6_node_114 : decode cX6_node 114 = .ok (.aload_n 0, 1) := dk_42 (dk_at dksX6_node_4 21 rfl rfl)
theorem dX6_node_115 : decode cX6_node 115 = .ok (.getfield 71, 3) := dk_180 0 71 (dk_at dksX6_node_5 0 rfl rfl)
theorem dX6_node_118 : decode cX6_node 118 = .ok (.iastore, 1) := dk_79 (dk_at dksX6_node_5 3 rfl rfl)
theorem dX6_node_119 : decode cX6_node 119 = .ok (.aload_n 0, 1) := dk_42 (dk_at dksX6_node_5 4 rfl rfl)
theorem dX6_node_120 : decode cX6_node 120 = .ok (.invokevirtual 397, 3) := dk_182 1 141 (dk_at dksX6_node_5 5 rfl rfl)
theorem dX6_node_123 : decode cX6_node 123 = .ok (.aload_n 0, 1) := dk_42 (dk_at dksX6_node_5 8 rfl rfl)
theorem dX6_node_124 : decode cX6_node 124 = .ok (.getfield 53, 3) := dk_180 0 53 (dk_at dksX6_node_5 9 rfl rfl)
theorem dX6_node_127 : decode cX6_node 127 = .ok (.aload_n 0, 1) := dk_42 (dk_at dksX6_node_5 12 rfl rfl)
theorem dX6_node_128 : decode cX6_node 128 = .ok (.getfield 68, 3) := dk_180 0 68 (dk_at dksX6_node_5 13 rfl rfl)
theorem dX6_node_131 : decode cX6_node 131 = .ok (.aload_n 0, 1) := dk_42 (dk_at dksX6_node_5 16 rfl rfl)
theorem dX6_node_132 : decode cX6_node 132 = .ok (.getfield 71, 3) := dk_180 0 71 (dk_at dksX6_node_5 17 rfl rfl)
theorem dX6_node_135 : decode cX6_node 135 = .ok (.aload_n 0, 1) := dk_42 (dk_at dksX6_node_5 20 rfl rfl)
theorem dX6_node_136 : decode cX6_node 136 = .ok (.getfield 50, 3) := dk_180 0 50 (dk_at dksX6_node_5 21 rfl rfl)
theorem dX6_node_139 : decode cX6_node 139 = .ok (.aload_n 0, 1) := dk_42 (dk_at dksX6_node_6 0 rfl rfl)
theorem dX6_node_140 : decode cX6_node 140 = .ok (.getfield 68, 3) := dk_180 0 68 (dk_at dksX6_node_6 1 rfl rfl)
theorem dX6_node_143 : decode cX6_node 143 = .ok (.iaload, 1) := dk_46 (dk_at dksX6_node_6 4 rfl rfl)
theorem dX6_node_144 : decode cX6_node 144 = .ok (.isub, 1) := dk_100 (dk_at dksX6_node_6 5 rfl rfl)
theorem dX6_node_145 : decode cX6_node 145 = .ok (.iastore, 1) := dk_79 (dk_at dksX6_node_6 6 rfl rfl)
theorem dX6_node_146 : decode cX6_node 146 = .ok (.aload_n 0, 1) := dk_42 (dk_at dksX6_node_6 7 rfl rfl)
theorem dX6_node_147 : decode cX6_node 147 = .ok (.ldc_w 323, 3) := dk_19 1 67 (dk_at dksX6_node_6 8 rfl rfl)
theorem dX6_node_150 : decode cX6_node 150 = .ok (.invokevirtual 390, 3) := dk_182 1 134 (dk_at dksX6_node_6 11 rfl rfl)
theorem dX6_node_153 : decode cX6_node 153 = .ok (.aload_n 0, 1) := dk_42 (dk_at dksX6_node_6 14 rfl rfl)
theorem dX6_node_154 : decode cX6_node 154 = .ok (.invokevirtual 397, 3) := dk_182 1 141 (dk_at dksX6_node_6 15 rfl rfl)
theorem dX6_node_157 : decode cX6_node 157 = .ok (.aload_n 0, 1) := dk_42 (dk_at dksX6_node_6 18 rfl rfl)
theorem dX6_node_158 : decode cX6_node 158 = .ok (.getfield 56, 3) := dk_180 0 56 (dk_at dksX6_node_6 19 rfl rfl)
theorem dX6_node_161 : decode cX6_node 161 = .ok (.aload_n 0, 1) := dk_42 (dk_at dksX6_node_6 22 rfl rfl)
theorem dX6_node_162 : decode cX6_node 162 = .ok (.getfield 68, 3) := dk_180 0 68 (dk_at dksX6_node_7 0 rfl rfl)
theorem dX6_node_165 : decode cX6_node 165 = .ok (.aload_n 0, 1) := dk_42 (dk_at dksX6_node_7 3 rfl rfl)
theorem dX6_node_166 : decode cX6_node 166 = .ok (.getfield 71, 3) := dk_180 0 71 (dk_at dksX6_node_7 4 rfl rfl)
theorem dX6_node_169 : decode cX6_node 169 = .ok (.aload_n 0, 1) := dk_42 (dk_at dksX6_node_7 7 rfl rfl)
theorem dX6_node_170 : decode cX6_node 170 = .ok (.getfield 50, 3) := dk_180 0 50 (dk_at dksX6_node_7 8 rfl rfl)
theorem dX6_node_173 : decode cX6_node 173 = .ok (.aload_n 0, 1) := dk_42 (dk_at dksX6_node_7 11 rfl rfl)
theorem dX6_node_174 : decode cX6_node 174 = .ok (.getfield 68, 3) := dk_180 0 68 (dk_at dksX6_node_7 12 rfl rfl)
theorem dX6_node_177 : decode cX6_node 177 = .ok (.iaload, 1) := dk_46 (dk_at dksX6_node_7 15 rfl rfl)
theorem dX6_node_178 : decode cX6_node 178 = .ok (.isub, 1) := dk_100 (dk_at dksX6_node_7 16 rfl rfl)
theorem dX6_node_179 : decode cX6_node 179 = .ok (.aload_n 0, 1) := dk_42 (dk_at dksX6_node_7 17 rfl rfl)
theorem dX6_node_180 : decode cX6_node 180 = .ok (.getfield 53, 3) := dk_180 0 53 (dk_at dksX6_node_7 18 rfl rfl)
theorem dX6_node_183 : decode cX6_node 183 = .ok (.aload_n 0, 1) := dk_42 (dk_at dksX6_node_7 21 rfl rfl)
theorem dX6_node_184 : decode cX6_node 184 = .ok (.getfield 68, 3) := dk_180 0 68 (dk_at dksX6_node_8 0 rfl rfl)
theorem dX6_node_187 : decode cX6_node 187 = .ok (.iaload, 1) := dk_46 (dk_at dksX6_node_8 3 rfl rfl)
theorem dX6_node_188 : decode cX6_node 188 = .ok (.isub, 1) := dk_100 (dk_at dksX6_node_8 4 rfl rfl)
theorem dX6_node_189 : decode cX6_node 189 = .ok (.iastore, 1) := dk_79 (dk_at dksX6_node_8 5 rfl rfl)
theorem dX6_node_190 : decode cX6_node 190 = .ok (.aload_n 0, 1) := dk_42 (dk_at dksX6_node_8 6 rfl rfl)
theorem dX6_node_191 : decode cX6_node 191 = .ok (.bipush 59, 2) := dk_16 59 (dk_at dksX6_node_8 7 rfl rfl)
theorem dX6_node_193 : decode cX6_node 193 = .ok (.invokevirtual 379, 3) := dk_182 1 123 (dk_at dksX6_node_8 9 rfl rfl)
theorem dX6_node_196 : decode cX6_node 196 = .ok (.aload_n 0, 1) := dk_42 (dk_at dksX6_node_8 12 rfl rfl)
theorem dX6_node_197 : decode cX6_node 197 = .ok (.ldc_w 325, 3) := dk_19 1 69 (dk_at dksX6_node_8 13 rfl rfl)
theorem dX6_node_200 : decode cX6_node 200 = .ok (.invokevirtual 317, 3) := dk_182 1 61 (dk_at dksX6_node_8 16 rfl rfl)
theorem dX6_node_203 : decode cX6_node 203 = .ok (.ifCond .eq 39, 3) := dk_153 0 39 (dk_at dksX6_node_8 19 rfl rfl)
theorem dX6_node_206 : decode cX6_node 206 = .ok (.aload_n 0, 1) := dk_42 (dk_at dksX6_node_8 22 rfl rfl)
theorem dX6_node_207 : decode cX6_node 207 = .ok (.invokevirtual 305, 3) := dk_182 1 49 (dk_at dksX6_node_9 0 rfl rfl)
theorem dX6_node_210 : decode cX6_node 210 = .ok (.aload_n 0, 1) := dk_42 (dk_at dksX6_node_9 3 rfl rfl)
theorem dX6_node_211 : decode cX6_node 211 = .ok (.iconst 1, 1) := dk_4 (dk_at dksX6_node_9 4 rfl rfl)
theorem dX6_node_212 : decode cX6_node 212 = .ok (.invokevirtual 386, 3) := dk_182 1 130 (dk_at dksX6_node_9 5 rfl rfl)
theorem dX6_node_215 : decode cX6_node 215 = .ok (.aload_n 0, 1) := dk_42 (dk_at dksX6_node_9 8 rfl rfl)
theorem dX6_node_216 : decode cX6_node 216 = .ok (.bipush 59, 2) := dk_16 59 (dk_at dksX6_node_9 9 rfl rfl)
theorem dX6_node_218 : decode cX6_node 218 = .ok (.invokevirtual 379, 3) := dk_182 1 123 (dk_at dksX6_node_9 11 rfl rfl)
theorem dX6_node_221 : decode cX6_node 221 = .ok (.aload_n 0, 1) := dk_42 (dk_at dksX6_node_9 14 rfl rfl)
theorem dX6_node_222 : decode cX6_node 222 = .ok (.invokevirtual 373, 3) := dk_182 1 117 (dk_at dksX6_node_9 15 rfl rfl)
theorem dX6_node_225 : decode cX6_node 225 = .ok (.ifCond .eq 17, 3) := dk_153 0 17 (dk_at dksX6_node_9 18 rfl rfl)
theorem dX6_node_228 : decode cX6_node 228 = .ok (.aload_n 0, 1) := dk_42 (dk_at dksX6_node_9 21 rfl rfl)
theorem dX6_node_229 : decode cX6_node 229 = .ok (.iconst 1, 1) := dk_4 (dk_at dksX6_node_9 22 rfl rfl)
theorem dX6_node_230 : decode cX6_node 230 = .ok (.invokevirtual 386, 3) := dk_182 1 130 (dk_at dksX6_node_10 0 rfl rfl)
theorem dX6_node_233 : decode cX6_node 233 = .ok (.aload_n 0, 1) := dk_42 (dk_at dksX6_node_10 3 rfl rfl)
theorem dX6_node_234 : decode cX6_node 234 = .ok (.bipush 59, 2) := dk_16 59 (dk_at dksX6_node_10 4 rfl rfl)
theorem dX6_node_236 : decode cX6_node 236 = .ok (.invokevirtual 379, 3) := dk_182 1 123 (dk_at dksX6_node_10 6 rfl rfl)
theorem dX6_node_239 : decode cX6_node 239 = .ok (.goto (-18), 3) := dk_167 255 238 (dk_at dksX6_node_10 9 rfl rfl)
theorem dX6_node_242 : decode cX6_node 242 = .ok (.aload_n 0, 1) := dk_42 (dk_at dksX6_node_10 12 rfl rfl)
theorem dX6_node_243 : decode cX6_node 243 = .ok (.getfield 50, 3) := dk_180 0 50 (dk_at dksX6_node_10 13 rfl rfl)
theorem dX6_node_246 : decode cX6_node 246 = .ok (.aload_n 0, 1) := dk_42 (dk_at dksX6_node_10 16 rfl rfl)
theorem dX6_node_247 : decode cX6_node 247 = .ok (.getfield 68, 3) := dk_180 0 68 (dk_at dksX6_node_10 17 rfl rfl)
theorem dX6_node_250 : decode cX6_node 250 = .ok (.iconst 1, 1) := dk_4 (dk_at dksX6_node_10 20 rfl rfl)
theorem dX6_node_251 : decode cX6_node 251 = .ok (.iadd, 1) := dk_96 (dk_at dksX6_node_10 21 rfl rfl)
theorem dX6_node_252 : decode cX6_node 252 = .ok (.aload_n 0, 1) := dk_42 (dk_at dksX6_node_10 22 rfl rfl)
theorem dX6_node_253 : decode cX6_node 253 = .ok (.getfield 71, 3) := dk_180 0 71 (dk_at dksX6_node_11 0 rfl rfl)
theorem dX6_node_256 : decode cX6_node 256 = .ok (.iastore, 1) := dk_79 (dk_at dksX6_node_11 3 rfl rfl)
theorem dX6_node_257 : decode cX6_node 257 = .ok (.aload_n 0, 1) := dk_42 (dk_at dksX6_node_11 4 rfl rfl)
theorem dX6_node_258 : decode cX6_node 258 = .ok (.ldc_w 327, 3) := dk_19 1 71 (dk_at dksX6_node_11 5 rfl rfl)
theorem dX6_node_261 : decode cX6_node 261 = .ok (.invokevirtual 390, 3) := dk_182 1 134 (dk_at dksX6_node_11 8 rfl rfl)
theorem dX6_node_264 : decode cX6_node 264 = .ok (.aload_n 0, 1) := dk_42 (dk_at dksX6_node_11 11 rfl rfl)
theorem dX6_node_265 : decode cX6_node 265 = .ok (.getfield 59, 3) := dk_180 0 59 (dk_at dksX6_node_11 12 rfl rfl)
theorem dX6_node_268 : decode cX6_node 268 = .ok (.aload_n 0, 1) := dk_42 (dk_at dksX6_node_11 15 rfl rfl)
theorem dX6_node_269 : decode cX6_node 269 = .ok (.getfield 68, 3) := dk_180 0 68 (dk_at dksX6_node_11 16 rfl rfl)
theorem dX6_node_272 : decode cX6_node 272 = .ok (.aload_n 0, 1) := dk_42 (dk_at dksX6_node_11 19 rfl rfl)
theorem dX6_node_273 : decode cX6_node 273 = .ok (.getfield 106, 3) := dk_180 0 106 (dk_at dksX6_node_11 20 rfl rfl)
theorem dX6_node_276 : decode cX6_node 276 = .ok (.iastore, 1) := dk_79 (dk_at dksX6_node_11 23 rfl rfl)
theorem dX6_node_277 : decode cX6_node 277 = .ok (.aload_n 0, 1) := dk_42 (dk_at dksX6_node_12 0 rfl rfl)
theorem dX6_node_278 : decode cX6_node 278 = .ok (.getfield 62, 3) := dk_180 0 62 (dk_at dksX6_node_12 1 rfl rfl)
theorem dX6_node_281 : decode cX6_node 281 = .ok (.aload_n 0, 1) := dk_42 (dk_at dksX6_node_12 4 rfl rfl)
theorem dX6_node_282 : decode cX6_node 282 = .ok (.getfield 68, 3) := dk_180 0 68 (dk_at dksX6_node_12 5 rfl rfl)
theorem dX6_node_285 : decode cX6_node 285 = .ok (.iconst 0, 1) := dk_3 (dk_at dksX6_node_12 8 rfl rfl)
theorem dX6_node_286 : decode cX6_node 286 = .ok (.iastore, 1) := dk_79 (dk_at dksX6_node_12 9 rfl rfl)
theorem dX6_node_287 : decode cX6_node 287 = .ok (.aload_n 0, 1) := dk_42 (dk_at dksX6_node_12 10 rfl rfl)
theorem dX6_node_288 : decode cX6_node 288 = .ok (.getfield 65, 3) := dk_180 0 65 (dk_at dksX6_node_12 11 rfl rfl)
theorem dX6_node_291 : decode cX6_node 291 = .ok (.aload_n 0, 1) := dk_42 (dk_at dksX6_node_12 14 rfl rfl)
theorem dX6_node_292 : decode cX6_node 292 = .ok (.getfield 68, 3) := dk_180 0 68 (dk_at dksX6_node_12 15 rfl rfl)
theorem dX6_node_295 : decode cX6_node 295 = .ok (.iconst 0, 1) := dk_3 (dk_at dksX6_node_12 18 rfl rfl)
theorem dX6_node_296 : decode cX6_node 296 = .ok (.iastore, 1) := dk_79 (dk_at dksX6_node_12 19 rfl rfl)
theorem dX6_node_297 : decode cX6_node 297 = .ok (.aload_n 0, 1) := dk_42 (dk_at dksX6_node_12 20 rfl rfl)
theorem dX6_node_298 : decode cX6_node 298 = .ok (.invokevirtual 400, 3) := dk_182 1 144 (dk_at dksX6_node_12 21 rfl rfl)
theorem dX6_node_301 : decode cX6_node 301 = .ok (.aload_n 0, 1) := dk_42 (dk_at dksX6_node_13 0 rfl rfl)
theorem dX6_node_302 : decode cX6_node 302 = .ok (.ldc_w 329, 3) := dk_19 1 73 (dk_at dksX6_node_13 1 rfl rfl)
theorem dX6_node_305 : decode cX6_node 305 = .ok (.invokevirtual 317, 3) := dk_182 1 61 (dk_at dksX6_node_13 4 rfl rfl)
theorem dX6_node_308 : decode cX6_node 308 = .ok (.ifCond .eq (-11), 3) := dk_153 255 245 (dk_at dksX6_node_13 7 rfl rfl)
theorem dX6_node_311 : decode cX6_node 311 = .ok (.aload_n 0, 1) := dk_42 (dk_at dksX6_node_13 10 rfl rfl)
theorem dX6_node_312 : decode cX6_node 312 = .ok (.getfield 33, 3) := dk_180 0 33 (dk_at dksX6_node_13 11 rfl rfl)
theorem dX6_node_315 : decode cX6_node 315 = .ok (.istore_n 1, 1) := dk_60 (dk_at dksX6_node_13 14 rfl rfl)
theorem dX6_node_316 : decode cX6_node 316 = .ok (.aload_n 0, 1) := dk_42 (dk_at dksX6_node_13 15 rfl rfl)
theorem dX6_node_317 : decode cX6_node 317 = .ok (.getfield 59, 3) := dk_180 0 59 (dk_at dksX6_node_13 16 rfl rfl)
theorem dX6_node_320 : decode cX6_node 320 = .ok (.aload_n 0, 1) := dk_42 (dk_at dksX6_node_13 19 rfl rfl)
theorem dX6_node_321 : decode cX6_node 321 = .ok (.getfield 68, 3) := dk_180 0 68 (dk_at dksX6_node_13 20 rfl rfl)
theorem dX6_node_324 : decode cX6_node 324 = .ok (.iconst 1, 1) := dk_4 (dk_at dksX6_node_13 23 rfl rfl)
theorem dX6_node_325 : decode cX6_node 325 = .ok (.iadd, 1) := dk_96 (dk_at dksX6_node_14 0 rfl rfl)
theorem dX6_node_326 : decode cX6_node 326 = .ok (.aload_n 0, 1) := dk_42 (dk_at dksX6_node_14 1 rfl rfl)
theorem dX6_node_327 : decode cX6_node 327 = .ok (.getfield 106, 3) := dk_180 0 106 (dk_at dksX6_node_14 2 rfl rfl)
theorem dX6_node_330 : decode cX6_node 330 = .ok (.iastore, 1) := dk_79 (dk_at dksX6_node_14 5 rfl rfl)
theorem dX6_node_331 : decode cX6_node 331 = .ok (.aload_n 0, 1) := dk_42 (dk_at dksX6_node_14 6 rfl rfl)
theorem dX6_node_332 : decode cX6_node 332 = .ok (.getfield 50, 3) := dk_180 0 50 (dk_at dksX6_node_14 7 rfl rfl)
theorem dX6_node_335 : decode cX6_node 335 = .ok (.aload_n 0, 1) := dk_42 (dk_at dksX6_node_14 10 rfl rfl)
theorem dX6_node_336 : decode cX6_node 336 = .ok (.getfield 68, 3) := dk_180 0 68 (dk_at dksX6_node_14 11 rfl rfl)
theorem dX6_node_339 : decode cX6_node 339 = .ok (.iaload, 1) := dk_46 (dk_at dksX6_node_14 14 rfl rfl)
theorem dX6_node_340 : decode cX6_node 340 = .ok (.aload_n 0, 1) := dk_42 (dk_at dksX6_node_14 15 rfl rfl)
theorem dX6_node_341 : decode cX6_node 341 = .ok (.getfield 53, 3) := dk_180 0 53 (dk_at dksX6_node_14 16 rfl rfl)
theorem dX6_node_344 : decode cX6_node 344 = .ok (.aload_n 0, 1) := dk_42 (dk_at dksX6_node_14 19 rfl rfl)
theorem dX6_node_345 : decode cX6_node 345 = .ok (.getfield 68, 3) := dk_180 0 68 (dk_at dksX6_node_14 20 rfl rfl)
theorem dX6_node_348 : decode cX6_node 348 = .ok (.iaload, 1) := dk_46 (dk_at dksX6_node_14 23 rfl rfl)
theorem dX6_node_349 : decode cX6_node 349 = .ok (.iadd, 1) := dk_96 (dk_at dksX6_node_15 0 rfl rfl)
theorem dX6_node_350 : decode cX6_node 350 = .ok (.istore_n 2, 1) := dk_61 (dk_at dksX6_node_15 1 rfl rfl)
theorem dX6_node_351 : decode cX6_node 351 = .ok (.iload_n 2, 1) := dk_28 (dk_at dksX6_node_15 2 rfl rfl)
theorem dX6_node_352 : decode cX6_node 352 = .ok (.aload_n 0, 1) := dk_42 (dk_at dksX6_node_15 3 rfl rfl)
theorem dX6_node_353 : decode cX6_node 353 = .ok (.getfield 71, 3) := dk_180 0 71 (dk_at dksX6_node_15 4 rfl rfl)
theorem dX6_node_356 : decode cX6_node 356 = .ok (.if_icmp .ge 29, 3) := dk_162 0 29 (dk_at dksX6_node_15 7 rfl rfl)
theorem dX6_node_359 : decode cX6_node 359 = .ok (.aload_n 0, 1) := dk_42 (dk_at dksX6_node_15 10 rfl rfl)
theorem dX6_node_360 : decode cX6_node 360 = .ok (.getfield 83, 3) := dk_180 0 83 (dk_at dksX6_node_15 11 rfl rfl)
theorem dX6_node_363 : decode cX6_node 363 = .ok (.iload_n 2, 1) := dk_28 (dk_at dksX6_node_15 14 rfl rfl)
theorem dX6_node_364 : decode cX6_node 364 = .ok (.iaload, 1) := dk_46 (dk_at dksX6_node_15 15 rfl rfl)
theorem dX6_node_365 : decode cX6_node 365 = .ok (.iconst 1, 1) := dk_4 (dk_at dksX6_node_15 16 rfl rfl)
theorem dX6_node_366 : decode cX6_node 366 = .ok (.if_icmp .eq 13, 3) := dk_159 0 13 (dk_at dksX6_node_15 17 rfl rfl)
theorem dX6_node_369 : decode cX6_node 369 = .ok (.new 296, 3) := dk_187 1 40 (dk_at dksX6_node_15 20 rfl rfl)
theorem dX6_node_372 : decode cX6_node 372 = .ok (.dup, 1) := dk_89 (dk_at dksX6_node_15 23 rfl rfl)
theorem dX6_node_373 : decode cX6_node 373 = .ok (.iconst 2, 1) := dk_5 (dk_at dksX6_node_16 0 rfl rfl)
theorem dX6_node_374 : decode cX6_node 374 = .ok (.iload_n 1, 1) := dk_27 (dk_at dksX6_node_16 1 rfl rfl)
theorem dX6_node_375 : decode cX6_node 375 = .ok (.invokespecial 298, 3) := dk_183 1 42 (dk_at dksX6_node_16 2 rfl rfl)
theorem dX6_node_378 : decode cX6_node 378 = .ok (.athrow, 1) := dk_191 (dk_at dksX6_node_16 5 rfl rfl)
theorem dX6_node_379 : decode cX6_node 379 = .ok (.iinc 2 1, 3) := dk_132 2 1 (dk_at dksX6_node_16 6 rfl rfl)
theorem dX6_node_382 : decode cX6_node 382 = .ok (.goto (-31), 3) := dk_167 255 225 (dk_at dksX6_node_16 9 rfl rfl)
theorem dX6_node_385 : decode cX6_node 385 = .ok (.aload_n 0, 1) := dk_42 (dk_at dksX6_node_16 12 rfl rfl)
theorem dX6_node_386 : decode cX6_node 386 = .ok (.invokevirtual 305, 3) := dk_182 1 49 (dk_at dksX6_node_16 13 rfl rfl)
theorem dX6_node_389 : decode cX6_node 389 = .ok (.aload_n 0, 1) := dk_42 (dk_at dksX6_node_16 16 rfl rfl)
theorem dX6_node_390 : decode cX6_node 390 = .ok (.getfield 59, 3) := dk_180 0 59 (dk_at dksX6_node_16 17 rfl rfl)
theorem dX6_node_393 : decode cX6_node 393 = .ok (.aload_n 0, 1) := dk_42 (dk_at dksX6_node_16 20 rfl rfl)
theorem dX6_node_394 : decode cX6_node 394 = .ok (.getfield 68, 3) := dk_180 0 68 (dk_at dksX6_node_16 21 rfl rfl)
theorem dX6_node_397 : decode cX6_node 397 = .ok (.iaload, 1) := dk_46 (dk_at dksX6_node_17 0 rfl rfl)
theorem dX6_node_398 : decode cX6_node 398 = .ok (.istore_n 2, 1) := dk_61 (dk_at dksX6_node_17 1 rfl rfl)
theorem dX6_node_399 : decode cX6_node 399 = .ok (.iload_n 2, 1) := dk_28 (dk_at dksX6_node_17 2 rfl rfl)
theorem dX6_node_400 : decode cX6_node 400 = .ok (.aload_n 0, 1) := dk_42 (dk_at dksX6_node_17 3 rfl rfl)
theorem dX6_node_401 : decode cX6_node 401 = .ok (.getfield 106, 3) := dk_180 0 106 (dk_at dksX6_node_17 4 rfl rfl)
theorem dX6_node_404 : decode cX6_node 404 = .ok (.if_icmp .ge 14, 3) := dk_162 0 14 (dk_at dksX6_node_17 7 rfl rfl)
theorem dX6_node_407 : decode cX6_node 407 = .ok (.aload_n 0, 1) := dk_42 (dk_at dksX6_node_17 10 rfl rfl)
theorem dX6_node_408 : decode cX6_node 408 = .ok (.iload_n 2, 1) := dk_28 (dk_at dksX6_node_17 11 rfl rfl)
theorem dX6_node_409 : decode cX6_node 409 = .ok (.invokevirtual 403, 3) := dk_182 1 147 (dk_at dksX6_node_17 12 rfl rfl)
theorem dX6_node_412 : decode cX6_node 412 = .ok (.iinc 2 1, 3) := dk_132 2 1 (dk_at dksX6_node_17 15 rfl rfl)
theorem dX6_node_415 : decode cX6_node 415 = .ok (.goto (-16), 3) := dk_167 255 240 (dk_at dksX6_node_17 18 rfl rfl)
theorem dX6_node_418 : decode cX6_node 418 = .ok (.aload_n 0, 1) := dk_42 (dk_at dksX6_node_17 21 rfl rfl)
theorem dX6_node_419 : decode cX6_node 419 = .ok (.dup, 1) := dk_89 (dk_at dksX6_node_17 22 rfl rfl)
theorem dX6_node_420 : decode cX6_node 420 = .ok (.getfield 68, 3) := dk_180 0 68 (dk_at dksX6_node_18 0 rfl rfl)
theorem dX6_node_423 : decode cX6_node 423 = .ok (.iconst 1, 1) := dk_4 (dk_at dksX6_node_18 3 rfl rfl)
theorem dX6_node_424 : decode cX6_node 424 = .ok (.iadd, 1) := dk_96 (dk_at dksX6_node_18 4 rfl rfl)
theorem dX6_node_425 : decode cX6_node 425 = .ok (.putfield 68, 3) := dk_181 0 68 (dk_at dksX6_node_18 5 rfl rfl)
theorem dX6_node_428 : decode cX6_node 428 = .ok (.return_, 1) := dk_177 (dk_at dksX6_node_18 8 rfl rfl)
abbrev cX6_is : ByteArray := prog_26_method_15_code
def yX6_is : MethodName := ⟨RX6, "is", "(Ljava/lang/String;)Z"⟩
def dkwX6_is_2 : List UInt8 := [28, 182, 1, 57, 159, 0, 5, 3, 172, 132, 2, 1, 167, 255, 224, 4, 172]
abbrev dktX6_is_2 : List UInt8 := dkwX6_is_2 ++ []
def dkwX6_is_1 : List UInt8 := [3, 172, 3, 61, 28, 43, 182, 1, 52, 162, 0, 30, 42, 180, 0, 8, 42, 180, 0, 33, 28, 96, 51, 43]
abbrev dktX6_is_1 : List UInt8 := dkwX6_is_1 ++ dktX6_is_2
def dkwX6_is_0 : List UInt8 := [42, 182, 1, 36, 4, 160, 0, 19, 42, 180, 0, 36, 42, 180, 0, 33, 100, 43, 182, 1, 52, 159, 0, 5]
abbrev dktX6_is_0 : List UInt8 := dkwX6_is_0 ++ dktX6_is_1
theorem dksX6_is_0 : cX6_is.data.toList.drop 0 = dktX6_is_0 := by decide +kernel
theorem dksX6_is_1 : cX6_is.data.toList.drop 24 = dktX6_is_1 := dk_seg dksX6_is_0 24 rfl rfl
theorem dksX6_is_2 : cX6_is.data.toList.drop 48 = dktX6_is_2 := dk_seg dksX6_is_1 24 rfl rfl
theorem dX6_is_0 : decode cX6_is 0 = .ok (.aload_n 0, 1) := dk_42 (dk_at dksX6_is_0 0 rfl rfl)
theorem dX6_is_1 : decode cX6_is 1 = .ok (.invokevirtual 292, 3) := dk_182 1 36 (dk_at dksX6_is_0 1 rfl rfl)
theorem dX6_is_4 : decode cX6_is 4 = .ok (.iconst 1, 1) := dk_4 (dk_at dksX6_is_0 4 rfl rfl)
theorem dX6_is_5 : decode cX6_is 5 = .ok (.if_icmp .ne 19, 3) := dk_160 0 19 (dk_at dksX6_is_0 5 rfl rfl)
theorem dX6_is_8 : decode cX6_is 8 = .ok (.aload_n 0, 1) := dk_42 (dk_at dksX6_is_0 8 rfl rfl)
theorem dX6_is_9 : decode cX6_is 9 = .ok (.getfield 36, 3) := dk_180 0 36 (dk_at dksX6_is_0 9 rfl rfl)
theorem dX6_is_12 : decode cX6_is 12 = .ok (.aload_n 0, 1) := dk_42 (dk_at dksX6_is_0 12 rfl rfl)
theorem dX6_is_13 : decode cX6_is 13 = .ok (.getfield 33, 3) := dk_180 0 33 (dk_at dksX6_is_0 13 rfl rfl)
theorem dX6_is_16 : decode cX6_is 16 = .ok (.isub, 1) := dk_100 (dk_at dksX6_is_0 16 rfl rfl)
theorem dX6_is_17 : decode cX6_is 17 = .ok (.aload_n 1, 1) := dk_43 (dk_at dksX6_is_0 17 rfl rfl)
theorem dX6_is_18 : decode cX6_is 18 = .ok (.invokevirtual 308, 3) := dk_182 1 52 (dk_at dksX6_is_0 18 rfl rfl)
theorem dX6_is_21 : decode cX6_is 21 = .ok (.if_icmp .eq 5, 3) := dk_159 0 5 (dk_at dksX6_is_0 21 rfl rfl)
theorem dX6_is_24 : decode cX6_is 24 = .ok (.iconst 0, 1) := dk_3 (dk_at dksX6_is_1 0 rfl rfl)
theorem dX6_is_25 : decode cX6_is 25 = .ok (.ireturn, 1) := dk_172 (dk_at dksX6_is_1 1 rfl rfl)
theorem dX6_is_26 : decode cX6_is 26 = .ok (.iconst 0, 1) := dk_3 (dk_at dksX6_is_1 2 rfl rfl)
theorem dX6_is_27 : decode cX6_is 27 = .ok (.istore_n 2, 1) := dk_61 (dk_at dksX6_is_1 3 rfl rfl)
theorem dX6_is_28 : decode cX6_is 28 = .ok (.iload_n 2, 1) := dk_28 (dk_at dksX6_is_1 4 rfl rfl)
theorem dX6_is_29 : decode cX6_is 29 = .ok (.aload_n 1, 1) := dk_43 (dk_at dksX6_is_1 5 rfl rfl)
theorem dX6_is_30 : decode cX6_is 30 = .ok (.invokevirtual 308, 3) := dk_182 1 52 (dk_at dksX6_is_1 6 rfl rfl)
theorem dX6_is_33 : decode cX6_is 33 = .ok (.if_icmp .ge 30, 3) := dk_162 0 30 (dk_at dksX6_is_1 9 rfl rfl)
theorem dX6_is_36 : decode cX6_is 36 = .ok (.aload_n 0, 1) := dk_42 (dk_at dksX6_is_1 12 rfl rfl)
theorem dX6_is_37 : decode cX6_is 37 = .ok (.getfield 8, 3) := dk_180 0 8 (dk_at dksX6_is_1 13 rfl rfl)
theorem dX6_is_40 : decode cX6_is 40 = .ok (.aload_n 0, 1) := dk_42 (dk_at dksX6_is_1 16 rfl rfl)
theorem dX6_is_41 : decode cX6_is 41 = .ok (.getfield 33, 3) := dk_180 0 33 (dk_at dksX6_is_1 17 rfl rfl)
theorem dX6_is_44 : decode cX6_is 44 = .ok (.iload_n 2, 1) := dk_28 (dk_at dksX6_is_1 20 rfl rfl)
theorem dX6_is_45 : decode cX6_is 45 = .ok (.iadd, 1) := dk_96 (dk_at dksX6_is_1 21 rfl rfl)
theorem dX6_is_46 : decode cX6_is 46 = .ok (.baload, 1) := dk_51 (dk_at dksX6_is_1 22 rfl rfl)
theorem dX6_is_47 : decode cX6_is 47 = .ok (.aload_n 1, 1) := dk_43 (dk_at dksX6_is_1 23 rfl rfl)
theorem dX6_is_48 : decode cX6_is 48 = .ok (.iload_n 2, 1) := dk_28 (dk_at dksX6_is_2 0 rfl rfl)
theorem dX6_is_49 : decode cX6_is 49 = .ok (.invokevirtual 313, 3) := dk_182 1 57 (dk_at dksX6_is_2 1 rfl rfl)
theorem dX6_is_52 : decode cX6_is 52 = .ok (.if_icmp .eq 5, 3) := dk_159 0 5 (dk_at dksX6_is_2 4 rfl rfl)
theorem dX6_is_55 : decode cX6_is 55 = .ok (.iconst 0, 1) := dk_3 (dk_at dksX6_is_2 7 rfl rfl)
theorem dX6_is_56 : decode cX6_is 56 = .ok (.ireturn, 1) := dk_172 (dk_at dksX6_is_2 8 rfl rfl)
theorem dX6_is_57 : decode cX6_is 57 = .ok (.iinc 2 1, 3) := dk_132 2 1 (dk_at dksX6_is_2 9 rfl rfl)
theorem dX6_is_60 : decode cX6_is 60 = .ok (.goto (-32), 3) := dk_167 255 224 (dk_at dksX6_is_2 12 rfl rfl)
theorem dX6_is_63 : decode cX6_is 63 = .ok (.iconst 1, 1) := dk_4 (dk_at dksX6_is_2 15 rfl rfl)
theorem dX6_is_64 : decode cX6_is 64 = .ok (.ireturn, 1) := dk_172 (dk_at dksX6_is_2 16 rfl rfl)
abbrev cX6_peek : ByteArray := prog_26_method_10_code
def yX6_peek : MethodName := ⟨RX6, "peek", "()I"⟩
def dkwX6_peek_12 : List UInt8 := [42, 89, 180, 0, 36, 4, 96, 181, 0, 36, 42, 180, 0, 30, 172]
abbrev dktX6_peek_12 : List UInt8 := dkwX6_peek_12 ++ []
def dkwX6_peek_11 : List UInt8 := [180, 0, 27, 4, 96, 182, 1, 18, 184, 1, 32, 181, 0, 30, 42, 180, 0, 30, 17, 1, 43, 164, 0, 13]
abbrev dktX6_peek_11 : List UInt8 := dkwX6_peek_11 ++ dktX6_peek_12
def dkwX6_peek_10 : List UInt8 := [167, 0, 4, 5, 181, 0, 30, 167, 0, 51, 42, 42, 180, 0, 27, 4, 96, 181, 0, 36, 42, 27, 42, 42]
abbrev dktX6_peek_10 : List UInt8 := dkwX6_peek_10 ++ dktX6_peek_11
def dkwX6_peek_9 : List UInt8 := [181, 0, 36, 167, 255, 220, 42, 42, 180, 0, 36, 42, 180, 0, 27, 100, 16, 9, 164, 0, 7, 6]
abbrev dktX6_peek_9 : List UInt8 := dkwX6_peek_9 ++ dktX6_peek_10
def dkwX6_peek_8 : List UInt8 := [42, 180, 0, 8, 42, 180, 0, 36, 51, 184, 1, 29, 153, 0, 16, 42, 89, 180, 0, 36, 4, 96]
abbrev dktX6_peek_8 : List UInt8 := dkwX6_peek_8 ++ dktX6_peek_9
def dkwX6_peek_7 : List UInt8 := [181, 0, 30, 167, 0, 123, 27, 184, 1, 29, 153, 0, 68, 42, 180, 0, 36, 42, 180, 0, 14, 162, 0, 31]
abbrev dktX6_peek_7 : List UInt8 := dkwX6_peek_7 ++ dktX6_peek_8
def dkwX6_peek_6 : List UInt8 := [167, 255, 191, 42, 42, 180, 0, 36, 42, 180, 0, 27, 100, 16, 31, 164, 0, 7, 6, 167, 0, 4, 4]
abbrev dktX6_peek_6 : List UInt8 := dkwX6_peek_6 ++ dktX6_peek_7
def dkwX6_peek_5 : List UInt8 := [180, 0, 8, 42, 180, 0, 36, 51, 16, 95, 160, 0, 16, 42, 89, 180, 0, 36, 4, 96, 181, 0, 36]
abbrev dktX6_peek_5 : List UInt8 := dkwX6_peek_5 ++ dktX6_peek_6
def dkwX6_peek_4 : List UInt8 := [184, 1, 25, 154, 0, 32, 42, 180, 0, 8, 42, 180, 0, 36, 51, 184, 1, 29, 154, 0, 17, 42]
abbrev dktX6_peek_4 : List UInt8 := dkwX6_peek_4 ++ dktX6_peek_5
def dkwX6_peek_3 : List UInt8 := [153, 0, 97, 42, 180, 0, 36, 42, 180, 0, 14, 162, 0, 60, 42, 180, 0, 8, 42, 180, 0, 36, 51]
abbrev dktX6_peek_3 : List UInt8 := dkwX6_peek_3 ++ dktX6_peek_4
def dkwX6_peek_2 : List UInt8 := [180, 0, 14, 160, 0, 5, 3, 172, 42, 180, 0, 8, 42, 180, 0, 27, 51, 60, 27, 184, 1, 25]
abbrev dktX6_peek_2 : List UInt8 := dkwX6_peek_2 ++ dktX6_peek_3
def dkwX6_peek_1 : List UInt8 := [180, 0, 27, 181, 0, 33, 42, 42, 180, 0, 27, 181, 0, 36, 42, 3, 181, 0, 30, 42, 180, 0, 27, 42]
abbrev dktX6_peek_1 : List UInt8 := dkwX6_peek_1 ++ dktX6_peek_2
def dkwX6_peek_0 : List UInt8 := [42, 180, 0, 39, 153, 0, 8, 42, 180, 0, 30, 172, 42, 182, 1, 22, 42, 4, 181, 0, 39, 42, 42]
abbrev dktX6_peek_0 : List UInt8 := dkwX6_peek_0 ++ dktX6_peek_1
theorem dksX6_peek_0 : cX6_peek.data.toList.drop 0 = dktX6_peek_0 := by decide +kernel
theorem dksX6_peek_1 : cX6_peek.data.toList.drop 23 = dktX6_peek_1 := dk_seg dksX6_peek_0 23 rfl rfl
theorem dksX6_peek_2 : cX6_peek.data.toList.drop 47 = dktX6_peek_2 := dk_seg dksX6_peek_1 24 rfl rfl
theorem dksX6_peek_3 : cX6_peek.data.toList.drop 69 = dktX6_peek_3 := dk_seg dksX6_peek_2 22 rfl rfl
theorem dksX6_peek_4 : cX6_peek.data.toList.drop 92 = dktX6_peek_4 := dk_seg dksX6_peek_3 23 rfl rfl
theorem dksX6_peek_5 : cX6_peek.data.toList.drop 114 = dktX6_peek_5 := dk_seg dksX6_peek_4 22 rfl rfl
theorem dksX6_peek_6 : cX6_peek.data.toList.drop 137 = dktX6_peek_6 := dk_seg dksX6_peek_5 23 rfl rfl
theorem dksX6_peek_7 : cX6_peek.data.toList.drop 160 = dktX6_peek_7 := dk_seg dksX6_peek_6 23 rfl rfl
theorem dksX6_peek_8 : cX6_peek.data.toList.drop 184 = dktX6_peek_8 := dk_seg dksX6_peek_7 24 rfl rfl
theorem dksX6_peek_9 : cX6_peek.data.toList.drop 206 = dktX6_peek_9 := dk_seg dksX6_peek_8 22 rfl rfl
theorem dksX6_peek_10 : cX6_peek.data.toList.drop 228 = dktX6_peek_10 := dk_seg dksX6_peek_9 22 rfl rfl
theorem dksX6_peek_11 : cX6_peek.data.toList.drop 252 = dktX6_peek_11 := dk_seg dksX6_peek_10 24 rfl rfl
theorem dksX6_peek_12 : cX6_peek.data.toList.drop 276 = dktX6_peek_12 := dk_seg dksX6_peek_11 24 rfl rfl
theorem dX6_peek_0 : decode cX6_peek 0 = .ok (.aload_n 0, 1) := dk_42 (dk_at dksX6_peek_0 0 rfl rfl)
theorem dX6_peek_1 : decode cX6_peek 1 = .ok (.getfield 39, 3) := dk_180 0 39 (dk_at dksX6_peek_0 1 rfl rfl)
theorem dX6_peek_4 : decode cX6_peek 4 = .ok (.ifCond .eq 8, 3) := dk_153 0 8 (dk_at dksX6_peek_0 4 rfl rfl)
theorem dX6_peek_7 : decode cX6_peek 7 = .ok (.aload_n 0, 1) := dk_42 (dk_at dksX6_peek_0 7 rfl rfl)
theorem dX6_peek_8 : decode cX6_peek 8 = .ok (.getfield 30, 3) := dk_180 0 30 (dk_at dksX6_peek_0 8 rfl rfl)
theorem dX6_peek_11 : decode cX6_peek 11 = .ok (.ireturn, 1) := dk_172 (dk_at dksX6_peek_0 11 rfl rfl)
theorem dX6_peek_12 : decode cX6_peek 12 = .ok (.aload_n 0, 1) := dk_42 (dk_at dksX6_peek_0 12 rfl rfl)
theorem dX6_peek_13 : decode cX6_peek 13 = .ok (.invokevirtual 278, 3) := dk_182 1 22 (dk_at dksX6_peek_0 13 rfl rfl)
theorem dX6_peek_16 : decode cX6_peek 16 = .ok (.aload_n 0, 1) := dk_42 (dk_at dksX6_peek_0 16 rfl rfl)
theorem dX6_peek_17 : decode cX6_peek 17 = .ok (.iconst 1, 1) := dk_4 (dk_at dksX6_peek_0 17 rfl rfl)
theorem dX6_peek_18 : decode cX6_peek 18 = .ok (.putfield 39, 3) := dk_181 0 39 (dk_at dksX6_peek_0 18 rfl rfl)
theorem dX6_peek_21 : decode cX6_peek 21 = .ok (.aload_n 0, 1) := dk_42 (dk_at dksX6_peek_0 21 rfl rfl)
theorem dX6_peek_22 : decode cX6_peek 22 = .ok (.aload_n 0, 1) := dk_42 (dk_at dksX6_peek_0 22 rfl rfl)
theorem dX6_peek_23 : decode cX6_peek 23 = .ok (.getfield 27, 3) := dk_180 0 27 (dk_at dksX6_peek_1 0 rfl rfl)
theorem dX6_peek_26 : decode cX6_peek 26 = .ok (.putfield 33, 3) := dk_181 0 33 (dk_at dksX6_peek_1 3 rfl rfl)
theorem dX6_peek_29 : decode cX6_peek 29 = .ok (.aload_n 0, 1) := dk_42 (dk_at dksX6_peek_1 6 rfl rfl)
theorem dX6_peek_30 : decode cX6_peek 30 = .ok (.aload_n 0, 1) := dk_42 (dk_at dksX6_peek_1 7 rfl rfl)
theorem dX6_peek_31 : decode cX6_peek 31 = .ok (.getfield 27, 3) := dk_180 0 27 (dk_at dksX6_peek_1 8 rfl rfl)
theorem dX6_peek_34 : decode cX6_peek 34 = .ok (.putfield 36, 3) := dk_181 0 36 (dk_at dksX6_peek_1 11 rfl rfl)
theorem dX6_peek_37 : decode cX6_peek 37 = .ok (.aload_n 0, 1) := dk_42 (dk_at dksX6_peek_1 14 rfl rfl)
theorem dX6_peek_38 : decode cX6_peek 38 = .ok (.iconst 0, 1) := dk_3 (dk_at dksX6_peek_1 15 rfl rfl)
theorem dX6_peek_39 : decode cX6_peek 39 = .ok (.putfield 30, 3) := dk_181 0 30 (dk_at dksX6_peek_1 16 rfl rfl)
theorem dX6_peek_42 : decode cX6_peek 42 = .ok (.aload_n 0, 1) := dk_42 (dk_at dksX6_peek_1 19 rfl rfl)
theorem dX6_peek_43 : decode cX6_peek 43 = .ok (.getfield 27, 3) := dk_180 0 27 (dk_at dksX6_peek_1 20 rfl rfl)
theorem dX6_peek_46 : decode cX6_peek 46 = .ok (.aload_n 0, 1) := dk_42 (dk_at dksX6_peek_1 23 rfl rfl)
theorem dX6_peek_47 : decode cX6_peek 47 = .ok (.getfield 14, 3) := dk_180 0 14 (dk_at dksX6_peek_2 0 rfl rfl)
theorem dX6_peek_50 : decode cX6_peek 50 = .ok (.if_icmp .ne 5, 3) := dk_160 0 5 (dk_at dksX6_peek_2 3 rfl rfl)
theorem dX6_peek_53 : decode cX6_peek 53 = .ok (.iconst 0, 1) := dk_3 (dk_at dksX6_peek_2 6 rfl rfl)
theorem dX6_peek_54 : decode cX6_peek 54 = .ok (.ireturn, 1) := dk_172 (dk_at dksX6_peek_2 7 rfl rfl)
theorem dX6_peek_55 : decode cX6_peek 55 = .ok (.aload_n 0, 1) := dk_42 (dk_at dksX6_peek_2 8 rfl rfl)
theorem dX6_peek_56 : decode cX6_peek 56 = .ok (.getfield 8, 3) := dk_180 0 8 (dk_at dksX6_peek_2 9 rfl rfl)
theorem dX6_peek_59 : decode cX6_peek 59 = .ok (.aload_n 0, 1) := dk_42 (dk_at dksX6_peek_2 12 rfl rfl)
theorem dX6_peek_60 : decode cX6_peek 60 = .ok (.getfield 27, 3) := dk_180 0 27 (dk_at dksX6_peek_2 13 rfl rfl)
theorem dX6_peek_63 : decode cX6_peek 63 = .ok (.baload, 1) := dk_51 (dk_at dksX6_peek_2 16 rfl rfl)
theorem dX6_peek_64 : decode cX6_peek 64 = .ok (.istore_n 1, 1) := dk_60 (dk_at dksX6_peek_2 17 rfl rfl)
theorem dX6_peek_65 : decode cX6_peek 65 = .ok (.iload_n 1, 1) := dk_27 (dk_at dksX6_peek_2 18 rfl rfl)
theorem dX6_peek_66 : decode cX6_peek 66 = .ok (.invokestatic 281, 3) := dk_184 1 25 (dk_at dksX6_peek_2 19 rfl rfl)
theorem dX6_peek_69 : decode cX6_peek 69 = .ok (.ifCond .eq 97, 3) := dk_153 0 97 (dk_at dksX6_peek_3 0 rfl rfl)
theorem dX6_peek_72 : decode cX6_peek 72 = .ok (.aload_n 0, 1) := dk_42 (dk_at dksX6_peek_3 3 rfl rfl)
theorem dX6_peek_73 : decode cX6_peek 73 = .ok (.getfield 36, 3) := dk_180 0 36 (dk_at dksX6_peek_3 4 rfl rfl)
theorem dX6_peek_76 : decode cX6_peek 76 = .ok (.aload_n 0, 1) := dk_42 (dk_at dksX6_peek_3 7 rfl rfl)
theorem dX6_peek_77 : decode cX6_peek 77 = .ok (.getfield 14, 3) := dk_180 0 14 (dk_at dksX6_peek_3 8 rfl rfl)
theorem dX6_peek_80 : decode cX6_peek 80 = .ok (.if_icmp .ge 60, 3) := dk_162 0 60 (dk_at dksX6_peek_3 11 rfl rfl)
theorem dX6_peek_83 : decode cX6_peek 83 = .ok (.aload_n 0, 1) := dk_42 (dk_at dksX6_peek_3 14 rfl rfl)
theorem dX6_peek_84 : decode cX6_peek 84 = .ok (.getfield 8, 3) := dk_180 0 8 (dk_at dksX6_peek_3 15 rfl rfl)
theorem dX6_peek_87 : decode cX6_peek 87 = .ok (.aload_n 0, 1) := dk_42 (dk_at dksX6_peek_3 18 rfl rfl)
theorem dX6_peek_88 : decode cX6_peek 88 = .ok (.getfield 36, 3) := dk_180 0 36 (dk_at dksX6_peek_3 19 rfl rfl)
theorem dX6_peek_91 : decode cX6_peek 91 = .ok (.baload, 1) := dk_51 (dk_at dksX6_peek_3 22 rfl rfl)
theorem dX6_peek_92 : decode cX6_peek 92 = .ok (.invokestatic 281, 3) := dk_184 1 25 (dk_at dksX6_peek_4 0 rfl rfl)
theorem dX6_peek_95 : decode cX6_peek 95 = .ok (.ifCond .ne 32, 3) := dk_154 0 32 (dk_at dksX6_peek_4 3 rfl rfl)
theorem dX6_peek_98 : decode cX6_peek 98 = .ok (.aload_n 0, 1) := dk_42 (dk_at dksX6_peek_4 6 rfl rfl)
theorem dX6_peek_99 : decode cX6_peek 99 = .ok (.getfield 8, 3) := dk_180 0 8 (dk_at dksX6_peek_4 7 rfl rfl)
theorem dX6_peek_102 : decode cX6_peek 102 = .ok (.aload_n 0, 1) := dk_42 (dk_at dksX6_peek_4 10 rfl rfl)
theorem dX6_peek_103 : decode cX6_peek 103 = .ok (.getfield 36, 3) := dk_180 0 36 (dk_at dksX6_peek_4 11 rfl rfl)
theorem dX6_peek_106 : decode cX6_peek 106 = .ok (.baload, 1) := dk_51 (dk_at dksX6_peek_4 14 rfl rfl)
theorem dX6_peek_107 : decode cX6_peek 107 = .ok (.invokestatic 285, 3) := dk_184 1 29 (dk_at dksX6_peek_4 15 rfl rfl)
theorem dX6_peek_110 : decode cX6_peek 110 = .ok (.ifCond .ne 17, 3) := dk_154 0 17 (dk_at dksX6_peek_4 18 rfl rfl)
theorem dX6_peek_113 : decode cX6_peek 113 = .ok (.aload_n 0, 1) := dk_42 (dk_at dksX6_peek_4 21 rfl rfl)
theorem dX6_peek_114 : decode cX6_peek 114 = .ok (.getfield 8, 3) := dk_180 0 8 (dk_at dksX6_peek_5 0 rfl rfl)
theorem dX6_peek_117 : decode cX6_peek 117 = .ok (.aload_n 0, 1) := dk_42 (dk_at dksX6_peek_5 3 rfl rfl)
theorem dX6_peek_118 : decode cX6_peek 118 = .ok (.getfield 36, 3) := dk_180 0 36 (dk_at dksX6_peek_5 4 rfl rfl)
theorem dX6_peek_121 : decode cX6_peek 121 = .ok (.baload, 1) := dk_51 (dk_at dksX6_peek_5 7 rfl rfl)
theorem dX6_peek_122 : decode cX6_peek 122 = .ok (.bipush 95, 2) := dk_16 95 (dk_at dksX6_peek_5 8 rfl rfl)
theorem dX6_peek_124 : decode cX6_peek 124 = .ok (.if_icmp .ne 16, 3) := dk_160 0 16 (dk_at dksX6_peek_5 10 rfl rfl)
theorem dX6_peek_127 : decode cX6_peek 127 = .ok (.aload_n 0, 1) := dk_42 (dk_at dksX6_peek_5 13 rfl rfl)
theorem dX6_peek_128 : decode cX6_peek 128 = .ok (.dup, 1) := dk_89 (dk_at dksX6_peek_5 14 rfl rfl)
theorem dX6_peek_129 : decode cX6_peek 129 = .ok (.getfield 36, 3) := dk_180 0 36 (dk_at dksX6_peek_5 15 rfl rfl)
theorem dX6_peek_132 : decode cX6_peek 132 = .ok (.iconst 1, 1) := dk_4 (dk_at dksX6_peek_5 18 rfl rfl)
theorem dX6_peek_133 : decode cX6_peek 133 = .ok (.iadd, 1) := dk_96 (dk_at dksX6_peek_5 19 rfl rfl)
theorem dX6_peek_134 : decode cX6_peek 134 = .ok (.putfield 36, 3) := dk_181 0 36 (dk_at dksX6_peek_5 20 rfl rfl)
theorem dX6_peek_137 : decode cX6_peek 137 = .ok (.goto (-65), 3) := dk_167 255 191 (dk_at dksX6_peek_6 0 rfl rfl)
theorem dX6_peek_140 : decode cX6_peek 140 = .ok (.aload_n 0, 1) := dk_42 (dk_at dksX6_peek_6 3 rfl rfl)
theorem dX6_peek_141 : decode cX6_peek 141 = .ok (.aload_n 0, 1) := dk_42 (dk_at dksX6_peek_6 4 rfl rfl)
theorem dX6_peek_142 : decode cX6_peek 142 = .ok (.getfield 36, 3) := dk_180 0 36 (dk_at dksX6_peek_6 5 rfl rfl)
theorem dX6_peek_145 : decode cX6_peek 145 = .ok (.aload_n 0, 1) := dk_42 (dk_at dksX6_peek_6 8 rfl rfl)
theorem dX6_peek_146 : decode cX6_peek 146 = .ok (.getfield 27, 3) := dk_180 0 27 (dk_at dksX6_peek_6 9 rfl rfl)
theorem dX6_peek_149 : decode cX6_peek 149 = .ok (.isub, 1) := dk_100 (dk_at dksX6_peek_6 12 rfl rfl)
theorem dX6_peek_150 : decode cX6_peek 150 = .ok (.bipush 31, 2) := dk_16 31 (dk_at dksX6_peek_6 13 rfl rfl)
theorem dX6_peek_152 : decode cX6_peek 152 = .ok (.if_icmp .le 7, 3) := dk_164 0 7 (dk_at dksX6_peek_6 15 rfl rfl)
theorem dX6_peek_155 : decode cX6_peek 155 = .ok (.iconst 3, 1) := dk_6 (dk_at dksX6_peek_6 18 rfl rfl)
theorem dX6_peek_156 : decode cX6_peek 156 = .ok (.goto 4, 3) := dk_167 0 4 (dk_at dksX6_peek_6 19 rfl rfl)
theorem dX6_peek_159 : decode cX6_peek 159 = .ok (.iconst 1, 1) := dk_4 (dk_at dksX6_peek_6 22 rfl rfl)
theorem dX6_peek_160 : decode cX6_peek 160 = .ok (.putfield 30, 3) := dk_181 0 30 (dk_at dksX6_peek_7 0 rfl rfl)
theorem dX6_peek_163 : decode cX6_peek 163 = .ok (.goto 123, 3) := dk_167 0 123 (dk_at dksX6_peek_7 3 rfl rfl)
theorem dX6_peek_166 : decode cX6_peek 166 = .ok (.iload_n 1, 1) := dk_27 (dk_at dksX6_peek_7 6 rfl rfl)
theorem dX6_peek_167 : decode cX6_peek 167 = .ok (.invokestatic 285, 3) := dk_184 1 29 (dk_at dksX6_peek_7 7 rfl rfl)
theorem dX6_peek_170 : decode cX6_peek 170 = .ok (.ifCond .eq 68, 3) := dk_153 0 68 (dk_at dksX6_peek_7 10 rfl rfl)
theorem dX6_peek_173 : decode cX6_peek 173 = .ok (.aload_n 0, 1) := dk_42 (dk_at dksX6_peek_7 13 rfl rfl)
theorem dX6_peek_174 : decode cX6_peek 174 = .ok (.getfield 36, 3) := dk_180 0 36 (dk_at dksX6_peek_7 14 rfl rfl)
theorem dX6_peek_177 : decode cX6_peek 177 = .ok (.aload_n 0, 1) := dk_42 (dk_at dksX6_peek_7 17 rfl rfl)
theorem dX6_peek_178 : decode cX6_peek 178 = .ok (.getfield 14, 3) := dk_180 0 14 (dk_at dksX6_peek_7 18 rfl rfl)
theorem dX6_peek_181 : decode cX6_peek 181 = .ok (.if_icmp .ge 31, 3) := dk_162 0 31 (dk_at dksX6_peek_7 21 rfl rfl)
theorem dX6_peek_184 : decode cX6_peek 184 = .ok (.aload_n 0, 1) := dk_42 (dk_at dksX6_peek_8 0 rfl rfl)
theorem dX6_peek_185 : decode cX6_peek 185 = .ok (.getfield 8, 3) := dk_180 0 8 (dk_at dksX6_peek_8 1 rfl rfl)
theorem dX6_peek_188 : decode cX6_peek 188 = .ok (.aload_n 0, 1) := dk_42 (dk_at dksX6_peek_8 4 rfl rfl)
theorem dX6_peek_189 : decode cX6_peek 189 = .ok (.getfield 36, 3) := dk_180 0 36 (dk_at dksX6_peek_8 5 rfl rfl)
theorem dX6_peek_192 : decode cX6_peek 192 = .ok (.baload, 1) := dk_51 (dk_at dksX6_peek_8 8 rfl rfl)
theorem dX6_peek_193 : decode cX6_peek 193 = .ok (.invokestatic 285, 3) := dk_184 1 29 (dk_at dksX6_peek_8 9 rfl rfl)
theorem dX6_peek_196 : decode cX6_peek 196 = .ok (.ifCond .eq 16, 3) := dk_153 0 16 (dk_at dksX6_peek_8 12 rfl rfl)
theorem dX6_peek_199 : decode cX6_peek 199 = .ok (.aload_n 0, 1) := dk_42 (dk_at dksX6_peek_8 15 rfl rfl)
theorem dX6_peek_200 : decode cX6_peek 200 = .ok (.dup, 1) := dk_89 (dk_at dksX6_peek_8 16 rfl rfl)
theorem dX6_peek_201 : decode cX6_peek 201 = .ok (.getfield 36, 3) := dk_180 0 36 (dk_at dksX6_peek_8 17 rfl rfl)
theorem dX6_peek_204 : decode cX6_peek 204 = .ok (.iconst 1, 1) := dk_4 (dk_at dksX6_peek_8 20 rfl rfl)
theorem dX6_peek_205 : decode cX6_peek 205 = .ok (.iadd, 1) := dk_96 (dk_at dksX6_peek_8 21 rfl rfl)
theorem dX6_peek_206 : decode cX6_peek 206 = .ok (.putfield 36, 3) := dk_181 0 36 (dk_at dksX6_peek_9 0 rfl rfl)
theorem dX6_peek_209 : decode cX6_peek 209 = .ok (.goto (-36), 3) := dk_167 255 220 (dk_at dksX6_peek_9 3 rfl rfl)
theorem dX6_peek_212 : decode cX6_peek 212 = .ok (.aload_n 0, 1) := dk_42 (dk_at dksX6_peek_9 6 rfl rfl)
theorem dX6_peek_213 : decode cX6_peek 213 = .ok (.aload_n 0, 1) := dk_42 (dk_at dksX6_peek_9 7 rfl rfl)
theorem dX6_peek_214 : decode cX6_peek 214 = .ok (.getfield 36, 3) := dk_180 0 36 (dk_at dksX6_peek_9 8 rfl rfl)
theorem dX6_peek_217 : decode cX6_peek 217 = .ok (.aload_n 0, 1) := dk_42 (dk_at dksX6_peek_9 11 rfl rfl)
theorem dX6_peek_218 : decode cX6_peek 218 = .ok (.getfield 27, 3) := dk_180 0 27 (dk_at dksX6_peek_9 12 rfl rfl)
theorem dX6_peek_221 : decode cX6_peek 221 = .ok (.isub, 1) := dk_100 (dk_at dksX6_peek_9 15 rfl rfl)
theorem dX6_peek_222 : decode cX6_peek 222 = .ok (.bipush 9, 2) := dk_16 9 (dk_at dksX6_peek_9 16 rfl rfl)
theorem dX6_peek_224 : decode cX6_peek 224 = .ok (.if_icmp .le 7, 3) := dk_164 0 7 (dk_at dksX6_peek_9 18 rfl rfl)
theorem dX6_peek_227 : decode cX6_peek 227 = .ok (.iconst 3, 1) := dk_6 (dk_at dksX6_peek_9 21 rfl rfl)
theorem dX6_peek_228 : decode cX6_peek 228 = .ok (.goto 4, 3) := dk_167 0 4 (dk_at dksX6_peek_10 0 rfl rfl)
theorem dX6_peek_231 : decode cX6_peek 231 = .ok (.iconst 2, 1) := dk_5 (dk_at dksX6_peek_10 3 rfl rfl)
theorem dX6_peek_232 : decode cX6_peek 232 = .ok (.putfield 30, 3) := dk_181 0 30 (dk_at dksX6_peek_10 4 rfl rfl)
theorem dX6_peek_235 : decode cX6_peek 235 = .ok (.goto 51, 3) := dk_167 0 51 (dk_at dksX6_peek_10 7 rfl rfl)
theorem dX6_peek_238 : decode cX6_peek 238 = .ok (.aload_n 0, 1) := dk_42 (dk_at dksX6_peek_10 10 rfl rfl)
theorem dX6_peek_239 : decode cX6_peek 239 = .ok (.aload_n 0, 1) := dk_42 (dk_at dksX6_peek_10 11 rfl rfl)
theorem dX6_peek_240 : decode cX6_peek 240 = .ok (.getfield 27, 3) := dk_180 0 27 (dk_at dksX6_peek_10 12 rfl rfl)
theorem dX6_peek_243 : decode cX6_peek 243 = .ok (.iconst 1, 1) := dk_4 (dk_at dksX6_peek_10 15 rfl rfl)
theorem dX6_peek_244 : decode cX6_peek 244 = .ok (.iadd, 1) := dk_96 (dk_at dksX6_peek_10 16 rfl rfl)
theorem dX6_peek_245 : decode cX6_peek 245 = .ok (.putfield 36, 3) := dk_181 0 36 (dk_at dksX6_peek_10 17 rfl rfl)
theorem dX6_peek_248 : decode cX6_peek 248 = .ok (.aload_n 0, 1) := dk_42 (dk_at dksX6_peek_10 20 rfl rfl)
theorem dX6_peek_249 : decode cX6_peek 249 = .ok (.iload_n 1, 1) := dk_27 (dk_at dksX6_peek_10 21 rfl rfl)
theorem dX6_peek_250 : decode cX6_peek 250 = .ok (.aload_n 0, 1) := dk_42 (dk_at dksX6_peek_10 22 rfl rfl)
theorem dX6_peek_251 : decode cX6_peek 251 = .ok (.aload_n 0, 1) := dk_42 (dk_at dksX6_peek_10 23 rfl rfl)
theorem dX6_peek_252 : decode cX6_peek 252 = .ok (.getfield 27, 3) := dk_180 0 27 (dk_at dksX6_peek_11 0 rfl rfl)
theorem dX6_peek_255 : decode cX6_peek 255 = .ok (.iconst 1, 1) := dk_4 (dk_at dksX6_peek_11 3 rfl rfl)
theorem dX6_peek_256 : decode cX6_peek 256 = .ok (.iadd, 1) := dk_96 (dk_at dksX6_peek_11 4 rfl rfl)
theorem dX6_peek_257 : decode cX6_peek 257 = .ok (.invokevirtual 274, 3) := dk_182 1 18 (dk_at dksX6_peek_11 5 rfl rfl)
theorem dX6_peek_260 : decode cX6_peek 260 = .ok (.invokestatic 288, 3) := dk_184 1 32 (dk_at dksX6_peek_11 8 rfl rfl)
theorem dX6_peek_263 : decode cX6_peek 263 = .ok (.putfield 30, 3) := dk_181 0 30 (dk_at dksX6_peek_11 11 rfl rfl)
theorem dX6_peek_266 : decode cX6_peek 266 = .ok (.aload_n 0, 1) := dk_42 (dk_at dksX6_peek_11 14 rfl rfl)
theorem dX6_peek_267 : decode cX6_peek 267 = .ok (.getfield 30, 3) := dk_180 0 30 (dk_at dksX6_peek_11 15 rfl rfl)
theorem dX6_peek_270 : decode cX6_peek 270 = .ok (.sipush 299, 3) := dk_17 1 43 (dk_at dksX6_peek_11 18 rfl rfl)
theorem dX6_peek_273 : decode cX6_peek 273 = .ok (.if_icmp .le 13, 3) := dk_164 0 13 (dk_at dksX6_peek_11 21 rfl rfl)
theorem dX6_peek_276 : decode cX6_peek 276 = .ok (.aload_n 0, 1) := dk_42 (dk_at dksX6_peek_12 0 rfl rfl)
theorem dX6_peek_277 : decode cX6_peek 277 = .ok (.dup, 1) := dk_89 (dk_at dksX6_peek_12 1 rfl rfl)
theorem dX6_peek_278 : decode cX6_peek 278 = .ok (.getfield 36, 3) := dk_180 0 36 (dk_at dksX6_peek_12 2 rfl rfl)
theorem dX6_peek_281 : decode cX6_peek 281 = .ok (.iconst 1, 1) := dk_4 (dk_at dksX6_peek_12 5 rfl rfl)
theorem dX6_peek_282 : decode cX6_peek 282 = .ok (.iadd, 1) := dk_96 (dk_at dksX6_peek_12 6 rfl rfl)
theorem dX6_peek_283 : decode cX6_peek 283 = .ok (.putfield 36, 3) := dk_181 0 36 (dk_at dksX6_peek_12 7 rfl rfl)
theorem dX6_peek_286 : decode cX6_peek 286 = .ok (.aload_n 0, 1) := dk_42 (dk_at dksX6_peek_12 10 rfl rfl)
theorem dX6_peek_287 : decode cX6_peek 287 = .ok (.getfield 30, 3) := dk_180 0 30 (dk_at dksX6_peek_12 11 rfl rfl)
theorem dX6_peek_290 : decode cX6_peek 290 = .ok (.ireturn, 1) := dk_172 (dk_at dksX6_peek_12 14 rfl rfl)
abbrev cX6_parts : ByteArray := prog_26_method_9_code
def yX6_parts : MethodName := ⟨RX6, "parts", "()V"⟩
def dkwX6_parts_5 : List UInt8 := [177, 167, 255, 138, 177]
abbrev dktX6_parts_5 : List UInt8 := dkwX6_parts_5 ++ []
def dkwX6_parts_4 : List UInt8 := [16, 10, 159, 0, 9, 27, 16, 13, 160, 0, 16, 42, 89, 180, 0, 27, 4, 96, 181, 0, 27, 167, 0, 4]
abbrev dktX6_parts_4 : List UInt8 := dkwX6_parts_4 ++ dktX6_parts_5
def dkwX6_parts_3 : List UInt8 := [180, 0, 27, 4, 96, 181, 0, 27, 167, 255, 221, 27, 16, 32, 159, 0, 21, 27, 16, 9, 159, 0, 15, 27]
abbrev dktX6_parts_3 : List UInt8 := dkwX6_parts_3 ++ dktX6_parts_4
def dkwX6_parts_2 : List UInt8 := [180, 0, 14, 162, 0, 68, 42, 180, 0, 8, 42, 180, 0, 27, 51, 16, 10, 159, 0, 54, 42, 89]
abbrev dktX6_parts_2 : List UInt8 := dkwX6_parts_2 ++ dktX6_parts_3
def dkwX6_parts_1 : List UInt8 := [160, 0, 56, 42, 42, 180, 0, 27, 4, 96, 182, 1, 18, 16, 45, 160, 0, 41, 42, 180, 0, 27, 42]
abbrev dktX6_parts_1 : List UInt8 := dkwX6_parts_1 ++ dktX6_parts_2
def dkwX6_parts_0 : List UInt8 := [42, 180, 0, 27, 42, 180, 0, 14, 162, 0, 113, 42, 180, 0, 8, 42, 180, 0, 27, 51, 60, 27, 16, 45]
abbrev dktX6_parts_0 : List UInt8 := dkwX6_parts_0 ++ dktX6_parts_1
theorem dksX6_parts_0 : cX6_parts.data.toList.drop 0 = dktX6_parts_0 := by decide +kernel
theorem dksX6_parts_1 : cX6_parts.data.toList.drop 24 = dktX6_parts_1 := dk_seg dksX6_parts_0 24 rfl rfl
theorem dksX6_parts_2 : cX6_parts.data.toList.drop 47 = dktX6_parts_2 := dk_seg dksX6_parts_1 23 rfl rfl
theorem dksX6_parts_3 : cX6_parts.data.toList.drop 69 = dktX6_parts_3 := dk_seg dksX6_parts_2 22 rfl rfl
theorem dksX6_parts_4 : cX6_parts.data.toList.drop 93 = dktX6_parts_4 := dk_seg dksX6_parts_3 24 rfl rfl
theorem dksX6_parts_5 : cX6_parts.data.toList.drop 117 = dktX6_parts_5 := dk_seg dksX6_parts_4 24 rfl rfl
theorem dX6_parts_0 : decode cX6_parts 0 = .ok (.aload_n 0, 1) := dk_42 (dk_at dksX6_parts_0 0 rfl rfl)
theorem dX6_parts_1 : decode cX6_parts 1 = .ok (.getfield 27, 3) := dk_180 0 27 (dk_at dksX6_parts_0 1 rfl rfl)
theorem dX6_parts_4 : decode cX6_parts 4 = .ok (.aload_n 0, 1) := dk_42 (dk_at dksX6_parts_0 4 rfl rfl)
theorem dX6_parts_5 : decode cX6_parts 5 = .ok (.getfield 14, 3) := dk_180 0 14 (dk_at dksX6_parts_0 5 rfl rfl)
theorem dX6_parts_8 : decode cX6_parts 8 = .ok (.if_icmp .ge 113, 3) := dk_162 0 113 (dk_at dksX6_parts_0 8 rfl rfl)
theorem dX6_parts_11 : decode cX6_parts 11 = .ok (.aload_n 0, 1) := dk_42 (dk_at dksX6_parts_0 11 rfl rfl)
theorem dX6_parts_12 : decode cX6_parts 12 = .ok (.getfield 8, 3) := dk_180 0 8 (dk_at dksX6_parts_0 12 rfl rfl)
theorem dX6_parts_15 : decode cX6_parts 15 = .ok (.aload_n 0, 1) := dk_42 (dk_at dksX6_parts_0 15 rfl rfl)
theorem dX6_parts_16 : decode cX6_parts 16 = .ok (.getfield 27, 3) := dk_180 0 27 (dk_at dksX6_parts_0 16 rfl rfl)
theorem dX6_parts_19 : decode cX6_parts 19 = .ok (.baload, 1) := dk_51 (dk_at dksX6_parts_0 19 rfl rfl)
theorem dX6_parts_20 : decode cX6_parts 20 = .ok (.istore_n 1, 1) := dk_60 (dk_at dksX6_parts_0 20 rfl rfl)
theorem dX6_parts_21 : decode cX6_parts 21 = .ok (.iload_n 1, 1) := dk_27 (dk_at dksX6_parts_0 21 rfl rfl)
theorem dX6_parts_22 : decode cX6_parts 22 = .ok (.bipush 45, 2) := dk_16 45 (dk_at dksX6_parts_0 22 rfl rfl)
theorem dX6_parts_24 : decode cX6_parts 24 = .ok (.if_icmp .ne 56, 3) := dk_160 0 56 (dk_at dksX6_parts_1 0 rfl rfl)
theorem dX6_parts_27 : decode cX6_parts 27 = .ok (.aload_n 0, 1) := dk_42 (dk_at dksX6_parts_1 3 rfl rfl)
theorem dX6_parts_28 : decode cX6_parts 28 = .ok (.aload_n 0, 1) := dk_42 (dk_at dksX6_parts_1 4 rfl rfl)
theorem dX6_parts_29 : decode cX6_parts 29 = .ok (.getfield 27, 3) := dk_180 0 27 (dk_at dksX6_parts_1 5 rfl rfl)
theorem dX6_parts_32 : decode cX6_parts 32 = .ok (.iconst 1, 1) := dk_4 (dk_at dksX6_parts_1 8 rfl rfl)
theorem dX6_parts_33 : decode cX6_parts 33 = .ok (.iadd, 1) := dk_96 (dk_at dksX6_parts_1 9 rfl rfl)
theorem dX6_parts_34 : decode cX6_parts 34 = .ok (.invokevirtual 274, 3) := dk_182 1 18 (dk_at dksX6_parts_1 10 rfl rfl)
theorem dX6_parts_37 : decode cX6_parts 37 = .ok (.bipush 45, 2) := dk_16 45 (dk_at dksX6_parts_1 13 rfl rfl)
theorem dX6_parts_39 : decode cX6_parts 39 = .ok (.if_icmp .ne 41, 3) := dk_160 0 41 (dk_at dksX6_parts_1 15 rfl rfl)
theorem dX6_parts_42 : decode cX6_parts 42 = .ok (.aload_n 0, 1) := dk_42 (dk_at dksX6_parts_1 18 rfl rfl)
theorem dX6_parts_43 : decode cX6_parts 43 = .ok (.getfield 27, 3) := dk_180 0 27 (dk_at dksX6_parts_1 19 rfl rfl)
theorem dX6_parts_46 : decode cX6_parts 46 = .ok (.aload_n 0, 1) := dk_42 (dk_at dksX6_parts_1 22 rfl rfl)
theorem dX6_parts_47 : decode cX6_parts 47 = .ok (.getfield 14, 3) := dk_180 0 14 (dk_at dksX6_parts_2 0 rfl rfl)
theorem dX6_parts_50 : decode cX6_parts 50 = .ok (.if_icmp .ge 68, 3) := dk_162 0 68 (dk_at dksX6_parts_2 3 rfl rfl)
theorem dX6_parts_53 : decode cX6_parts 53 = .ok (.aload_n 0, 1) := dk_42 (dk_at dksX6_parts_2 6 rfl rfl)
theorem dX6_parts_54 : decode cX6_parts 54 = .ok (.getfield 8, 3) := dk_180 0 8 (dk_at dksX6_parts_2 7 rfl rfl)
theorem dX6_parts_57 : decode cX6_parts 57 = .ok (.aload_n 0, 1) := dk_42 (dk_at dksX6_parts_2 10 rfl rfl)
theorem dX6_parts_58 : decode cX6_parts 58 = .ok (.getfield 27, 3) := dk_180 0 27 (dk_at dksX6_parts_2 11 rfl rfl)
theorem dX6_parts_61 : decode cX6_parts 61 = .ok (.baload, 1) := dk_51 (dk_at dksX6_parts_2 14 rfl rfl)
theorem dX6_parts_62 : decode cX6_parts 62 = .ok (.bipush 10, 2) := dk_16 10 (dk_at dksX6_parts_2 15 rfl rfl)
theorem dX6_parts_64 : decode cX6_parts 64 = .ok (.if_icmp .eq 54, 3) := dk_159 0 54 (dk_at dksX6_parts_2 17 rfl rfl)
theorem dX6_parts_67 : decode cX6_parts 67 = .ok (.aload_n 0, 1) := dk_42 (dk_at dksX6_parts_2 20 rfl rfl)
theorem dX6_parts_68 : decode cX6_parts 68 = .ok (.dup, 1) := dk_89 (dk_at dksX6_parts_2 21 rfl rfl)
theorem dX6_parts_69 : decode cX6_parts 69 = .ok (.getfield 27, 3) := dk_180 0 27 (dk_at dksX6_parts_3 0 rfl rfl)
theorem dX6_parts_72 : decode cX6_parts 72 = .ok (.iconst 1, 1) := dk_4 (dk_at dksX6_parts_3 3 rfl rfl)
theorem dX6_parts_73 : decode cX6_parts 73 = .ok (.iadd, 1) := dk_96 (dk_at dksX6_parts_3 4 rfl rfl)
theorem dX6_parts_74 : decode cX6_parts 74 = .ok (.putfield 27, 3) := dk_181 0 27 (dk_at dksX6_parts_3 5 rfl rfl)
theorem dX6_parts_77 : decode cX6_parts 77 = .ok (.goto (-35), 3) := dk_167 255 221 (dk_at dksX6_parts_3 8 rfl rfl)
theorem dX6_parts_80 : decode cX6_parts 80 = .ok (.iload_n 1, 1) := dk_27 (dk_at dksX6_parts_3 11 rfl rfl)
theorem dX6_parts_81 : decode cX6_parts 81 = .ok (.bipush 32, 2) := dk_16 32 (dk_at dksX6_parts_3 12 rfl rfl)
theorem dX6_parts_83 : decode cX6_parts 83 = .ok (.if_icmp .eq 21, 3) := dk_159 0 21 (dk_at dksX6_parts_3 14 rfl rfl)
theorem dX6_parts_86 : decode cX6_parts 86 = .ok (.iload_n 1, 1) := dk_27 (dk_at dksX6_parts_3 17 rfl rfl)
theorem dX6_parts_87 : decode cX6_parts 87 = .ok (.bipush 9, 2) := dk_16 9 (dk_at dksX6_parts_3 18 rfl rfl)
theorem dX6_parts_89 : decode cX6_parts 89 = .ok (.if_icmp .eq 15, 3) := dk_159 0 15 (dk_at dksX6_parts_3 20 rfl rfl)
theorem dX6_parts_92 : decode cX6_parts 92 = .ok (.iload_n 1, 1) := dk_27 (dk_at dksX6_parts_3 23 rfl rfl)
theorem dX6_parts_93 : decode cX6_parts 93 = .ok (.bipush 10, 2) := dk_16 10 (dk_at dksX6_parts_4 0 rfl rfl)
theorem dX6_parts_95 : decode cX6_parts 95 = .ok (.if_icmp .eq 9, 3) := dk_159 0 9 (dk_at dksX6_parts_4 2 rfl rfl)
theorem dX6_parts_98 : decode cX6_parts 98 = .ok (.iload_n 1, 1) := dk_27 (dk_at dksX6_parts_4 5 rfl rfl)
theorem dX6_parts_99 : decode cX6_parts 99 = .ok (.bipush 13, 2) := dk_16 13 (dk_at dksX6_parts_4 6 rfl rfl)
theorem dX6_parts_101 : decode cX6_parts 101 = .ok (.if_icmp .ne 16, 3) := dk_160 0 16 (dk_at dksX6_parts_4 8 rfl rfl)
theorem dX6_parts_104 : decode cX6_parts 104 = .ok (.aload_n 0, 1) := dk_42 (dk_at dksX6_parts_4 11 rfl rfl)
theorem dX6_parts_105 : decode cX6_parts 105 = .ok (.dup, 1) := dk_89 (dk_at dksX6_parts_4 12 rfl rfl)
theorem dX6_parts_106 : decode cX6_parts 106 = .ok (.getfield 27, 3) := dk_180 0 27 (dk_at dksX6_parts_4 13 rfl rfl)
theorem dX6_parts_109 : decode cX6_parts 109 = .ok (.iconst 1, 1) := dk_4 (dk_at dksX6_parts_4 16 rfl rfl)
theorem dX6_parts_110 : decode cX6_parts 110 = .ok (.iadd, 1) := dk_96 (dk_at dksX6_parts_4 17 rfl rfl)
theorem dX6_parts_111 : decode cX6_parts 111 = .ok (.putfield 27, 3) := dk_181 0 27 (dk_at dksX6_parts_4 18 rfl rfl)
theorem dX6_parts_114 : decode cX6_parts 114 = .ok (.goto 4, 3) := dk_167 0 4 (dk_at dksX6_parts_4 21 rfl rfl)
theorem dX6_parts_117 : decode cX6_parts 117 = .ok (.return_, 1) := dk_177 (dk_at dksX6_parts_5 0 rfl rfl)
theorem dX6_parts_118 : decode cX6_parts 118 = .ok (.goto (-118), 3) := dk_167 255 138 (dk_at dksX6_parts_5 1 rfl rfl)
theorem dX6_parts_121 : decode cX6_parts 121 = .ok (.return_, 1) := dk_177 (dk_at dksX6_parts_5 4 rfl rfl)
abbrev cX6_byteAt : ByteArray := prog_26_method_8_code
def yX6_byteAt : MethodName := ⟨RX6, "byteAt", "(I)I"⟩
def dkwX6_byteAt_0 : List UInt8 := [27, 42, 180, 0, 14, 162, 0, 12, 42, 180, 0, 8, 27, 51, 167, 0, 4, 3, 172]
abbrev dktX6_byteAt_0 : List UInt8 := dkwX6_byteAt_0 ++ []
theorem dksX6_byteAt_0 : cX6_byteAt.data.toList.drop 0 = dktX6_byteAt_0 := by decide +kernel
theorem dX6_byteAt_0 : decode cX6_byteAt 0 = .ok (.iload_n 1, 1) := dk_27 (dk_at dksX6_byteAt_0 0 rfl rfl)
theorem dX6_byteAt_1 : decode cX6_byteAt 1 = .ok (.aload_n 0, 1) := dk_42 (dk_at dksX6_byteAt_0 1 rfl rfl)
theorem dX6_byteAt_2 : decode cX6_byteAt 2 = .ok (.getfield 14, 3) := dk_180 0 14 (dk_at dksX6_byteAt_0 2 rfl rfl)
theorem dX6_byteAt_5 : decode cX6_byteAt 5 = .ok (.if_icmp .ge 12, 3) := dk_162 0 12 (dk_at dksX6_byteAt_0 5 rfl rfl)
theorem dX6_byteAt_8 : decode cX6_byteAt 8 = .ok (.aload_n 0, 1) := dk_42 (dk_at dksX6_byteAt_0 8 rfl rfl)
theorem dX6_byteAt_9 : decode cX6_byteAt 9 = .ok (.getfield 8, 3) := dk_180 0 8 (dk_at dksX6_byteAt_0 9 rfl rfl)
theorem dX6_byteAt_12 : decode cX6_byteAt 12 = .ok (.iload_n 1, 1) := dk_27 (dk_at dksX6_byteAt_0 12 rfl rfl)
theorem dX6_byteAt_13 : decode cX6_byteAt 13 = .ok (.baload, 1) := dk_51 (dk_at dksX6_byteAt_0 13 rfl rfl)
theorem dX6_byteAt_14 : decode cX6_byteAt 14 = .ok (.goto 4, 3) := dk_167 0 4 (dk_at dksX6_byteAt_0 14 rfl rfl)
theorem dX6_byteAt_17 : decode cX6_byteAt 17 = .ok (.iconst 0, 1) := dk_3 (dk_at dksX6_byteAt_0 17 rfl rfl)
theorem dX6_byteAt_18 : decode cX6_byteAt 18 = .ok (.ireturn, 1) := dk_172 (dk_at dksX6_byteAt_0 18 rfl rfl)
abbrev cX6_letter : ByteArray := prog_26_method_7_code
def yX6_letter : MethodName := ⟨RX6, "letter", "(I)Z"⟩
def dkwX6_letter_1 : List UInt8 := [4, 167, 0, 4, 3, 172]
abbrev dktX6_letter_1 : List UInt8 := dkwX6_letter_1 ++ []
def dkwX6_letter_0 : List UInt8 := [26, 16, 97, 161, 0, 9, 26, 16, 122, 164, 0, 15, 26, 16, 65, 161, 0, 13, 26, 16, 90, 163, 0, 7]
abbrev dktX6_letter_0 : List UInt8 := dkwX6_letter_0 ++ dktX6_letter_1
theorem dksX6_letter_0 : cX6_letter.data.toList.drop 0 = dktX6_letter_0 := by decide +kernel
theorem dksX6_letter_1 : cX6_letter.data.toList.drop 24 = dktX6_letter_1 := dk_seg dksX6_letter_0 24 rfl rfl
theorem dX6_letter_0 : decode cX6_letter 0 = .ok (.iload_n 0, 1) := dk_26 (dk_at dksX6_letter_0 0 rfl rfl)
theorem dX6_letter_1 : decode cX6_letter 1 = .ok (.bipush 97, 2) := dk_16 97 (dk_at dksX6_letter_0 1 rfl rfl)
theorem dX6_letter_3 : decode cX6_letter 3 = .ok (.if_icmp .lt 9, 3) := dk_161 0 9 (dk_at dksX6_letter_0 3 rfl rfl)
theorem dX6_letter_6 : decode cX6_letter 6 = .ok (.iload_n 0, 1) := dk_26 (dk_at dksX6_letter_0 6 rfl rfl)
theorem dX6_letter_7 : decode cX6_letter 7 = .ok (.bipush 122, 2) := dk_16 122 (dk_at dksX6_letter_0 7 rfl rfl)
theorem dX6_letter_9 : decode cX6_letter 9 = .ok (.if_icmp .le 15, 3) := dk_164 0 15 (dk_at dksX6_letter_0 9 rfl rfl)
theorem dX6_letter_12 : decode cX6_letter 12 = .ok (.iload_n 0, 1) := dk_26 (dk_at dksX6_letter_0 12 rfl rfl)
theorem dX6_letter_13 : decode cX6_letter 13 = .ok (.bipush 65, 2) := dk_16 65 (dk_at dksX6_letter_0 13 rfl rfl)
theorem dX6_letter_15 : decode cX6_letter 15 = .ok (.if_icmp .lt 13, 3) := dk_161 0 13 (dk_at dksX6_letter_0 15 rfl rfl)
theorem dX6_letter_18 : decode cX6_letter 18 = .ok (.iload_n 0, 1) := dk_26 (dk_at dksX6_letter_0 18 rfl rfl)
theorem dX6_letter_19 : decode cX6_letter 19 = .ok (.bipush 90, 2) := dk_16 90 (dk_at dksX6_letter_0 19 rfl rfl)
theorem dX6_letter_21 : decode cX6_letter 21 = .ok (.if_icmp .gt 7, 3) := dk_163 0 7 (dk_at dksX6_letter_0 21 rfl rfl)
theorem dX6_letter_24 : decode cX6_letter 24 = .ok (.iconst 1, 1) := dk_4 (dk_at dksX6_letter_1 0 rfl rfl)
theorem dX6_letter_25 : decode cX6_letter 25 = .ok (.goto 4, 3) := dk_167 0 4 (dk_at dksX6_letter_1 1 rfl rfl)
theorem dX6_letter_28 : decode cX6_letter 28 = .ok (.iconst 0, 1) := dk_3 (dk_at dksX6_letter_1 4 rfl rfl)
theorem dX6_letter_29 : decode cX6_letter 29 = .ok (.ireturn, 1) := dk_172 (dk_at dksX6_letter_1 5 rfl rfl)
abbrev cX6_digit : ByteArray := prog_26_method_6_code
def yX6_digit : MethodName := ⟨RX6, "digit", "(I)Z"⟩
def dkwX6_digit_0 : List UInt8 := [26, 16, 48, 161, 0, 13, 26, 16, 57, 163, 0, 7, 4, 167, 0, 4, 3, 172]
abbrev dktX6_digit_0 : List UInt8 := dkwX6_digit_0 ++ []
theorem dksX6_digit_0 : cX6_digit.data.toList.drop 0 = dktX6_digit_0 := by decide +kernel
theorem dX6_digit_0 : decode cX6_digit 0 = .ok (.iload_n 0, 1) := dk_26 (dk_at dksX6_digit_0 0 rfl rfl)
theorem dX6_digit_1 : decode cX6_digit 1 = .ok (.bipush 48, 2) := dk_16 48 (dk_at dksX6_digit_0 1 rfl rfl)
theorem dX6_digit_3 : decode cX6_digit 3 = .ok (.if_icmp .lt 13, 3) := dk_161 0 13 (dk_at dksX6_digit_0 3 rfl rfl)
theorem dX6_digit_6 : decode cX6_digit 6 = .ok (.iload_n 0, 1) := dk_26 (dk_at dksX6_digit_0 6 rfl rfl)
theorem dX6_digit_7 : decode cX6_digit 7 = .ok (.bipush 57, 2) := dk_16 57 (dk_at dksX6_digit_0 7 rfl rfl)
theorem dX6_digit_9 : decode cX6_digit 9 = .ok (.if_icmp .gt 7, 3) := dk_163 0 7 (dk_at dksX6_digit_0 9 rfl rfl)
theorem dX6_digit_12 : decode cX6_digit 12 = .ok (.iconst 1, 1) := dk_4 (dk_at dksX6_digit_0 12 rfl rfl)
theorem dX6_digit_13 : decode cX6_digit 13 = .ok (.goto 4, 3) := dk_167 0 4 (dk_at dksX6_digit_0 13 rfl rfl)
theorem dX6_digit_16 : decode cX6_digit 16 = .ok (.iconst 0, 1) := dk_3 (dk_at dksX6_digit_0 16 rfl rfl)
theorem dX6_digit_17 : decode cX6_digit 17 = .ok (.ireturn, 1) := dk_172 (dk_at dksX6_digit_0 17 rfl rfl)
abbrev cX6_sign : ByteArray := prog_26_method_11_code
def yX6_sign : MethodName := ⟨RX6, "sign", "(II)I"⟩
def dkwX6_sign_5 : List UInt8 := [172, 6, 172]
abbrev dktX6_sign_5 : List UInt8 := dkwX6_sign_5 ++ []
def dkwX6_sign_4 : List UInt8 := [160, 0, 9, 17, 1, 46, 167, 0, 4, 26, 172, 27, 16, 62, 160, 0, 9, 17, 1, 47, 167, 0, 4, 26]
abbrev dktX6_sign_4 : List UInt8 := dkwX6_sign_4 ++ dktX6_sign_5
def dkwX6_sign_3 : List UInt8 := [17, 1, 44, 167, 0, 16, 27, 16, 61, 160, 0, 9, 17, 1, 45, 167, 0, 4, 26, 172, 27, 16, 61]
abbrev dktX6_sign_3 : List UInt8 := dkwX6_sign_3 ++ dktX6_sign_4
def dkwX6_sign_2 : List UInt8 := [26, 172, 27, 16, 62, 160, 0, 9, 17, 1, 48, 167, 0, 4, 26, 172, 27, 16, 62, 160, 0, 9]
abbrev dktX6_sign_2 : List UInt8 := dkwX6_sign_2 ++ dktX6_sign_3
def dkwX6_sign_1 : List UInt8 := [170, 0, 0, 0, 0, 0, 177, 0, 0, 0, 40, 0, 0, 0, 62, 0, 0, 0, 107, 0, 0, 0, 107, 0, 0, 0, 107, 0, 0, 0, 107, 0, 0, 0, 107, 0, 0, 0, 163, 0, 0, 0, 177, 0, 0, 0, 177, 0, 0, 0, 177, 0, 0, 0, 177, 0, 0, 0, 177, 0, 0, 0, 177, 0, 0, 0, 177, 0, 0, 0, 177, 0, 0, 0, 177, 0, 0, 0, 177, 0, 0, 0, 177, 0, 0, 0, 177, 0, 0, 0, 107, 0, 0, 0, 107, 0, 0, 0, 123, 0, 0, 0, 109, 0, 0, 0, 149]
abbrev dktX6_sign_1 : List UInt8 := dkwX6_sign_1 ++ dktX6_sign_2
def dkwX6_sign_0 : List UInt8 := [26]
abbrev dktX6_sign_0 : List UInt8 := dkwX6_sign_0 ++ dktX6_sign_1
theorem dksX6_sign_0 : cX6_sign.data.toList.drop 0 = dktX6_sign_0 := by decide +kernel
theorem dksX6_sign_1 : cX6_sign.data.toList.drop 1 = dktX6_sign_1 := dk_seg dksX6_sign_0 1 rfl rfl
theorem dksX6_sign_2 : cX6_sign.data.toList.drop 108 = dktX6_sign_2 := dk_seg dksX6_sign_1 107 rfl rfl
theorem dksX6_sign_3 : cX6_sign.data.toList.drop 130 = dktX6_sign_3 := dk_seg dksX6_sign_2 22 rfl rfl
theorem dksX6_sign_4 : cX6_sign.data.toList.drop 153 = dktX6_sign_4 := dk_seg dksX6_sign_3 23 rfl rfl
theorem dksX6_sign_5 : cX6_sign.data.toList.drop 177 = dktX6_sign_5 := dk_seg dksX6_sign_4 24 rfl rfl
theorem dX6_sign_0 : decode cX6_sign 0 = .ok (.iload_n 0, 1) := dk_26 (dk_at dksX6_sign_0 0 rfl rfl)
theorem dX6_sign_1 : decode cX6_sign 1 = .ok (.tableswitch 177 40 62 #[107, 107, 107, 107, 107, 163, 177, 177, 177, 177, 177, 177, 177, 177, 177, 177, 177, 177, 107, 107, 123, 109, 149], 107) := by decide +kernel
theorem dX6_sign_108 : decode cX6_sign 108 = .ok (.iload_n 0, 1) := dk_26 (dk_at dksX6_sign_2 0 rfl rfl)
theorem dX6_sign_109 : decode cX6_sign 109 = .ok (.ireturn, 1) := dk_172 (dk_at dksX6_sign_2 1 rfl rfl)
theorem dX6_sign_110 : decode cX6_sign 110 = .ok (.iload_n 1, 1) := dk_27 (dk_at dksX6_sign_2 2 rfl rfl)
theorem dX6_sign_111 : decode cX6_sign 111 = .ok (.bipush 62, 2) := dk_16 62 (dk_at dksX6_sign_2 3 rfl rfl)
theorem dX6_sign_113 : decode cX6_sign 113 = .ok (.if_icmp .ne 9, 3) := dk_160 0 9 (dk_at dksX6_sign_2 5 rfl rfl)
theorem dX6_sign_116 : decode cX6_sign 116 = .ok (.sipush 304, 3) := dk_17 1 48 (dk_at dksX6_sign_2 8 rfl rfl)
theorem dX6_sign_119 : decode cX6_sign 119 = .ok (.goto 4, 3) := dk_167 0 4 (dk_at dksX6_sign_2 11 rfl rfl)
theorem dX6_sign_122 : decode cX6_sign 122 = .ok (.iload_n 0, 1) := dk_26 (dk_at dksX6_sign_2 14 rfl rfl)
theorem dX6_sign_123 : decode cX6_sign 123 = .ok (.ireturn, 1) := dk_172 (dk_at dksX6_sign_2 15 rfl rfl)
theorem dX6_sign_124 : decode cX6_sign 124 = .ok (.iload_n 1, 1) := dk_27 (dk_at dksX6_sign_2 16 rfl rfl)
theorem dX6_sign_125 : decode cX6_sign 125 = .ok (.bipush 62, 2) := dk_16 62 (dk_at dksX6_sign_2 17 rfl rfl)
theorem dX6_sign_127 : decode cX6_sign 127 = .ok (.if_icmp .ne 9, 3) := dk_160 0 9 (dk_at dksX6_sign_2 19 rfl rfl)
theorem dX6_sign_130 : decode cX6_sign 130 = .ok (.sipush 300, 3) := dk_17 1 44 (dk_at dksX6_sign_3 0 rfl rfl)
theorem dX6_sign_133 : decode cX6_sign 133 = .ok (.goto 16, 3) := dk_167 0 16 (dk_at dksX6_sign_3 3 rfl rfl)
theorem dX6_sign_136 : decode cX6_sign 136 = .ok (.iload_n 1, 1) := dk_27 (dk_at dksX6_sign_3 6 rfl rfl)
theorem dX6_sign_137 : decode cX6_sign 137 = .ok (.bipush 61, 2) := dk_16 61 (dk_at dksX6_sign_3 7 rfl rfl)
theorem dX6_sign_139 : decode cX6_sign 139 = .ok (.if_icmp .ne 9, 3) := dk_160 0 9 (dk_at dksX6_sign_3 9 rfl rfl)
theorem dX6_sign_142 : decode cX6_sign 142 = .ok (.sipush 301, 3) := dk_17 1 45 (dk_at dksX6_sign_3 12 rfl rfl)
theorem dX6_sign_145 : decode cX6_sign 145 = .ok (.goto 4, 3) := dk_167 0 4 (dk_at dksX6_sign_3 15 rfl rfl)
theorem dX6_sign_148 : decode cX6_sign 148 = .ok (.iload_n 0, 1) := dk_26 (dk_at dksX6_sign_3 18 rfl rfl)
theorem dX6_sign_149 : decode cX6_sign 149 = .ok (.ireturn, 1) := dk_172 (dk_at dksX6_sign_3 19 rfl rfl)
theorem dX6_sign_150 : decode cX6_sign 150 = .ok (.iload_n 1, 1) := dk_27 (dk_at dksX6_sign_3 20 rfl rfl)
theorem dX6_sign_151 : decode cX6_sign 151 = .ok (.bipush 61, 2) := dk_16 61 (dk_at dksX6_sign_3 21 rfl rfl)
theorem dX6_sign_153 : decode cX6_sign 153 = .ok (.if_icmp .ne 9, 3) := dk_160 0 9 (dk_at dksX6_sign_4 0 rfl rfl)
theorem dX6_sign_156 : decode cX6_sign 156 = .ok (.sipush 302, 3) := dk_17 1 46 (dk_at dksX6_sign_4 3 rfl rfl)
theorem dX6_sign_159 : decode cX6_sign 159 = .ok (.goto 4, 3) := dk_167 0 4 (dk_at dksX6_sign_4 6 rfl rfl)
theorem dX6_sign_162 : decode cX6_sign 162 = .ok (.iload_n 0, 1) := dk_26 (dk_at dksX6_sign_4 9 rfl rfl)
theorem dX6_sign_163 : decode cX6_sign 163 = .ok (.ireturn, 1) := dk_172 (dk_at dksX6_sign_4 10 rfl rfl)
theorem dX6_sign_164 : decode cX6_sign 164 = .ok (.iload_n 1, 1) := dk_27 (dk_at dksX6_sign_4 11 rfl rfl)
theorem dX6_sign_165 : decode cX6_sign 165 = .ok (.bipush 62, 2) := dk_16 62 (dk_at dksX6_sign_4 12 rfl rfl)
theorem dX6_sign_167 : decode cX6_sign 167 = .ok (.if_icmp .ne 9, 3) := dk_160 0 9 (dk_at dksX6_sign_4 14 rfl rfl)
theorem dX6_sign_170 : decode cX6_sign 170 = .ok (.sipush 303, 3) := dk_17 1 47 (dk_at dksX6_sign_4 17 rfl rfl)
theorem dX6_sign_173 : decode cX6_sign 173 = .ok (.goto 4, 3) := dk_167 0 4 (dk_at dksX6_sign_4 20 rfl rfl)
theorem dX6_sign_176 : decode cX6_sign 176 = .ok (.iload_n 0, 1) := dk_26 (dk_at dksX6_sign_4 23 rfl rfl)
theorem dX6_sign_177 : decode cX6_sign 177 = .ok (.ireturn, 1) := dk_172 (dk_at dksX6_sign_5 0 rfl rfl)
theorem dX6_sign_178 : decode cX6_sign 178 = .ok (.iconst 3, 1) := dk_6 (dk_at dksX6_sign_5 1 rfl rfl)
theorem dX6_sign_179 : decode cX6_sign 179 = .ok (.ireturn, 1) := dk_172 (dk_at dksX6_sign_5 2 rfl rfl)
abbrev cX6_mustBe : ByteArray := prog_26_method_16_code
def yX6_mustBe : MethodName := ⟨RX6, "mustBe", "(Ljava/lang/String;)V"⟩
def dkwX6_mustBe_0 : List UInt8 := [42, 43, 182, 1, 61, 154, 0, 8, 42, 182, 1, 45, 191, 42, 182, 1, 49, 177]
abbrev dktX6_mustBe_0 : List UInt8 := dkwX6_mustBe_0 ++ []
theorem dksX6_mustBe_0 : cX6_mustBe.data.toList.drop 0 = dktX6_mustBe_0 := by decide +kernel
theorem dX6_mustBe_0 : decode cX6_mustBe 0 = .ok (.aload_n 0, 1) := dk_42 (dk_at dksX6_mustBe_0 0 rfl rfl)
theorem dX6_mustBe_1 : decode cX6_mustBe 1 = .ok (.aload_n 1, 1) := dk_43 (dk_at dksX6_mustBe_0 1 rfl rfl)
theorem dX6_mustBe_2 : decode cX6_mustBe 2 = .ok (.invokevirtual 317, 3) := dk_182 1 61 (dk_at dksX6_mustBe_0 2 rfl rfl)
theorem dX6_mustBe_5 : decode cX6_mustBe 5 = .ok (.ifCond .ne 8, 3) := dk_154 0 8 (dk_at dksX6_mustBe_0 5 rfl rfl)
theorem dX6_mustBe_8 : decode cX6_mustBe 8 = .ok (.aload_n 0, 1) := dk_42 (dk_at dksX6_mustBe_0 8 rfl rfl)
theorem dX6_mustBe_9 : decode cX6_mustBe 9 = .ok (.invokevirtual 301, 3) := dk_182 1 45 (dk_at dksX6_mustBe_0 9 rfl rfl)
theorem dX6_mustBe_12 : decode cX6_mustBe 12 = .ok (.athrow, 1) := dk_191 (dk_at dksX6_mustBe_0 12 rfl rfl)
theorem dX6_mustBe_13 : decode cX6_mustBe 13 = .ok (.aload_n 0, 1) := dk_42 (dk_at dksX6_mustBe_0 13 rfl rfl)
theorem dX6_mustBe_14 : decode cX6_mustBe 14 = .ok (.invokevirtual 305, 3) := dk_182 1 49 (dk_at dksX6_mustBe_0 14 rfl rfl)
theorem dX6_mustBe_17 : decode cX6_mustBe 17 = .ok (.return_, 1) := dk_177 (dk_at dksX6_mustBe_0 17 rfl rfl)
abbrev cX6_cant : ByteArray := prog_26_method_13_code
def yX6_cant : MethodName := ⟨RX6, "cant", "()LStreamNodesModel$Wrong;"⟩
def dkwX6_cant_0 : List UInt8 := [42, 182, 1, 36, 87, 187, 1, 40, 89, 4, 42, 180, 0, 33, 183, 1, 42, 176]
abbrev dktX6_cant_0 : List UInt8 := dkwX6_cant_0 ++ []
theorem dksX6_cant_0 : cX6_cant.data.toList.drop 0 = dktX6_cant_0 := by decide +kernel
theorem dX6_cant_0 : decode cX6_cant 0 = .ok (.aload_n 0, 1) := dk_42 (dk_at dksX6_cant_0 0 rfl rfl)
theorem dX6_cant_1 : decode cX6_cant 1 = .ok (.invokevirtual 292, 3) := dk_182 1 36 (dk_at dksX6_cant_0 1 rfl rfl)
theorem dX6_cant_4 : decode cX6_cant 4 = .ok (.pop, 1) := dk_87 (dk_at dksX6_cant_0 4 rfl rfl)
theorem dX6_cant_5 : decode cX6_cant 5 = .ok (.new 296, 3) := dk_187 1 40 (dk_at dksX6_cant_0 5 rfl rfl)
theorem dX6_cant_8 : decode cX6_cant 8 = .ok (.dup, 1) := dk_89 (dk_at dksX6_cant_0 8 rfl rfl)
theorem dX6_cant_9 : decode cX6_cant 9 = .ok (.iconst 1, 1) := dk_4 (dk_at dksX6_cant_0 9 rfl rfl)
theorem dX6_cant_10 : decode cX6_cant 10 = .ok (.aload_n 0, 1) := dk_42 (dk_at dksX6_cant_0 10 rfl rfl)
theorem dX6_cant_11 : decode cX6_cant 11 = .ok (.getfield 33, 3) := dk_180 0 33 (dk_at dksX6_cant_0 11 rfl rfl)
theorem dX6_cant_14 : decode cX6_cant 14 = .ok (.invokespecial 298, 3) := dk_183 1 42 (dk_at dksX6_cant_0 14 rfl rfl)
theorem dX6_cant_17 : decode cX6_cant 17 = .ok (.areturn, 1) := dk_176 (dk_at dksX6_cant_0 17 rfl rfl)
abbrev cX6_take : ByteArray := prog_26_method_12_code
def yX6_take : MethodName := ⟨RX6, "take", "()V"⟩
def dkwX6_take_0 : List UInt8 := [42, 182, 1, 36, 87, 42, 42, 180, 0, 36, 181, 0, 27, 42, 3, 181, 0, 39, 177]
abbrev dktX6_take_0 : List UInt8 := dkwX6_take_0 ++ []
theorem dksX6_take_0 : cX6_take.data.toList.drop 0 = dktX6_take_0 := by decide +kernel
theorem dX6_take_0 : decode cX6_take 0 = .ok (.aload_n 0, 1) := dk_42 (dk_at dksX6_take_0 0 rfl rfl)
theorem dX6_take_1 : decode cX6_take 1 = .ok (.invokevirtual 292, 3) := dk_182 1 36 (dk_at dksX6_take_0 1 rfl rfl)
theorem dX6_take_4 : decode cX6_take 4 = .ok (.pop, 1) := dk_87 (dk_at dksX6_take_0 4 rfl rfl)
theorem dX6_take_5 : decode cX6_take 5 = .ok (.aload_n 0, 1) := dk_42 (dk_at dksX6_take_0 5 rfl rfl)
theorem dX6_take_6 : decode cX6_take 6 = .ok (.aload_n 0, 1) := dk_42 (dk_at dksX6_take_0 6 rfl rfl)
theorem dX6_take_7 : decode cX6_take 7 = .ok (.getfield 36, 3) := dk_180 0 36 (dk_at dksX6_take_0 7 rfl rfl)
theorem dX6_take_10 : decode cX6_take 10 = .ok (.putfield 27, 3) := dk_181 0 27 (dk_at dksX6_take_0 10 rfl rfl)
theorem dX6_take_13 : decode cX6_take 13 = .ok (.aload_n 0, 1) := dk_42 (dk_at dksX6_take_0 13 rfl rfl)
theorem dX6_take_14 : decode cX6_take 14 = .ok (.iconst 0, 1) := dk_3 (dk_at dksX6_take_0 14 rfl rfl)
theorem dX6_take_15 : decode cX6_take 15 = .ok (.putfield 39, 3) := dk_181 0 39 (dk_at dksX6_take_0 15 rfl rfl)
theorem dX6_take_18 : decode cX6_take 18 = .ok (.return_, 1) := dk_177 (dk_at dksX6_take_0 18 rfl rfl)
abbrev cX6_nameHere : ByteArray := prog_26_method_18_code
def yX6_nameHere : MethodName := ⟨RX6, "nameHere", "()Z"⟩
def dkwX6_nameHere_0 : List UInt8 := [42, 182, 1, 36, 4, 160, 0, 14, 42, 182, 1, 109, 154, 0, 7, 4, 167, 0, 4, 3, 172]
abbrev dktX6_nameHere_0 : List UInt8 := dkwX6_nameHere_0 ++ []
theorem dksX6_nameHere_0 : cX6_nameHere.data.toList.drop 0 = dktX6_nameHere_0 := by decide +kernel
theorem dX6_nameHere_0 : decode cX6_nameHere 0 = .ok (.aload_n 0, 1) := dk_42 (dk_at dksX6_nameHere_0 0 rfl rfl)
theorem dX6_nameHere_1 : decode cX6_nameHere 1 = .ok (.invokevirtual 292, 3) := dk_182 1 36 (dk_at dksX6_nameHere_0 1 rfl rfl)
theorem dX6_nameHere_4 : decode cX6_nameHere 4 = .ok (.iconst 1, 1) := dk_4 (dk_at dksX6_nameHere_0 4 rfl rfl)
theorem dX6_nameHere_5 : decode cX6_nameHere 5 = .ok (.if_icmp .ne 14, 3) := dk_160 0 14 (dk_at dksX6_nameHere_0 5 rfl rfl)
theorem dX6_nameHere_8 : decode cX6_nameHere 8 = .ok (.aload_n 0, 1) := dk_42 (dk_at dksX6_nameHere_0 8 rfl rfl)
theorem dX6_nameHere_9 : decode cX6_nameHere 9 = .ok (.invokevirtual 365, 3) := dk_182 1 109 (dk_at dksX6_nameHere_0 9 rfl rfl)
theorem dX6_nameHere_12 : decode cX6_nameHere 12 = .ok (.ifCond .ne 7, 3) := dk_154 0 7 (dk_at dksX6_nameHere_0 12 rfl rfl)
theorem dX6_nameHere_15 : decode cX6_nameHere 15 = .ok (.iconst 1, 1) := dk_4 (dk_at dksX6_nameHere_0 15 rfl rfl)
theorem dX6_nameHere_16 : decode cX6_nameHere 16 = .ok (.goto 4, 3) := dk_167 0 4 (dk_at dksX6_nameHere_0 16 rfl rfl)
theorem dX6_nameHere_19 : decode cX6_nameHere 19 = .ok (.iconst 0, 1) := dk_3 (dk_at dksX6_nameHere_0 19 rfl rfl)
theorem dX6_nameHere_20 : decode cX6_nameHere 20 = .ok (.ireturn, 1) := dk_172 (dk_at dksX6_nameHere_0 20 rfl rfl)
abbrev cX6_reserved : ByteArray := prog_26_method_17_code
def yX6_reserved : MethodName := ⟨RX6, "reserved", "()Z"⟩
def dkwX6_reserved_9 : List UInt8 := [19, 1, 107, 182, 1, 61, 153, 0, 7, 4, 167, 0, 4, 3, 172]
abbrev dktX6_reserved_9 : List UInt8 := dkwX6_reserved_9 ++ []
def dkwX6_reserved_8 : List UInt8 := [154, 0, 33, 42, 19, 1, 103, 182, 1, 61, 154, 0, 23, 42, 19, 1, 105, 182, 1, 61, 154, 0, 13, 42]
abbrev dktX6_reserved_8 : List UInt8 := dkwX6_reserved_8 ++ dktX6_reserved_9
def dkwX6_reserved_7 : List UInt8 := [182, 1, 61, 154, 0, 53, 42, 19, 1, 99, 182, 1, 61, 154, 0, 43, 42, 19, 1, 101, 182, 1, 61]
abbrev dktX6_reserved_7 : List UInt8 := dkwX6_reserved_7 ++ dktX6_reserved_8
def dkwX6_reserved_6 : List UInt8 := [19, 1, 93, 182, 1, 61, 154, 0, 73, 42, 19, 1, 95, 182, 1, 61, 154, 0, 63, 42, 19, 1, 97]
abbrev dktX6_reserved_6 : List UInt8 := dkwX6_reserved_6 ++ dktX6_reserved_7
def dkwX6_reserved_5 : List UInt8 := [154, 0, 103, 42, 19, 1, 89, 182, 1, 61, 154, 0, 93, 42, 19, 1, 91, 182, 1, 61, 154, 0, 83, 42]
abbrev dktX6_reserved_5 : List UInt8 := dkwX6_reserved_5 ++ dktX6_reserved_6
def dkwX6_reserved_4 : List UInt8 := [182, 1, 61, 154, 0, 123, 42, 19, 1, 85, 182, 1, 61, 154, 0, 113, 42, 19, 1, 87, 182, 1, 61]
abbrev dktX6_reserved_4 : List UInt8 := dkwX6_reserved_4 ++ dktX6_reserved_5
def dkwX6_reserved_3 : List UInt8 := [19, 1, 79, 182, 1, 61, 154, 0, 143, 42, 19, 1, 81, 182, 1, 61, 154, 0, 133, 42, 19, 1, 83]
abbrev dktX6_reserved_3 : List UInt8 := dkwX6_reserved_3 ++ dktX6_reserved_4
def dkwX6_reserved_2 : List UInt8 := [154, 0, 173, 42, 19, 1, 75, 182, 1, 61, 154, 0, 163, 42, 19, 1, 77, 182, 1, 61, 154, 0, 153, 42]
abbrev dktX6_reserved_2 : List UInt8 := dkwX6_reserved_2 ++ dktX6_reserved_3
def dkwX6_reserved_1 : List UInt8 := [182, 1, 61, 154, 0, 193, 42, 19, 1, 71, 182, 1, 61, 154, 0, 183, 42, 19, 1, 73, 182, 1, 61]
abbrev dktX6_reserved_1 : List UInt8 := dkwX6_reserved_1 ++ dktX6_reserved_2
def dkwX6_reserved_0 : List UInt8 := [42, 19, 1, 65, 182, 1, 61, 154, 0, 213, 42, 19, 1, 67, 182, 1, 61, 154, 0, 203, 42, 19, 1, 69]
abbrev dktX6_reserved_0 : List UInt8 := dkwX6_reserved_0 ++ dktX6_reserved_1
theorem dksX6_reserved_0 : cX6_reserved.data.toList.drop 0 = dktX6_reserved_0 := by decide +kernel
theorem dksX6_reserved_1 : cX6_reserved.data.toList.drop 24 = dktX6_reserved_1 := dk_seg dksX6_reserved_0 24 rfl rfl
theorem dksX6_reserved_2 : cX6_reserved.data.toList.drop 47 = dktX6_reserved_2 := dk_seg dksX6_reserved_1 23 rfl rfl
theorem dksX6_reserved_3 : cX6_reserved.data.toList.drop 71 = dktX6_reserved_3 := dk_seg dksX6_reserved_2 24 rfl rfl
theorem dksX6_reserved_4 : cX6_reserved.data.toList.drop 94 = dktX6_reserved_4 := dk_seg dksX6_reserved_3 23 rfl rfl
theorem dksX6_reserved_5 : cX6_reserved.data.toList.drop 117 = dktX6_reserved_5 := dk_seg dksX6_reserved_4 23 rfl rfl
theorem dksX6_reserved_6 : cX6_reserved.data.toList.drop 141 = dktX6_reserved_6 := dk_seg dksX6_reserved_5 24 rfl rfl
theorem dksX6_reserved_7 : cX6_reserved.data.toList.drop 164 = dktX6_reserved_7 := dk_seg dksX6_reserved_6 23 rfl rfl
theorem dksX6_reserved_8 : cX6_reserved.data.toList.drop 187 = dktX6_reserved_8 := dk_seg dksX6_reserved_7 23 rfl rfl
theorem dksX6_reserved_9 : cX6_reserved.data.toList.drop 211 = dktX6_reserved_9 := dk_seg dksX6_reserved_8 24 rfl rfl
theorem dX6_reserved_0 : decode cX6_reserved 0 = .ok (.aload_n 0, 1) := dk_42 (dk_at dksX6_reserved_0 0 rfl rfl)
theorem dX6_reserved_1 : decode cX6_reserved 1 = .ok (.ldc_w 321, 3) := dk_19 1 65 (dk_at dksX6_reserved_0 1 rfl rfl)
theorem dX6_reserved_4 : decode cX6_reserved 4 = .ok (.invokevirtual 317, 3) := dk_182 1 61 (dk_at dksX6_reserved_0 4 rfl rfl)
theorem dX6_reserved_7 : decode cX6_reserved 7 = .ok (.ifCond .ne 213, 3) := dk_154 0 213 (dk_at dksX6_reserved_0 7 rfl rfl)
theorem dX6_reserved_10 : decode cX6_reserved 10 = .ok (.aload_n 0, 1) := dk_42 (dk_at dksX6_reserved_0 10 rfl rfl)
theorem dX6_reserved_11 : decode cX6_reserved 11 = .ok (.ldc_w 323, 3) := dk_19 1 67 (dk_at dksX6_reserved_0 11 rfl rfl)
theorem dX6_reserved_14 : decode cX6_reserved 14 = .ok (.invokevirtual 317, 3) := dk_182 1 61 (dk_at dksX6_reserved_0 14 rfl rfl)
theorem dX6_reserved_17 : decode cX6_reserved 17 = .ok (.ifCond .ne 203, 3) := dk_154 0 203 (dk_at dksX6_reserved_0 17 rfl rfl)
theorem dX6_reserved_20 : decode cX6_reserved 20 = .ok (.aload_n 0, 1) := dk_42 (dk_at dksX6_reserved_0 20 rfl rfl)
theorem dX6_reserved_21 : decode cX6_reserved 21 = .ok (.ldc_w 325, 3) := dk_19 1 69 (dk_at dksX6_reserved_0 21 rfl rfl)
theorem dX6_reserved_24 : decode cX6_reserved 24 = .ok (.invokevirtual 317, 3) := dk_182 1 61 (dk_at dksX6_reserved_1 0 rfl rfl)
theorem dX6_reserved_27 : decode cX6_reserved 27 = .ok (.ifCond .ne 193, 3) := dk_154 0 193 (dk_at dksX6_reserved_1 3 rfl rfl)
theorem dX6_reserved_30 : decode cX6_reserved 30 = .ok (.aload_n 0, 1) := dk_42 (dk_at dksX6_reserved_1 6 rfl rfl)
theorem dX6_reserved_31 : decode cX6_reserved 31 = .ok (.ldc_w 327, 3) := dk_19 1 71 (dk_at dksX6_reserved_1 7 rfl rfl)
theorem dX6_reserved_34 : decode cX6_reserved 34 = .ok (.invokevirtual 317, 3) := dk_182 1 61 (dk_at dksX6_reserved_1 10 rfl rfl)
theorem dX6_reserved_37 : decode cX6_reserved 37 = .ok (.ifCond .ne 183, 3) := dk_154 0 183 (dk_at dksX6_reserved_1 13 rfl rfl)
theorem dX6_reserved_40 : decode cX6_reserved 40 = .ok (.aload_n 0, 1) := dk_42 (dk_at dksX6_reserved_1 16 rfl rfl)
theorem dX6_reserved_41 : decode cX6_reserved 41 = .ok (.ldc_w 329, 3) := dk_19 1 73 (dk_at dksX6_reserved_1 17 rfl rfl)
theorem dX6_reserved_44 : decode cX6_reserved 44 = .ok (.invokevirtual 317, 3) := dk_182 1 61 (dk_at dksX6_reserved_1 20 rfl rfl)
theorem dX6_reserved_47 : decode cX6_reserved 47 = .ok (.ifCond .ne 173, 3) := dk_154 0 173 (dk_at dksX6_reserved_2 0 rfl rfl)
theorem dX6_reserved_50 : decode cX6_reserved 50 = .ok (.aload_n 0, 1) := dk_42 (dk_at dksX6_reserved_2 3 rfl rfl)
theorem dX6_reserved_51 : decode cX6_reserved 51 = .ok (.ldc_w 331, 3) := dk_19 1 75 (dk_at dksX6_reserved_2 4 rfl rfl)
theorem dX6_reserved_54 : decode cX6_reserved 54 = .ok (.invokevirtual 317, 3) := dk_182 1 61 (dk_at dksX6_reserved_2 7 rfl rfl)
theorem dX6_reserved_57 : decode cX6_reserved 57 = .ok (.ifCond .ne 163, 3) := dk_154 0 163 (dk_at dksX6_reserved_2 10 rfl rfl)
theorem dX6_reserved_60 : decode cX6_reserved 60 = .ok (.aload_n 0, 1) := dk_42 (dk_at dksX6_reserved_2 13 rfl rfl)
theorem dX6_reserved_61 : decode cX6_reserved 61 = .ok (.ldc_w 333, 3) := dk_19 1 77 (dk_at dksX6_reserved_2 14 rfl rfl)
theorem dX6_reserved_64 : decode cX6_reserved 64 = .ok (.invokevirtual 317, 3) := dk_182 1 61 (dk_at dksX6_reserved_2 17 rfl rfl)
theorem dX6_reserved_67 : decode cX6_reserved 67 = .ok (.ifCond .ne 153, 3) := dk_154 0 153 (dk_at dksX6_reserved_2 20 rfl rfl)
theorem dX6_reserved_70 : decode cX6_reserved 70 = .ok (.aload_n 0, 1) := dk_42 (dk_at dksX6_reserved_2 23 rfl rfl)
theorem dX6_reserved_71 : decode cX6_reserved 71 = .ok (.ldc_w 335, 3) := dk_19 1 79 (dk_at dksX6_reserved_3 0 rfl rfl)
theorem dX6_reserved_74 : decode cX6_reserved 74 = .ok (.invokevirtual 317, 3) := dk_182 1 61 (dk_at dksX6_reserved_3 3 rfl rfl)
theorem dX6_reserved_77 : decode cX6_reserved 77 = .ok (.ifCond .ne 143, 3) := dk_154 0 143 (dk_at dksX6_reserved_3 6 rfl rfl)
theorem dX6_reserved_80 : decode cX6_reserved 80 = .ok (.aload_n 0, 1) := dk_42 (dk_at dksX6_reserved_3 9 rfl rfl)
theorem dX6_reserved_81 : decode cX6_reserved 81 = .ok (.ldc_w 337, 3) := dk_19 1 81 (dk_at dksX6_reserved_3 10 rfl rfl)
theorem dX6_reserved_84 : decode cX6_reserved 84 = .ok (.invokevirtual 317, 3) := dk_182 1 61 (dk_at dksX6_reserved_3 13 rfl rfl)
theorem dX6_reserved_87 : decode cX6_reserved 87 = .ok (.ifCond .ne 133, 3) := dk_154 0 133 (dk_at dksX6_reserved_3 16 rfl rfl)
theorem dX6_reserved_90 : decode cX6_reserved 90 = .ok (.aload_n 0, 1) := dk_42 (dk_at dksX6_reserved_3 19 rfl rfl)
theorem dX6_reserved_91 : decode cX6_reserved 91 = .ok (.ldc_w 339, 3) := dk_19 1 83 (dk_at dksX6_reserved_3 20 rfl rfl)
theorem dX6_reserved_94 : decode cX6_reserved 94 = .ok (.invokevirtual 317, 3) := dk_182 1 61 (dk_at dksX6_reserved_4 0 rfl rfl)
theorem dX6_reserved_97 : decode cX6_reserved 97 = .ok (.ifCond .ne 123, 3) := dk_154 0 123 (dk_at dksX6_reserved_4 3 rfl rfl)
theorem dX6_reserved_100 : decode cX6_reserved 100 = .ok (.aload_n 0, 1) := dk_42 (dk_at dksX6_reserved_4 6 rfl rfl)
theorem dX6_reserved_101 : decode cX6_reserved 101 = .ok (.ldc_w 341, 3) := dk_19 1 85 (dk_at dksX6_reserved_4 7 rfl rfl)
theorem dX6_reserved_104 : decode cX6_reserved 104 = .ok (.invokevirtual 317, 3) := dk_182 1 61 (dk_at dksX6_reserved_4 10 rfl rfl)
theorem dX6_reserved_107 : decode cX6_reserved 107 = .ok (.ifCond .ne 113, 3) := dk_154 0 113 (dk_at dksX6_reserved_4 13 rfl rfl)
theorem dX6_reserved_110 : decode cX6_reserved 110 = .ok (.aload_n 0, 1) := dk_42 (dk_at dksX6_reserved_4 16 rfl rfl)
theorem dX6_reserved_111 : decode cX6_reserved 111 = .ok (.ldc_w 343, 3) := dk_19 1 87 (dk_at dksX6_reserved_4 17 rfl rfl)
theorem dX6_reserved_114 : decode cX6_reserved 114 = .ok (.invokevirtual 317, 3) := dk_182 1 61 (dk_at dksX6_reserved_4 20 rfl rfl)
theorem dX6_reserved_117 : decode cX6_reserved 117 = .ok (.ifCond .ne 103, 3) := dk_154 0 103 (dk_at dksX6_reserved_5 0 rfl rfl)
theorem dX6_reserved_120 : decode cX6_reserved 120 = .ok (.aload_n 0, 1) := dk_42 (dk_at dksX6_reserved_5 3 rfl rfl)
theorem dX6_reserved_121 : decode cX6_reserved 121 = .ok (.ldc_w 345, 3) := dk_19 1 89 (dk_at dksX6_reserved_5 4 rfl rfl)
theorem dX6_reserved_124 : decode cX6_reserved 124 = .ok (.invokevirtual 317, 3) := dk_182 1 61 (dk_at dksX6_reserved_5 7 rfl rfl)
theorem dX6_reserved_127 : decode cX6_reserved 127 = .ok (.ifCond .ne 93, 3) := dk_154 0 93 (dk_at dksX6_reserved_5 10 rfl rfl)
theorem dX6_reserved_130 : decode cX6_reserved 130 = .ok (.aload_n 0, 1) := dk_42 (dk_at dksX6_reserved_5 13 rfl rfl)
theorem dX6_reserved_131 : decode cX6_reserved 131 = .ok (.ldc_w 347, 3) := dk_19 1 91 (dk_at dksX6_reserved_5 14 rfl rfl)
theorem dX6_reserved_134 : decode cX6_reserved 134 = .ok (.invokevirtual 317, 3) := dk_182 1 61 (dk_at dksX6_reserved_5 17 rfl rfl)
theorem dX6_reserved_137 : decode cX6_reserved 137 = .ok (.ifCond .ne 83, 3) := dk_154 0 83 (dk_at dksX6_reserved_5 20 rfl rfl)
theorem dX6_reserved_140 : decode cX6_reserved 140 = .ok (.aload_n 0, 1) := dk_42 (dk_at dksX6_reserved_5 23 rfl rfl)
theorem dX6_reserved_141 : decode cX6_reserved 141 = .ok (.ldc_w 349, 3) := dk_19 1 93 (dk_at dksX6_reserved_6 0 rfl rfl)
theorem dX6_reserved_144 : decode cX6_reserved 144 = .ok (.invokevirtual 317, 3) := dk_182 1 61 (dk_at dksX6_reserved_6 3 rfl rfl)
theorem dX6_reserved_147 : decode cX6_reserved 147 = .ok (.ifCond .ne 73, 3) := dk_154 0 73 (dk_at dksX6_reserved_6 6 rfl rfl)
theorem dX6_reserved_150 : decode cX6_reserved 150 = .ok (.aload_n 0, 1) := dk_42 (dk_at dksX6_reserved_6 9 rfl rfl)
theorem dX6_reserved_151 : decode cX6_reserved 151 = .ok (.ldc_w 351, 3) := dk_19 1 95 (dk_at dksX6_reserved_6 10 rfl rfl)
theorem dX6_reserved_154 : decode cX6_reserved 154 = .ok (.invokevirtual 317, 3) := dk_182 1 61 (dk_at dksX6_reserved_6 13 rfl rfl)
theorem dX6_reserved_157 : decode cX6_reserved 157 = .ok (.ifCond .ne 63, 3) := dk_154 0 63 (dk_at dksX6_reserved_6 16 rfl rfl)
theorem dX6_reserved_160 : decode cX6_reserved 160 = .ok (.aload_n 0, 1) := dk_42 (dk_at dksX6_reserved_6 19 rfl rfl)
theorem dX6_reserved_161 : decode cX6_reserved 161 = .ok (.ldc_w 353, 3) := dk_19 1 97 (dk_at dksX6_reserved_6 20 rfl rfl)
theorem dX6_reserved_164 : decode cX6_reserved 164 = .ok (.invokevirtual 317, 3) := dk_182 1 61 (dk_at dksX6_reserved_7 0 rfl rfl)
theorem dX6_reserved_167 : decode cX6_reserved 167 = .ok (.ifCond .ne 53, 3) := dk_154 0 53 (dk_at dksX6_reserved_7 3 rfl rfl)
theorem dX6_reserved_170 : decode cX6_reserved 170 = .ok (.aload_n 0, 1) := dk_42 (dk_at dksX6_reserved_7 6 rfl rfl)
theorem dX6_reserved_171 : decode cX6_reserved 171 = .ok (.ldc_w 355, 3) := dk_19 1 99 (dk_at dksX6_reserved_7 7 rfl rfl)
theorem dX6_reserved_174 : decode cX6_reserved 174 = .ok (.invokevirtual 317, 3) := dk_182 1 61 (dk_at dksX6_reserved_7 10 rfl rfl)
theorem dX6_reserved_177 : decode cX6_reserved 177 = .ok (.ifCond .ne 43, 3) := dk_154 0 43 (dk_at dksX6_reserved_7 13 rfl rfl)
theorem dX6_reserved_180 : decode cX6_reserved 180 = .ok (.aload_n 0, 1) := dk_42 (dk_at dksX6_reserved_7 16 rfl rfl)
theorem dX6_reserved_181 : decode cX6_reserved 181 = .ok (.ldc_w 357, 3) := dk_19 1 101 (dk_at dksX6_reserved_7 17 rfl rfl)
theorem dX6_reserved_184 : decode cX6_reserved 184 = .ok (.invokevirtual 317, 3) := dk_182 1 61 (dk_at dksX6_reserved_7 20 rfl rfl)
theorem dX6_reserved_187 : decode cX6_reserved 187 = .ok (.ifCond .ne 33, 3) := dk_154 0 33 (dk_at dksX6_reserved_8 0 rfl rfl)
theorem dX6_reserved_190 : decode cX6_reserved 190 = .ok (.aload_n 0, 1) := dk_42 (dk_at dksX6_reserved_8 3 rfl rfl)
theorem dX6_reserved_191 : decode cX6_reserved 191 = .ok (.ldc_w 359, 3) := dk_19 1 103 (dk_at dksX6_reserved_8 4 rfl rfl)
theorem dX6_reserved_194 : decode cX6_reserved 194 = .ok (.invokevirtual 317, 3) := dk_182 1 61 (dk_at dksX6_reserved_8 7 rfl rfl)
theorem dX6_reserved_197 : decode cX6_reserved 197 = .ok (.ifCond .ne 23, 3) := dk_154 0 23 (dk_at dksX6_reserved_8 10 rfl rfl)
theorem dX6_reserved_200 : decode cX6_reserved 200 = .ok (.aload_n 0, 1) := dk_42 (dk_at dksX6_reserved_8 13 rfl rfl)
theorem dX6_reserved_201 : decode cX6_reserved 201 = .ok (.ldc_w 361, 3) := dk_19 1 105 (dk_at dksX6_reserved_8 14 rfl rfl)
theorem dX6_reserved_204 : decode cX6_reserved 204 = .ok (.invokevirtual 317, 3) := dk_182 1 61 (dk_at dksX6_reserved_8 17 rfl rfl)
theorem dX6_reserved_207 : decode cX6_reserved 207 = .ok (.ifCond .ne 13, 3) := dk_154 0 13 (dk_at dksX6_reserved_8 20 rfl rfl)
theorem dX6_reserved_210 : decode cX6_reserved 210 = .ok (.aload_n 0, 1) := dk_42 (dk_at dksX6_reserved_8 23 rfl rfl)
theorem dX6_reserved_211 : decode cX6_reserved 211 = .ok (.ldc_w 363, 3) := dk_19 1 107 (dk_at dksX6_reserved_9 0 rfl rfl)
theorem dX6_reserved_214 : decode cX6_reserved 214 = .ok (.invokevirtual 317, 3) := dk_182 1 61 (dk_at dksX6_reserved_9 3 rfl rfl)
theorem dX6_reserved_217 : decode cX6_reserved 217 = .ok (.ifCond .eq 7, 3) := dk_153 0 7 (dk_at dksX6_reserved_9 6 rfl rfl)
theorem dX6_reserved_220 : decode cX6_reserved 220 = .ok (.iconst 1, 1) := dk_4 (dk_at dksX6_reserved_9 9 rfl rfl)
theorem dX6_reserved_221 : decode cX6_reserved 221 = .ok (.goto 4, 3) := dk_167 0 4 (dk_at dksX6_reserved_9 10 rfl rfl)
theorem dX6_reserved_224 : decode cX6_reserved 224 = .ok (.iconst 0, 1) := dk_3 (dk_at dksX6_reserved_9 13 rfl rfl)
theorem dX6_reserved_225 : decode cX6_reserved 225 = .ok (.ireturn, 1) := dk_172 (dk_at dksX6_reserved_9 14 rfl rfl)
abbrev cX6_nodeHere : ByteArray := prog_26_method_22_code
def yX6_nodeHere : MethodName := ⟨RX6, "nodeHere", "()I"⟩
def dkwX6_nodeHere_1 : List UInt8 := [182, 1, 113, 153, 0, 5, 27, 172, 132, 1, 1, 167, 255, 224, 2, 172]
abbrev dktX6_nodeHere_1 : List UInt8 := dkwX6_nodeHere_1 ++ []
def dkwX6_nodeHere_0 : List UInt8 := [3, 60, 27, 42, 180, 0, 68, 162, 0, 30, 42, 42, 180, 0, 43, 27, 46, 42, 180, 0, 47, 27, 46]
abbrev dktX6_nodeHere_0 : List UInt8 := dkwX6_nodeHere_0 ++ dktX6_nodeHere_1
theorem dksX6_nodeHere_0 : cX6_nodeHere.data.toList.drop 0 = dktX6_nodeHere_0 := by decide +kernel
theorem dksX6_nodeHere_1 : cX6_nodeHere.data.toList.drop 23 = dktX6_nodeHere_1 := dk_seg dksX6_nodeHere_0 23 rfl rfl
theorem dX6_nodeHere_0 : decode cX6_nodeHere 0 = .ok (.iconst 0, 1) := dk_3 (dk_at dksX6_nodeHere_0 0 rfl rfl)
theorem dX6_nodeHere_1 : decode cX6_nodeHere 1 = .ok (.istore_n 1, 1) := dk_60 (dk_at dksX6_nodeHere_0 1 rfl rfl)
theorem dX6_nodeHere_2 : decode cX6_nodeHere 2 = .ok (.iload_n 1, 1) := dk_27 (dk_at dksX6_nodeHere_0 2 rfl rfl)
theorem dX6_nodeHere_3 : decode cX6_nodeHere 3 = .ok (.aload_n 0, 1) := dk_42 (dk_at dksX6_nodeHere_0 3 rfl rfl)
theorem dX6_nodeHere_4 : decode cX6_nodeHere 4 = .ok (.getfield 68, 3) := dk_180 0 68 (dk_at dksX6_nodeHere_0 4 rfl rfl)
theorem dX6_nodeHere_7 : decode cX6_nodeHere 7 = .ok (.if_icmp .ge 30, 3) := dk_162 0 30 (dk_at dksX6_nodeHere_0 7 rfl rfl)
theorem dX6_nodeHere_10 : decode cX6_nodeHere 10 = .ok (.aload_n 0, 1) := dk_42 (dk_at dksX6_nodeHere_0 10 rfl rfl)
theorem dX6_nodeHere_11 : decode cX6_nodeHere 11 = .ok (.aload_n 0, 1) := dk_42 (dk_at dksX6_nodeHere_0 11 rfl rfl)
theorem dX6_nodeHere_12 : decode cX6_nodeHere 12 = .ok (.getfield 43, 3) := dk_180 0 43 (dk_at dksX6_nodeHere_0 12 rfl rfl)
theorem dX6_nodeHere_15 : decode cX6_nodeHere 15 = .ok (.iload_n 1, 1) := dk_27 (dk_at dksX6_nodeHere_0 15 rfl rfl)
theorem dX6_nodeHere_16 : decode cX6_nodeHere 16 = .ok (.iaload, 1) := dk_46 (dk_at dksX6_nodeHere_0 16 rfl rfl)
theorem dX6_nodeHere_17 : decode cX6_nodeHere 17 = .ok (.aload_n 0, 1) := dk_42 (dk_at dksX6_nodeHere_0 17 rfl rfl)
theorem dX6_nodeHere_18 : decode cX6_nodeHere 18 = .ok (.getfield 47, 3) := dk_180 0 47 (dk_at dksX6_nodeHere_0 18 rfl rfl)
theorem dX6_nodeHere_21 : decode cX6_nodeHere 21 = .ok (.iload_n 1, 1) := dk_27 (dk_at dksX6_nodeHere_0 21 rfl rfl)
theorem dX6_nodeHere_22 : decode cX6_nodeHere 22 = .ok (.iaload, 1) := dk_46 (dk_at dksX6_nodeHere_0 22 rfl rfl)
theorem dX6_nodeHere_23 : decode cX6_nodeHere 23 = .ok (.invokevirtual 369, 3) := dk_182 1 113 (dk_at dksX6_nodeHere_1 0 rfl rfl)
theorem dX6_nodeHere_26 : decode cX6_nodeHere 26 = .ok (.ifCond .eq 5, 3) := dk_153 0 5 (dk_at dksX6_nodeHere_1 3 rfl rfl)
theorem dX6_nodeHere_29 : decode cX6_nodeHere 29 = .ok (.iload_n 1, 1) := dk_27 (dk_at dksX6_nodeHere_1 6 rfl rfl)
theorem dX6_nodeHere_30 : decode cX6_nodeHere 30 = .ok (.ireturn, 1) := dk_172 (dk_at dksX6_nodeHere_1 7 rfl rfl)
theorem dX6_nodeHere_31 : decode cX6_nodeHere 31 = .ok (.iinc 1 1, 3) := dk_132 1 1 (dk_at dksX6_nodeHere_1 8 rfl rfl)
theorem dX6_nodeHere_34 : decode cX6_nodeHere 34 = .ok (.goto (-32), 3) := dk_167 255 224 (dk_at dksX6_nodeHere_1 11 rfl rfl)
theorem dX6_nodeHere_37 : decode cX6_nodeHere 37 = .ok (.iconst (-1), 1) := dk_2 (dk_at dksX6_nodeHere_1 14 rfl rfl)
theorem dX6_nodeHere_38 : decode cX6_nodeHere 38 = .ok (.ireturn, 1) := dk_172 (dk_at dksX6_nodeHere_1 15 rfl rfl)
abbrev cX6_spelled : ByteArray := prog_26_method_20_code
def yX6_spelled : MethodName := ⟨RX6, "spelled", "(II)Z"⟩
def dkwX6_spelled_2 : List UInt8 := [132, 3, 1, 167, 255, 224, 4, 172]
abbrev dktX6_spelled_2 : List UInt8 := dkwX6_spelled_2 ++ []
def dkwX6_spelled_1 : List UInt8 := [180, 0, 8, 27, 29, 96, 51, 42, 180, 0, 8, 42, 180, 0, 33, 29, 96, 51, 159, 0, 5, 3, 172]
abbrev dktX6_spelled_1 : List UInt8 := dkwX6_spelled_1 ++ dktX6_spelled_2
def dkwX6_spelled_0 : List UInt8 := [28, 42, 180, 0, 36, 42, 180, 0, 33, 100, 159, 0, 5, 3, 172, 3, 62, 29, 28, 162, 0, 33, 42]
abbrev dktX6_spelled_0 : List UInt8 := dkwX6_spelled_0 ++ dktX6_spelled_1
theorem dksX6_spelled_0 : cX6_spelled.data.toList.drop 0 = dktX6_spelled_0 := by decide +kernel
theorem dksX6_spelled_1 : cX6_spelled.data.toList.drop 23 = dktX6_spelled_1 := dk_seg dksX6_spelled_0 23 rfl rfl
theorem dksX6_spelled_2 : cX6_spelled.data.toList.drop 46 = dktX6_spelled_2 := dk_seg dksX6_spelled_1 23 rfl rfl
theorem dX6_spelled_0 : decode cX6_spelled 0 = .ok (.iload_n 2, 1) := dk_28 (dk_at dksX6_spelled_0 0 rfl rfl)
theorem dX6_spelled_1 : decode cX6_spelled 1 = .ok (.aload_n 0, 1) := dk_42 (dk_at dksX6_spelled_0 1 rfl rfl)
theorem dX6_spelled_2 : decode cX6_spelled 2 = .ok (.getfield 36, 3) := dk_180 0 36 (dk_at dksX6_spelled_0 2 rfl rfl)
theorem dX6_spelled_5 : decode cX6_spelled 5 = .ok (.aload_n 0, 1) := dk_42 (dk_at dksX6_spelled_0 5 rfl rfl)
theorem dX6_spelled_6 : decode cX6_spelled 6 = .ok (.getfield 33, 3) := dk_180 0 33 (dk_at dksX6_spelled_0 6 rfl rfl)
theorem dX6_spelled_9 : decode cX6_spelled 9 = .ok (.isub, 1) := dk_100 (dk_at dksX6_spelled_0 9 rfl rfl)
theorem dX6_spelled_10 : decode cX6_spelled 10 = .ok (.if_icmp .eq 5, 3) := dk_159 0 5 (dk_at dksX6_spelled_0 10 rfl rfl)
theorem dX6_spelled_13 : decode cX6_spelled 13 = .ok (.iconst 0, 1) := dk_3 (dk_at dksX6_spelled_0 13 rfl rfl)
theorem dX6_spelled_14 : decode cX6_spelled 14 = .ok (.ireturn, 1) := dk_172 (dk_at dksX6_spelled_0 14 rfl rfl)
theorem dX6_spelled_15 : decode cX6_spelled 15 = .ok (.iconst 0, 1) := dk_3 (dk_at dksX6_spelled_0 15 rfl rfl)
theorem dX6_spelled_16 : decode cX6_spelled 16 = .ok (.istore_n 3, 1) := dk_62 (dk_at dksX6_spelled_0 16 rfl rfl)
theorem dX6_spelled_17 : decode cX6_spelled 17 = .ok (.iload_n 3, 1) := dk_29 (dk_at dksX6_spelled_0 17 rfl rfl)
theorem dX6_spelled_18 : decode cX6_spelled 18 = .ok (.iload_n 2, 1) := dk_28 (dk_at dksX6_spelled_0 18 rfl rfl)
theorem dX6_spelled_19 : decode cX6_spelled 19 = .ok (.if_icmp .ge 33, 3) := dk_162 0 33 (dk_at dksX6_spelled_0 19 rfl rfl)
theorem dX6_spelled_22 : decode cX6_spelled 22 = .ok (.aload_n 0, 1) := dk_42 (dk_at dksX6_spelled_0 22 rfl rfl)
theorem dX6_spelled_23 : decode cX6_spelled 23 = .ok (.getfield 8, 3) := dk_180 0 8 (dk_at dksX6_spelled_1 0 rfl rfl)
theorem dX6_spelled_26 : decode cX6_spelled 26 = .ok (.iload_n 1, 1) := dk_27 (dk_at dksX6_spelled_1 3 rfl rfl)
theorem dX6_spelled_27 : decode cX6_spelled 27 = .ok (.iload_n 3, 1) := dk_29 (dk_at dksX6_spelled_1 4 rfl rfl)
theorem dX6_spelled_28 : decode cX6_spelled 28 = .ok (.iadd, 1) := dk_96 (dk_at dksX6_spelled_1 5 rfl rfl)
theorem dX6_spelled_29 : decode cX6_spelled 29 = .ok (.baload, 1) := dk_51 (dk_at dksX6_spelled_1 6 rfl rfl)
theorem dX6_spelled_30 : decode cX6_spelled 30 = .ok (.aload_n 0, 1) := dk_42 (dk_at dksX6_spelled_1 7 rfl rfl)
theorem dX6_spelled_31 : decode cX6_spelled 31 = .ok (.getfield 8, 3) := dk_180 0 8 (dk_at dksX6_spelled_1 8 rfl rfl)
theorem dX6_spelled_34 : decode cX6_spelled 34 = .ok (.aload_n 0, 1) := dk_42 (dk_at dksX6_spelled_1 11 rfl rfl)
theorem dX6_spelled_35 : decode cX6_spelled 35 = .ok (.getfield 33, 3) := dk_180 0 33 (dk_at dksX6_spelled_1 12 rfl rfl)
theorem dX6_spelled_38 : decode cX6_spelled 38 = .ok (.iload_n 3, 1) := dk_29 (dk_at dksX6_spelled_1 15 rfl rfl)
theorem dX6_spelled_39 : decode cX6_spelled 39 = .ok (.iadd, 1) := dk_96 (dk_at dksX6_spelled_1 16 rfl rfl)
theorem dX6_spelled_40 : decode cX6_spelled 40 = .ok (.baload, 1) := dk_51 (dk_at dksX6_spelled_1 17 rfl rfl)
theorem dX6_spelled_41 : decode cX6_spelled 41 = .ok (.if_icmp .eq 5, 3) := dk_159 0 5 (dk_at dksX6_spelled_1 18 rfl rfl)
theorem dX6_spelled_44 : decode cX6_spelled 44 = .ok (.iconst 0, 1) := dk_3 (dk_at dksX6_spelled_1 21 rfl rfl)
theorem dX6_spelled_45 : decode cX6_spelled 45 = .ok (.ireturn, 1) := dk_172 (dk_at dksX6_spelled_1 22 rfl rfl)
theorem dX6_spelled_46 : decode cX6_spelled 46 = .ok (.iinc 3 1, 3) := dk_132 3 1 (dk_at dksX6_spelled_2 0 rfl rfl)
theorem dX6_spelled_49 : decode cX6_spelled 49 = .ok (.goto (-32), 3) := dk_167 255 224 (dk_at dksX6_spelled_2 3 rfl rfl)
theorem dX6_spelled_52 : decode cX6_spelled 52 = .ok (.iconst 1, 1) := dk_4 (dk_at dksX6_spelled_2 6 rfl rfl)
theorem dX6_spelled_53 : decode cX6_spelled 53 = .ok (.ireturn, 1) := dk_172 (dk_at dksX6_spelled_2 7 rfl rfl)
abbrev cX6_groups : ByteArray := prog_26_method_25_code
def yX6_groups : MethodName := ⟨RX6, "groups", "()V"⟩
def dkwX6_groups_1 : List UInt8 := [42, 3, 182, 1, 130, 167, 255, 238, 42, 16, 41, 182, 1, 123, 177]
abbrev dktX6_groups_1 : List UInt8 := dkwX6_groups_1 ++ []
def dkwX6_groups_0 : List UInt8 := [42, 16, 40, 182, 1, 123, 42, 3, 182, 1, 130, 42, 182, 1, 36, 16, 59, 160, 0, 15, 42, 182, 1, 49]
abbrev dktX6_groups_0 : List UInt8 := dkwX6_groups_0 ++ dktX6_groups_1
theorem dksX6_groups_0 : cX6_groups.data.toList.drop 0 = dktX6_groups_0 := by decide +kernel
theorem dksX6_groups_1 : cX6_groups.data.toList.drop 24 = dktX6_groups_1 := dk_seg dksX6_groups_0 24 rfl rfl
theorem dX6_groups_0 : decode cX6_groups 0 = .ok (.aload_n 0, 1) := dk_42 (dk_at dksX6_groups_0 0 rfl rfl)
theorem dX6_groups_1 : decode cX6_groups 1 = .ok (.bipush 40, 2) := dk_16 40 (dk_at dksX6_groups_0 1 rfl rfl)
theorem dX6_groups_3 : decode cX6_groups 3 = .ok (.invokevirtual 379, 3) := dk_182 1 123 (dk_at dksX6_groups_0 3 rfl rfl)
theorem dX6_groups_6 : decode cX6_groups 6 = .ok (.aload_n 0, 1) := dk_42 (dk_at dksX6_groups_0 6 rfl rfl)
theorem dX6_groups_7 : decode cX6_groups 7 = .ok (.iconst 0, 1) := dk_3 (dk_at dksX6_groups_0 7 rfl rfl)
theorem dX6_groups_8 : decode cX6_groups 8 = .ok (.invokevirtual 386, 3) := dk_182 1 130 (dk_at dksX6_groups_0 8 rfl rfl)
theorem dX6_groups_11 : decode cX6_groups 11 = .ok (.aload_n 0, 1) := dk_42 (dk_at dksX6_groups_0 11 rfl rfl)
theorem dX6_groups_12 : decode cX6_groups 12 = .ok (.invokevirtual 292, 3) := dk_182 1 36 (dk_at dksX6_groups_0 12 rfl rfl)
theorem dX6_groups_15 : decode cX6_groups 15 = .ok (.bipush 59, 2) := dk_16 59 (dk_at dksX6_groups_0 15 rfl rfl)
theorem dX6_groups_17 : decode cX6_groups 17 = .ok (.if_icmp .ne 15, 3) := dk_160 0 15 (dk_at dksX6_groups_0 17 rfl rfl)
theorem dX6_groups_20 : decode cX6_groups 20 = .ok (.aload_n 0, 1) := dk_42 (dk_at dksX6_groups_0 20 rfl rfl)
theorem dX6_groups_21 : decode cX6_groups 21 = .ok (.invokevirtual 305, 3) := dk_182 1 49 (dk_at dksX6_groups_0 21 rfl rfl)
theorem dX6_groups_24 : decode cX6_groups 24 = .ok (.aload_n 0, 1) := dk_42 (dk_at dksX6_groups_1 0 rfl rfl)
theorem dX6_groups_25 : decode cX6_groups 25 = .ok (.iconst 0, 1) := dk_3 (dk_at dksX6_groups_1 1 rfl rfl)
theorem dX6_groups_26 : decode cX6_groups 26 = .ok (.invokevirtual 386, 3) := dk_182 1 130 (dk_at dksX6_groups_1 2 rfl rfl)
theorem dX6_groups_29 : decode cX6_groups 29 = .ok (.goto (-18), 3) := dk_167 255 238 (dk_at dksX6_groups_1 5 rfl rfl)
theorem dX6_groups_32 : decode cX6_groups 32 = .ok (.aload_n 0, 1) := dk_42 (dk_at dksX6_groups_1 8 rfl rfl)
theorem dX6_groups_33 : decode cX6_groups 33 = .ok (.bipush 41, 2) := dk_16 41 (dk_at dksX6_groups_1 9 rfl rfl)
theorem dX6_groups_35 : decode cX6_groups 35 = .ok (.invokevirtual 379, 3) := dk_182 1 123 (dk_at dksX6_groups_1 11 rfl rfl)
theorem dX6_groups_38 : decode cX6_groups 38 = .ok (.return_, 1) := dk_177 (dk_at dksX6_groups_1 14 rfl rfl)
abbrev cX6_must : ByteArray := prog_26_method_14_code
def yX6_must : MethodName := ⟨RX6, "must", "(I)V"⟩
def dkwX6_must_0 : List UInt8 := [42, 182, 1, 36, 27, 159, 0, 8, 42, 182, 1, 45, 191, 42, 182, 1, 49, 177]
abbrev dktX6_must_0 : List UInt8 := dkwX6_must_0 ++ []
theorem dksX6_must_0 : cX6_must.data.toList.drop 0 = dktX6_must_0 := by decide +kernel
theorem dX6_must_0 : decode cX6_must 0 = .ok (.aload_n 0, 1) := dk_42 (dk_at dksX6_must_0 0 rfl rfl)
theorem dX6_must_1 : decode cX6_must 1 = .ok (.invokevirtual 292, 3) := dk_182 1 36 (dk_at dksX6_must_0 1 rfl rfl)
theorem dX6_must_4 : decode cX6_must 4 = .ok (.iload_n 1, 1) := dk_27 (dk_at dksX6_must_0 4 rfl rfl)
theorem dX6_must_5 : decode cX6_must 5 = .ok (.if_icmp .eq 8, 3) := dk_159 0 8 (dk_at dksX6_must_0 5 rfl rfl)
theorem dX6_must_8 : decode cX6_must 8 = .ok (.aload_n 0, 1) := dk_42 (dk_at dksX6_must_0 8 rfl rfl)
theorem dX6_must_9 : decode cX6_must 9 = .ok (.invokevirtual 301, 3) := dk_182 1 45 (dk_at dksX6_must_0 9 rfl rfl)
theorem dX6_must_12 : decode cX6_must 12 = .ok (.athrow, 1) := dk_191 (dk_at dksX6_must_0 12 rfl rfl)
theorem dX6_must_13 : decode cX6_must 13 = .ok (.aload_n 0, 1) := dk_42 (dk_at dksX6_must_0 13 rfl rfl)
theorem dX6_must_14 : decode cX6_must 14 = .ok (.invokevirtual 305, 3) := dk_182 1 49 (dk_at dksX6_must_0 14 rfl rfl)
theorem dX6_must_17 : decode cX6_must 17 = .ok (.return_, 1) := dk_177 (dk_at dksX6_must_0 17 rfl rfl)
abbrev cX6_group : ByteArray := prog_26_method_23_code
def yX6_group : MethodName := ⟨RX6, "group", "(Z)V"⟩
def dkwX6_group_16 : List UInt8 := [132, 7, 1, 167, 255, 212, 177]
abbrev dktX6_group_16 : List UInt8 := dkwX6_group_16 ++ []
def dkwX6_group_15 : List UInt8 := [42, 180, 0, 50, 42, 180, 0, 68, 46, 100, 104, 21, 5, 153, 0, 7, 3, 167, 0, 4, 4, 96, 79]
abbrev dktX6_group_15 : List UInt8 := dkwX6_group_15 ++ dktX6_group_16
def dkwX6_group_14 : List UInt8 := [182, 1, 49, 28, 54, 7, 21, 7, 42, 180, 0, 71, 162, 0, 41, 42, 180, 0, 80, 21, 7, 5, 21, 6]
abbrev dktX6_group_14 : List UInt8 := dkwX6_group_14 ++ dktX6_group_15
def dkwX6_group_13 : List UInt8 := [154, 0, 16, 187, 1, 40, 89, 5, 42, 180, 0, 33, 183, 1, 42, 191, 42, 21, 6, 182, 1, 127, 42]
abbrev dktX6_group_13 : List UInt8 := dkwX6_group_13 ++ dktX6_group_14
def dkwX6_group_12 : List UInt8 := [182, 1, 45, 191, 42, 28, 182, 1, 120, 54, 6, 21, 6, 155, 0, 13, 42, 180, 0, 86, 21, 6, 51]
abbrev dktX6_group_12 : List UInt8 := dkwX6_group_12 ++ dktX6_group_13
def dkwX6_group_11 : List UInt8 := [182, 1, 61, 54, 5, 21, 5, 153, 0, 7, 42, 182, 1, 49, 42, 182, 1, 117, 154, 0, 8, 42]
abbrev dktX6_group_11 : List UInt8 := dkwX6_group_11 ++ dktX6_group_12
def dkwX6_group_10 : List UInt8 := [153, 0, 13, 42, 19, 1, 79, 182, 1, 61, 154, 0, 4, 177, 42, 182, 1, 49, 42, 19, 1, 81]
abbrev dktX6_group_10 : List UInt8 := dkwX6_group_10 ++ dktX6_group_11
def dkwX6_group_9 : List UInt8 := [180, 0, 71, 162, 0, 18, 42, 180, 0, 86, 21, 5, 21, 4, 84, 132, 5, 1, 167, 255, 235, 27]
abbrev dktX6_group_9 : List UInt8 := dkwX6_group_9 ++ dktX6_group_10
def dkwX6_group_8 : List UInt8 := [19, 1, 75, 182, 1, 61, 154, 0, 8, 42, 182, 1, 45, 191, 42, 182, 1, 49, 28, 54, 5, 21, 5, 42]
abbrev dktX6_group_8 : List UInt8 := dkwX6_group_8 ++ dktX6_group_9
def dkwX6_group_7 : List UInt8 := [167, 255, 96, 42, 16, 58, 182, 1, 123, 42, 19, 1, 77, 182, 1, 61, 54, 4, 21, 4, 154, 0, 18, 42]
abbrev dktX6_group_7 : List UInt8 := dkwX6_group_7 ++ dktX6_group_8
def dkwX6_group_6 : List UInt8 := [42, 182, 1, 36, 16, 44, 160, 0, 7, 4, 167, 0, 4, 3, 62, 29, 153, 255, 103, 42, 182, 1, 49]
abbrev dktX6_group_6 : List UInt8 := dkwX6_group_6 ++ dktX6_group_7
def dkwX6_group_5 : List UInt8 := [42, 180, 0, 83, 42, 180, 0, 71, 3, 79, 42, 89, 180, 0, 71, 4, 96, 181, 0, 71, 42, 182, 1, 49]
abbrev dktX6_group_5 : List UInt8 := dkwX6_group_5 ++ dktX6_group_6
def dkwX6_group_4 : List UInt8 := [42, 180, 0, 71, 42, 180, 0, 36, 42, 180, 0, 33, 100, 79, 42, 180, 0, 80, 42, 180, 0, 71, 2, 79]
abbrev dktX6_group_4 : List UInt8 := dkwX6_group_4 ++ dktX6_group_5
def dkwX6_group_3 : List UInt8 := [180, 0, 33, 183, 1, 42, 191, 42, 180, 0, 74, 42, 180, 0, 71, 42, 180, 0, 33, 79, 42, 180, 0, 77]
abbrev dktX6_group_3 : List UInt8 := dkwX6_group_3 ++ dktX6_group_4
def dkwX6_group_2 : List UInt8 := [180, 0, 71, 42, 180, 0, 50, 42, 180, 0, 68, 46, 100, 16, 99, 160, 0, 16, 187, 1, 40, 89, 6, 42]
abbrev dktX6_group_2 : List UInt8 := dkwX6_group_2 ++ dktX6_group_3
def dkwX6_group_1 : List UInt8 := [42, 180, 0, 71, 182, 1, 120, 155, 0, 16, 187, 1, 40, 89, 5, 42, 180, 0, 33, 183, 1, 42, 191, 42]
abbrev dktX6_group_1 : List UInt8 := dkwX6_group_1 ++ dktX6_group_2
def dkwX6_group_0 : List UInt8 := [42, 180, 0, 71, 61, 4, 62, 29, 153, 0, 162, 42, 182, 1, 117, 154, 0, 8, 42, 182, 1, 45, 191, 42]
abbrev dktX6_group_0 : List UInt8 := dkwX6_group_0 ++ dktX6_group_1
theorem dksX6_group_0 : cX6_group.data.toList.drop 0 = dktX6_group_0 := by decide +kernel
theorem dksX6_group_1 : cX6_group.data.toList.drop 24 = dktX6_group_1 := dk_seg dksX6_group_0 24 rfl rfl
theorem dksX6_group_2 : cX6_group.data.toList.drop 48 = dktX6_group_2 := dk_seg dksX6_group_1 24 rfl rfl
theorem dksX6_group_3 : cX6_group.data.toList.drop 72 = dktX6_group_3 := dk_seg dksX6_group_2 24 rfl rfl
theorem dksX6_group_4 : cX6_group.data.toList.drop 96 = dktX6_group_4 := dk_seg dksX6_group_3 24 rfl rfl
theorem dksX6_group_5 : cX6_group.data.toList.drop 120 = dktX6_group_5 := dk_seg dksX6_group_4 24 rfl rfl
theorem dksX6_group_6 : cX6_group.data.toList.drop 144 = dktX6_group_6 := dk_seg dksX6_group_5 24 rfl rfl
theorem dksX6_group_7 : cX6_group.data.toList.drop 167 = dktX6_group_7 := dk_seg dksX6_group_6 23 rfl rfl
theorem dksX6_group_8 : cX6_group.data.toList.drop 191 = dktX6_group_8 := dk_seg dksX6_group_7 24 rfl rfl
theorem dksX6_group_9 : cX6_group.data.toList.drop 215 = dktX6_group_9 := dk_seg dksX6_group_8 24 rfl rfl
theorem dksX6_group_10 : cX6_group.data.toList.drop 237 = dktX6_group_10 := dk_seg dksX6_group_9 22 rfl rfl
theorem dksX6_group_11 : cX6_group.data.toList.drop 259 = dktX6_group_11 := dk_seg dksX6_group_10 22 rfl rfl
theorem dksX6_group_12 : cX6_group.data.toList.drop 281 = dktX6_group_12 := dk_seg dksX6_group_11 22 rfl rfl
theorem dksX6_group_13 : cX6_group.data.toList.drop 304 = dktX6_group_13 := dk_seg dksX6_group_12 23 rfl rfl
theorem dksX6_group_14 : cX6_group.data.toList.drop 327 = dktX6_group_14 := dk_seg dksX6_group_13 23 rfl rfl
theorem dksX6_group_15 : cX6_group.data.toList.drop 351 = dktX6_group_15 := dk_seg dksX6_group_14 24 rfl rfl
theorem dksX6_group_16 : cX6_group.data.toList.drop 374 = dktX6_group_16 := dk_seg dksX6_group_15 23 rfl rfl
theorem dX6_group_0 : decode cX6_group 0 = .ok (.aload_n 0, 1) := dk_42 (dk_at dksX6_group_0 0 rfl rfl)
theorem dX6_group_1 : decode cX6_group 1 = .ok (.getfield 71, 3) := dk_180 0 71 (dk_at dksX6_group_0 1 rfl rfl)
theorem dX6_group_4 : decode cX6_group 4 = .ok (.istore_n 2, 1) := dk_61 (dk_at dksX6_group_0 4 rfl rfl)
theorem dX6_group_5 : decode cX6_group 5 = .ok (.iconst 1, 1) := dk_4 (dk_at dksX6_group_0 5 rfl rfl)
theorem dX6_group_6 : decode cX6_group 6 = .ok (.istore_n 3, 1) := dk_62 (dk_at dksX6_group_0 6 rfl rfl)
theorem dX6_group_7 : decode cX6_group 7 = .ok (.iload_n 3, 1) := dk_29 (dk_at dksX6_group_0 7 rfl rfl)
theorem dX6_group_8 : decode cX6_group 8 = .ok (.ifCond .eq 162, 3) := dk_153 0 162 (dk_at dksX6_group_0 8 rfl rfl)
theorem dX6_group_11 : decode cX6_group 11 = .ok (.aload_n 0, 1) := dk_42 (dk_at dksX6_group_0 11 rfl rfl)
theorem dX6_group_12 : decode cX6_group 12 = .ok (.invokevirtual 373, 3) := dk_182 1 117 (dk_at dksX6_group_0 12 rfl rfl)
theorem dX6_group_15 : decode cX6_group 15 = .ok (.ifCond .ne 8, 3) := dk_154 0 8 (dk_at dksX6_group_0 15 rfl rfl)
theorem dX6_group_18 : decode cX6_group 18 = .ok (.aload_n 0, 1) := dk_42 (dk_at dksX6_group_0 18 rfl rfl)
theorem dX6_group_19 : decode cX6_group 19 = .ok (.invokevirtual 301, 3) := dk_182 1 45 (dk_at dksX6_group_0 19 rfl rfl)
theorem dX6_group_22 : decode cX6_group 22 = .ok (.athrow, 1) := dk_191 (dk_at dksX6_group_0 22 rfl rfl)
theorem dX6_group_23 : decode cX6_group 23 = .ok (.aload_n 0, 1) := dk_42 (dk_at dksX6_group_0 23 rfl rfl)
theorem dX6_group_24 : decode cX6_group 24 = .ok (.aload_n 0, 1) := dk_42 (dk_at dksX6_group_1 0 rfl rfl)
theorem dX6_group_25 : decode cX6_group 25 = .ok (.getfield 71, 3) := dk_180 0 71 (dk_at dksX6_group_1 1 rfl rfl)
theorem dX6_group_28 : decode cX6_group 28 = .ok (.invokevirtual 376, 3) := dk_182 1 120 (dk_at dksX6_group_1 4 rfl rfl)
theorem dX6_group_31 : decode cX6_group 31 = .ok (.ifCond .lt 16, 3) := dk_155 0 16 (dk_at dksX6_group_1 7 rfl rfl)
theorem dX6_group_34 : decode cX6_group 34 = .ok (.new 296, 3) := dk_187 1 40 (dk_at dksX6_group_1 10 rfl rfl)
theorem dX6_group_37 : decode cX6_group 37 = .ok (.dup, 1) := dk_89 (dk_at dksX6_group_1 13 rfl rfl)
theorem dX6_group_38 : decode cX6_group 38 = .ok (.iconst 2, 1) := dk_5 (dk_at dksX6_group_1 14 rfl rfl)
theorem dX6_group_39 : decode cX6_group 39 = .ok (.aload_n 0, 1) := dk_42 (dk_at dksX6_group_1 15 rfl rfl)
theorem dX6_group_40 : decode cX6_group 40 = .ok (.getfield 33, 3) := dk_180 0 33 (dk_at dksX6_group_1 16 rfl rfl)
theorem dX6_group_43 : decode cX6_group 43 = .ok (.invokespecial 298, 3) := dk_183 1 42 (dk_at dksX6_group_1 19 rfl rfl)
theorem dX6_group_46 : decode cX6_group 46 = .ok (.athrow, 1) := dk_191 (dk_at dksX6_group_1 22 rfl rfl)
theorem dX6_group_47 : decode cX6_group 47 = .ok (.aload_n 0, 1) := dk_42 (dk_at dksX6_group_1 23 rfl rfl)
theorem dX6_group_48 : decode cX6_group 48 = .ok (.getfield 71, 3) := dk_180 0 71 (dk_at dksX6_group_2 0 rfl rfl)
theorem dX6_group_51 : decode cX6_group 51 = .ok (.aload_n 0, 1) := dk_42 (dk_at dksX6_group_2 3 rfl rfl)
theorem dX6_group_52 : decode cX6_group 52 = .ok (.getfield 50, 3) := dk_180 0 50 (dk_at dksX6_group_2 4 rfl rfl)
theorem dX6_group_55 : decode cX6_group 55 = .ok (.aload_n 0, 1) := dk_42 (dk_at dksX6_group_2 7 rfl rfl)
theorem dX6_group_56 : decode cX6_group 56 = .ok (.getfield 68, 3) := dk_180 0 68 (dk_at dksX6_group_2 8 rfl rfl)
theorem dX6_group_59 : decode cX6_group 59 = .ok (.iaload, 1) := dk_46 (dk_at dksX6_group_2 11 rfl rfl)
theorem dX6_group_60 : decode cX6_group 60 = .ok (.isub, 1) := dk_100 (dk_at dksX6_group_2 12 rfl rfl)
theorem dX6_group_61 : decode cX6_group 61 = .ok (.bipush 99, 2) := dk_16 99 (dk_at dksX6_group_2 13 rfl rfl)
theorem dX6_group_63 : decode cX6_group 63 = .ok (.if_icmp .ne 16, 3) := dk_160 0 16 (dk_at dksX6_group_2 15 rfl rfl)
theorem dX6_group_66 : decode cX6_group 66 = .ok (.new 296, 3) := dk_187 1 40 (dk_at dksX6_group_2 18 rfl rfl)
theorem dX6_group_69 : decode cX6_group 69 = .ok (.dup, 1) := dk_89 (dk_at dksX6_group_2 21 rfl rfl)
theorem dX6_group_70 : decode cX6_group 70 = .ok (.iconst 3, 1) := dk_6 (dk_at dksX6_group_2 22 rfl rfl)
theorem dX6_group_71 : decode cX6_group 71 = .ok (.aload_n 0, 1) := dk_42 (dk_at dksX6_group_2 23 rfl rfl)
theorem dX6_group_72 : decode cX6_group 72 = .ok (.getfield 33, 3) := dk_180 0 33 (dk_at dksX6_group_3 0 rfl rfl)
theorem dX6_group_75 : decode cX6_group 75 = .ok (.invokespecial 298, 3) := dk_183 1 42 (dk_at dksX6_group_3 3 rfl rfl)
theorem dX6_group_78 : decode cX6_group 78 = .ok (.athrow, 1) := dk_191 (dk_at dksX6_group_3 6 rfl rfl)
theorem dX6_group_79 : decode cX6_group 79 = .ok (.aload_n 0, 1) := dk_42 (dk_at dksX6_group_3 7 rfl rfl)
theorem dX6_group_80 : decode cX6_group 80 = .ok (.getfield 74, 3) := dk_180 0 74 (dk_at dksX6_group_3 8 rfl rfl)
theorem dX6_group_83 : decode cX6_group 83 = .ok (.aload_n 0, 1) := dk_42 (dk_at dksX6_group_3 11 rfl rfl)
theorem dX6_group_84 : decode cX6_group 84 = .ok (.getfield 71, 3) := dk_180 0 71 (dk_at dksX6_group_3 12 rfl rfl)
theorem dX6_group_87 : decode cX6_group 87 = .ok (.aload_n 0, 1) := dk_42 (dk_at dksX6_group_3 15 rfl rfl)
theorem dX6_group_88 : decode cX6_group 88 = .ok (.getfield 33, 3) := dk_180 0 33 (dk_at dksX6_group_3 16 rfl rfl)
theorem dX6_group_91 : decode cX6_group 91 = .ok (.iastore, 1) := dk_79 (dk_at dksX6_group_3 19 rfl rfl)
theorem dX6_group_92 : decode cX6_group 92 = .ok (.aload_n 0, 1) := dk_42 (dk_at dksX6_group_3 20 rfl rfl)
theorem dX6_group_93 : decode cX6_group 93 = .ok (.getfield 77, 3) := dk_180 0 77 (dk_at dksX6_group_3 21 rfl rfl)
theorem dX6_group_96 : decode cX6_group 96 = .ok (.aload_n 0, 1) := dk_42 (dk_at dksX6_group_4 0 rfl rfl)
theorem dX6_group_97 : decode cX6_group 97 = .ok (.getfield 71, 3) := dk_180 0 71 (dk_at dksX6_group_4 1 rfl rfl)
theorem dX6_group_100 : decode cX6_group 100 = .ok (.aload_n 0, 1) := dk_42 (dk_at dksX6_group_4 4 rfl rfl)
theorem dX6_group_101 : decode cX6_group 101 = .ok (.getfield 36, 3) := dk_180 0 36 (dk_at dksX6_group_4 5 rfl rfl)
theorem dX6_group_104 : decode cX6_group 104 = .ok (.aload_n 0, 1) := dk_42 (dk_at dksX6_group_4 8 rfl rfl)
theorem dX6_group_105 : decode cX6_group 105 = .ok (.getfield 33, 3) := dk_180 0 33 (dk_at dksX6_group_4 9 rfl rfl)
theorem dX6_group_108 : decode cX6_group 108 = .ok (.isub, 1) := dk_100 (dk_at dksX6_group_4 12 rfl rfl)
theorem dX6_group_109 : decode cX6_group 109 = .ok (.iastore, 1) := dk_79 (dk_at dksX6_group_4 13 rfl rfl)
theorem dX6_group_110 : decode cX6_group 110 = .ok (.aload_n 0, 1) := dk_42 (dk_at dksX6_group_4 14 rfl rfl)
theorem dX6_group_111 : decode cX6_group 111 = .ok (.getfield 80, 3) := dk_180 0 80 (dk_at dksX6_group_4 15 rfl rfl)
theorem dX6_group_114 : decode cX6_group 114 = .ok (.aload_n 0, 1) := dk_42 (dk_at dksX6_group_4 18 rfl rfl)
theorem dX6_group_115 : decode cX6_group 115 = .ok (.getfield 71, 3) := dk_180 0 71 (dk_at dksX6_group_4 19 rfl rfl)
theorem dX6_group_118 : decode cX6_group 118 = .ok (.iconst (-1), 1) := dk_2 (dk_at dksX6_group_4 22 rfl rfl)
theorem dX6_group_119 : decode cX6_group 119 = .ok (.iastore, 1) := dk_79 (dk_at dksX6_group_4 23 rfl rfl)
theorem dX6_group_120 : decode cX6_group 120 = .ok (.aload_n 0, 1) := dk_42 (dk_at dksX6_group_5 0 rfl rfl)
theorem dX6_group_121 : decode cX6_group 121 = .ok (.getfield 83, 3) := dk_180 0 83 (dk_at dksX6_group_5 1 rfl rfl)
theorem dX6_group_124 : decode cX6_group 124 = .ok (.aload_n 0, 1) := dk_42 (dk_at dksX6_group_5 4 rfl rfl)
theorem dX6_group_125 : decode cX6_group 125 = .ok (.getfield 71, 3) := dk_180 0 71 (dk_at dksX6_group_5 5 rfl rfl)
theorem dX6_group_128 : decode cX6_group 128 = .ok (.iconst 0, 1) := dk_3 (dk_at dksX6_group_5 8 rfl rfl)
theorem dX6_group_129 : decode cX6_group 129 = .ok (.iastore, 1) := dk_79 (dk_at dksX6_group_5 9 rfl rfl)
theorem dX6_group_130 : decode cX6_group 130 = .ok (.aload_n 0, 1) := dk_42 (dk_at dksX6_group_5 10 rfl rfl)
theorem dX6_group_131 : decode cX6_group 131 = .ok (.dup, 1) := dk_89 (dk_at dksX6_group_5 11 rfl rfl)
theorem dX6_group_132 : decode cX6_group 132 = .ok (.getfield 71, 3) := dk_180 0 71 (dk_at dksX6_group_5 12 rfl rfl)
theorem dX6_group_135 : decode cX6_group 135 = .ok (.iconst 1, 1) := dk_4 (dk_at dksX6_group_5 15 rfl rfl)
theorem dX6_group_136 : decode cX6_group 136 = .ok (.iadd, 1) := dk_96 (dk_at dksX6_group_5 16 rfl rfl)
theorem dX6_group_137 : decode cX6_group 137 = .ok (.putfield 71, 3) := dk_181 0 71 (dk_at dksX6_group_5 17 rfl rfl)
theorem dX6_group_140 : decode cX6_group 140 = .ok (.aload_n 0, 1) := dk_42 (dk_at dksX6_group_5 20 rfl rfl)
theorem dX6_group_141 : decode cX6_group 141 = .ok (.invokevirtual 305, 3) := dk_182 1 49 (dk_at dksX6_group_5 21 rfl rfl)
theorem dX6_group_144 : decode cX6_group 144 = .ok (.aload_n 0, 1) := dk_42 (dk_at dksX6_group_6 0 rfl rfl)
theorem dX6_group_145 : decode cX6_group 145 = .ok (.invokevirtual 292, 3) := dk_182 1 36 (dk_at dksX6_group_6 1 rfl rfl)
theorem dX6_group_148 : decode cX6_group 148 = .ok (.bipush 44, 2) := dk_16 44 (dk_at dksX6_group_6 4 rfl rfl)
theorem dX6_group_150 : decode cX6_group 150 = .ok (.if_icmp .ne 7, 3) := dk_160 0 7 (dk_at dksX6_group_6 6 rfl rfl)
theorem dX6_group_153 : decode cX6_group 153 = .ok (.iconst 1, 1) := dk_4 (dk_at dksX6_group_6 9 rfl rfl)
theorem dX6_group_154 : decode cX6_group 154 = .ok (.goto 4, 3) := dk_167 0 4 (dk_at dksX6_group_6 10 rfl rfl)
theorem dX6_group_157 : decode cX6_group 157 = .ok (.iconst 0, 1) := dk_3 (dk_at dksX6_group_6 13 rfl rfl)
theorem dX6_group_158 : decode cX6_group 158 = .ok (.istore_n 3, 1) := dk_62 (dk_at dksX6_group_6 14 rfl rfl)
theorem dX6_group_159 : decode cX6_group 159 = .ok (.iload_n 3, 1) := dk_29 (dk_at dksX6_group_6 15 rfl rfl)
theorem dX6_group_160 : decode cX6_group 160 = .ok (.ifCond .eq (-153), 3) := dk_153 255 103 (dk_at dksX6_group_6 16 rfl rfl)
theorem dX6_group_163 : decode cX6_group 163 = .ok (.aload_n 0, 1) := dk_42 (dk_at dksX6_group_6 19 rfl rfl)
theorem dX6_group_164 : decode cX6_group 164 = .ok (.invokevirtual 305, 3) := dk_182 1 49 (dk_at dksX6_group_6 20 rfl rfl)
theorem dX6_group_167 : decode cX6_group 167 = .ok (.goto (-160), 3) := dk_167 255 96 (dk_at dksX6_group_7 0 rfl rfl)
theorem dX6_group_170 : decode cX6_group 170 = .ok (.aload_n 0, 1) := dk_42 (dk_at dksX6_group_7 3 rfl rfl)
theorem dX6_group_171 : decode cX6_group 171 = .ok (.bipush 58, 2) := dk_16 58 (dk_at dksX6_group_7 4 rfl rfl)
theorem dX6_group_173 : decode cX6_group 173 = .ok (.invokevirtual 379, 3) := dk_182 1 123 (dk_at dksX6_group_7 6 rfl rfl)
theorem dX6_group_176 : decode cX6_group 176 = .ok (.aload_n 0, 1) := dk_42 (dk_at dksX6_group_7 9 rfl rfl)
theorem dX6_group_177 : decode cX6_group 177 = .ok (.ldc_w 333, 3) := dk_19 1 77 (dk_at dksX6_group_7 10 rfl rfl)
theorem dX6_group_180 : decode cX6_group 180 = .ok (.invokevirtual 317, 3) := dk_182 1 61 (dk_at dksX6_group_7 13 rfl rfl)
theorem dX6_group_183 : decode cX6_group 183 = .ok (.istore 4, 2) := dk_54 4 (dk_at dksX6_group_7 16 rfl rfl)
theorem dX6_group_185 : decode cX6_group 185 = .ok (.iload 4, 2) := dk_21 4 (dk_at dksX6_group_7 18 rfl rfl)
theorem dX6_group_187 : decode cX6_group 187 = .ok (.ifCond .ne 18, 3) := dk_154 0 18 (dk_at dksX6_group_7 20 rfl rfl)
theorem dX6_group_190 : decode cX6_group 190 = .ok (.aload_n 0, 1) := dk_42 (dk_at dksX6_group_7 23 rfl rfl)
theorem dX6_group_191 : decode cX6_group 191 = .ok (.ldc_w 331, 3) := dk_19 1 75 (dk_at dksX6_group_8 0 rfl rfl)
theorem dX6_group_194 : decode cX6_group 194 = .ok (.invokevirtual 317, 3) := dk_182 1 61 (dk_at dksX6_group_8 3 rfl rfl)
theorem dX6_group_197 : decode cX6_group 197 = .ok (.ifCond .ne 8, 3) := dk_154 0 8 (dk_at dksX6_group_8 6 rfl rfl)
theorem dX6_group_200 : decode cX6_group 200 = .ok (.aload_n 0, 1) := dk_42 (dk_at dksX6_group_8 9 rfl rfl)
theorem dX6_group_201 : decode cX6_group 201 = .ok (.invokevirtual 301, 3) := dk_182 1 45 (dk_at dksX6_group_8 10 rfl rfl)
theorem dX6_group_204 : decode cX6_group 204 = .ok (.athrow, 1) := dk_191 (dk_at dksX6_group_8 13 rfl rfl)
theorem dX6_group_205 : decode cX6_group 205 = .ok (.aload_n 0, 1) := dk_42 (dk_at dksX6_group_8 14 rfl rfl)
theorem dX6_group_206 : decode cX6_group 206 = .ok (.invokevirtual 305, 3) := dk_182 1 49 (dk_at dksX6_group_8 15 rfl rfl)
theorem dX6_group_209 : decode cX6_group 209 = .ok (.iload_n 2, 1) := dk_28 (dk_at dksX6_group_8 18 rfl rfl)
theorem dX6_group_210 : decode cX6_group 210 = .ok (.istore 5, 2) := dk_54 5 (dk_at dksX6_group_8 19 rfl rfl)
theorem dX6_group_212 : decode cX6_group 212 = .ok (.iload 5, 2) := dk_21 5 (dk_at dksX6_group_8 21 rfl rfl)
theorem dX6_group_214 : decode cX6_group 214 = .ok (.aload_n 0, 1) := dk_42 (dk_at dksX6_group_8 23 rfl rfl)
theorem dX6_group_215 : decode cX6_group 215 = .ok (.getfield 71, 3) := dk_180 0 71 (dk_at dksX6_group_9 0 rfl rfl)
theorem dX6_group_218 : decode cX6_group 218 = .ok (.if_icmp .ge 18, 3) := dk_162 0 18 (dk_at dksX6_group_9 3 rfl rfl)
theorem dX6_group_221 : decode cX6_group 221 = .ok (.aload_n 0, 1) := dk_42 (dk_at dksX6_group_9 6 rfl rfl)
theorem dX6_group_222 : decode cX6_group 222 = .ok (.getfield 86, 3) := dk_180 0 86 (dk_at dksX6_group_9 7 rfl rfl)
theorem dX6_group_225 : decode cX6_group 225 = .ok (.iload 5, 2) := dk_21 5 (dk_at dksX6_group_9 10 rfl rfl)
theorem dX6_group_227 : decode cX6_group 227 = .ok (.iload 4, 2) := dk_21 4 (dk_at dksX6_group_9 12 rfl rfl)
theorem dX6_group_229 : decode cX6_group 229 = .ok (.bastore, 1) := dk_84 (dk_at dksX6_group_9 14 rfl rfl)
theorem dX6_group_230 : decode cX6_group 230 = .ok (.iinc 5 1, 3) := dk_132 5 1 (dk_at dksX6_group_9 15 rfl rfl)
theorem dX6_group_233 : decode cX6_group 233 = .ok (.goto (-21), 3) := dk_167 255 235 (dk_at dksX6_group_9 18 rfl rfl)
theorem dX6_group_236 : decode cX6_group 236 = .ok (.iload_n 1, 1) := dk_27 (dk_at dksX6_group_9 21 rfl rfl)
theorem dX6_group_237 : decode cX6_group 237 = .ok (.ifCond .eq 13, 3) := dk_153 0 13 (dk_at dksX6_group_10 0 rfl rfl)
theorem dX6_group_240 : decode cX6_group 240 = .ok (.aload_n 0, 1) := dk_42 (dk_at dksX6_group_10 3 rfl rfl)
theorem dX6_group_241 : decode cX6_group 241 = .ok (.ldc_w 335, 3) := dk_19 1 79 (dk_at dksX6_group_10 4 rfl rfl)
theorem dX6_group_244 : decode cX6_group 244 = .ok (.invokevirtual 317, 3) := dk_182 1 61 (dk_at dksX6_group_10 7 rfl rfl)
theorem dX6_group_247 : decode cX6_group 247 = .ok (.ifCond .ne 4, 3) := dk_154 0 4 (dk_at dksX6_group_10 10 rfl rfl)
theorem dX6_group_250 : decode cX6_group 250 = .ok (.return_, 1) := dk_177 (dk_at dksX6_group_10 13 rfl rfl)
theorem dX6_group_251 : decode cX6_group 251 = .ok (.aload_n 0, 1) := dk_42 (dk_at dksX6_group_10 14 rfl rfl)
theorem dX6_group_252 : decode cX6_group 252 = .ok (.invokevirtual 305, 3) := dk_182 1 49 (dk_at dksX6_group_10 15 rfl rfl)
theorem dX6_group_255 : decode cX6_group 255 = .ok (.aload_n 0, 1) := dk_42 (dk_at dksX6_group_10 18 rfl rfl)
theorem dX6_group_256 : decode cX6_group 256 = .ok (.ldc_w 337, 3) := dk_19 1 81 (dk_at dksX6_group_10 19 rfl rfl)
theorem dX6_group_259 : decode cX6_group 259 = .ok (.invokevirtual 317, 3) := dk_182 1 61 (dk_at dksX6_group_11 0 rfl rfl)
theorem dX6_group_262 : decode cX6_group 262 = .ok (.istore 5, 2) := dk_54 5 (dk_at dksX6_group_11 3 rfl rfl)
theorem dX6_group_264 : decode cX6_group 264 = .ok (.iload 5, 2) := dk_21 5 (dk_at dksX6_group_11 5 rfl rfl)
theorem dX6_group_266 : decode cX6_group 266 = .ok (.ifCond .eq 7, 3) := dk_153 0 7 (dk_at dksX6_group_11 7 rfl rfl)
theorem dX6_group_269 : decode cX6_group 269 = .ok (.aload_n 0, 1) := dk_42 (dk_at dksX6_group_11 10 rfl rfl)
theorem dX6_group_270 : decode cX6_group 270 = .ok (.invokevirtual 305, 3) := dk_182 1 49 (dk_at dksX6_group_11 11 rfl rfl)
theorem dX6_group_273 : decode cX6_group 273 = .ok (.aload_n 0, 1) := dk_42 (dk_at dksX6_group_11 14 rfl rfl)
theorem dX6_group_274 : decode cX6_group 274 = .ok (.invokevirtual 373, 3) := dk_182 1 117 (dk_at dksX6_group_11 15 rfl rfl)
theorem dX6_group_277 : decode cX6_group 277 = .ok (.ifCond .ne 8, 3) := dk_154 0 8 (dk_at dksX6_group_11 18 rfl rfl)
theorem dX6_group_280 : decode cX6_group 280 = .ok (.aload_n 0, 1) := dk_42 (dk_at dksX6_group_11 21 rfl rfl)
theorem dX6_group_281 : decode cX6_group 281 = .ok (.invokevirtual 301, 3) := dk_182 1 45 (dk_at dksX6_group_12 0 rfl rfl)
theorem dX6_group_284 : decode cX6_group 284 = .ok (.athrow, 1) := dk_191 (dk_at dksX6_group_12 3 rfl rfl)
theorem dX6_group_285 : decode cX6_group 285 = .ok (.aload_n 0, 1) := dk_42 (dk_at dksX6_group_12 4 rfl rfl)
theorem dX6_group_286 : decode cX6_group 286 = .ok (.iload_n 2, 1) := dk_28 (dk_at dksX6_group_12 5 rfl rfl)
theorem dX6_group_287 : decode cX6_group 287 = .ok (.invokevirtual 376, 3) := dk_182 1 120 (dk_at dksX6_group_12 6 rfl rfl)
theorem dX6_group_290 : decode cX6_group 290 = .ok (.istore 6, 2) := dk_54 6 (dk_at dksX6_group_12 9 rfl rfl)
theorem dX6_group_292 : decode cX6_group 292 = .ok (.iload 6, 2) := dk_21 6 (dk_at dksX6_group_12 11 rfl rfl)
theorem dX6_group_294 : decode cX6_group 294 = .ok (.ifCond .lt 13, 3) := dk_155 0 13 (dk_at dksX6_group_12 13 rfl rfl)
theorem dX6_group_297 : decode cX6_group 297 = .ok (.aload_n 0, 1) := dk_42 (dk_at dksX6_group_12 16 rfl rfl)
theorem dX6_group_298 : decode cX6_group 298 = .ok (.getfield 86, 3) := dk_180 0 86 (dk_at dksX6_group_12 17 rfl rfl)
theorem dX6_group_301 : decode cX6_group 301 = .ok (.iload 6, 2) := dk_21 6 (dk_at dksX6_group_12 20 rfl rfl)
theorem dX6_group_303 : decode cX6_group 303 = .ok (.baload, 1) := dk_51 (dk_at dksX6_group_12 22 rfl rfl)
theorem dX6_group_304 : decode cX6_group 304 = .ok (.ifCond .ne 16, 3) := dk_154 0 16 (dk_at dksX6_group_13 0 rfl rfl)
theorem dX6_group_307 : decode cX6_group 307 = .ok (.new 296, 3) := dk_187 1 40 (dk_at dksX6_group_13 3 rfl rfl)
theorem dX6_group_310 : decode cX6_group 310 = .ok (.dup, 1) := dk_89 (dk_at dksX6_group_13 6 rfl rfl)
theorem dX6_group_311 : decode cX6_group 311 = .ok (.iconst 2, 1) := dk_5 (dk_at dksX6_group_13 7 rfl rfl)
theorem dX6_group_312 : decode cX6_group 312 = .ok (.aload_n 0, 1) := dk_42 (dk_at dksX6_group_13 8 rfl rfl)
theorem dX6_group_313 : decode cX6_group 313 = .ok (.getfield 33, 3) := dk_180 0 33 (dk_at dksX6_group_13 9 rfl rfl)
theorem dX6_group_316 : decode cX6_group 316 = .ok (.invokespecial 298, 3) := dk_183 1 42 (dk_at dksX6_group_13 12 rfl rfl)
theorem dX6_group_319 : decode cX6_group 319 = .ok (.athrow, 1) := dk_191 (dk_at dksX6_group_13 15 rfl rfl)
theorem dX6_group_320 : decode cX6_group 320 = .ok (.aload_n 0, 1) := dk_42 (dk_at dksX6_group_13 16 rfl rfl)
theorem dX6_group_321 : decode cX6_group 321 = .ok (.iload 6, 2) := dk_21 6 (dk_at dksX6_group_13 17 rfl rfl)
theorem dX6_group_323 : decode cX6_group 323 = .ok (.invokevirtual 383, 3) := dk_182 1 127 (dk_at dksX6_group_13 19 rfl rfl)
theorem dX6_group_326 : decode cX6_group 326 = .ok (.aload_n 0, 1) := dk_42 (dk_at dksX6_group_13 22 rfl rfl)
theorem dX6_group_327 : decode cX6_group 327 = .ok (.invokevirtual 305, 3) := dk_182 1 49 (dk_at dksX6_group_14 0 rfl rfl)
theorem dX6_group_330 : decode cX6_group 330 = .ok (.iload_n 2, 1) := dk_28 (dk_at dksX6_group_14 3 rfl rfl)
theorem dX6_group_331 : decode cX6_group 331 = .ok (.istore 7, 2) := dk_54 7 (dk_at dksX6_group_14 4 rfl rfl)
theorem dX6_group_333 : decode cX6_group 333 = .ok (.iload 7, 2) := dk_21 7 (dk_at dksX6_group_14 6 rfl rfl)
theorem dX6_group_335 : decode cX6_group 335 = .ok (.aload_n 0, 1) := dk_42 (dk_at dksX6_group_14 8 rfl rfl)
theorem dX6_group_336 : decode cX6_group 336 = .ok (.getfield 71, 3) := dk_180 0 71 (dk_at dksX6_group_14 9 rfl rfl)
theorem dX6_group_339 : decode cX6_group 339 = .ok (.if_icmp .ge 41, 3) := dk_162 0 41 (dk_at dksX6_group_14 12 rfl rfl)
theorem dX6_group_342 : decode cX6_group 342 = .ok (.aload_n 0, 1) := dk_42 (dk_at dksX6_group_14 15 rfl rfl)
theorem dX6_group_343 : decode cX6_group 343 = .ok (.getfield 80, 3) := dk_180 0 80 (dk_at dksX6_group_14 16 rfl rfl)
theorem dX6_group_346 : decode cX6_group 346 = .ok (.iload 7, 2) := dk_21 7 (dk_at dksX6_group_14 19 rfl rfl)
theorem dX6_group_348 : decode cX6_group 348 = .ok (.iconst 2, 1) := dk_5 (dk_at dksX6_group_14 21 rfl rfl)
theorem dX6_group_349 : decode cX6_group 349 = .ok (.iload 6, 2) := dk_21 6 (dk_at dksX6_group_14 22 rfl rfl)
theorem dX6_group_351 : decode cX6_group 351 = .ok (.aload_n 0, 1) := dk_42 (dk_at dksX6_group_15 0 rfl rfl)
theorem dX6_group_352 : decode cX6_group 352 = .ok (.getfield 50, 3) := dk_180 0 50 (dk_at dksX6_group_15 1 rfl rfl)
theorem dX6_group_355 : decode cX6_group 355 = .ok (.aload_n 0, 1) := dk_42 (dk_at dksX6_group_15 4 rfl rfl)
theorem dX6_group_356 : decode cX6_group 356 = .ok (.getfield 68, 3) := dk_180 0 68 (dk_at dksX6_group_15 5 rfl rfl)
theorem dX6_group_359 : decode cX6_group 359 = .ok (.iaload, 1) := dk_46 (dk_at dksX6_group_15 8 rfl rfl)
theorem dX6_group_360 : decode cX6_group 360 = .ok (.isub, 1) := dk_100 (dk_at dksX6_group_15 9 rfl rfl)
theorem dX6_group_361 : decode cX6_group 361 = .ok (.imul, 1) := dk_104 (dk_at dksX6_group_15 10 rfl rfl)
theorem dX6_group_362 : decode cX6_group 362 = .ok (.iload 5, 2) := dk_21 5 (dk_at dksX6_group_15 11 rfl rfl)
theorem dX6_group_364 : decode cX6_group 364 = .ok (.ifCond .eq 7, 3) := dk_153 0 7 (dk_at dksX6_group_15 13 rfl rfl)
theorem dX6_group_367 : decode cX6_group 367 = .ok (.iconst 0, 1) := dk_3 (dk_at dksX6_group_15 16 rfl rfl)
theorem dX6_group_368 : decode cX6_group 368 = .ok (.goto 4, 3) := dk_167 0 4 (dk_at dksX6_group_15 17 rfl rfl)
theorem dX6_group_371 : decode cX6_group 371 = .ok (.iconst 1, 1) := dk_4 (dk_at dksX6_group_15 20 rfl rfl)
theorem dX6_group_372 : decode cX6_group 372 = .ok (.iadd, 1) := dk_96 (dk_at dksX6_group_15 21 rfl rfl)
theorem dX6_group_373 : decode cX6_group 373 = .ok (.iastore, 1) := dk_79 (dk_at dksX6_group_15 22 rfl rfl)
theorem dX6_group_374 : decode cX6_group 374 = .ok (.iinc 7 1, 3) := dk_132 7 1 (dk_at dksX6_group_16 0 rfl rfl)
theorem dX6_group_377 : decode cX6_group 377 = .ok (.goto (-44), 3) := dk_167 255 212 (dk_at dksX6_group_16 3 rfl rfl)
theorem dX6_group_380 : decode cX6_group 380 = .ok (.return_, 1) := dk_177 (dk_at dksX6_group_16 6 rfl rfl)
abbrev cX6_variableHere : ByteArray := prog_26_method_21_code
def yX6_variableHere : MethodName := ⟨RX6, "variableHere", "(I)I"⟩
def dkwX6_variableHere_1 : List UInt8 := [180, 0, 77, 28, 46, 182, 1, 113, 153, 0, 5, 28, 172, 132, 2, 1, 167, 255, 227, 2, 172]
abbrev dktX6_variableHere_1 : List UInt8 := dkwX6_variableHere_1 ++ []
def dkwX6_variableHere_0 : List UInt8 := [42, 180, 0, 50, 42, 180, 0, 68, 46, 61, 28, 27, 162, 0, 30, 42, 42, 180, 0, 74, 28, 46, 42]
abbrev dktX6_variableHere_0 : List UInt8 := dkwX6_variableHere_0 ++ dktX6_variableHere_1
theorem dksX6_variableHere_0 : cX6_variableHere.data.toList.drop 0 = dktX6_variableHere_0 := by decide +kernel
theorem dksX6_variableHere_1 : cX6_variableHere.data.toList.drop 23 = dktX6_variableHere_1 := dk_seg dksX6_variableHere_0 23 rfl rfl
theorem dX6_variableHere_0 : decode cX6_variableHere 0 = .ok (.aload_n 0, 1) := dk_42 (dk_at dksX6_variableHere_0 0 rfl rfl)
theorem dX6_variableHere_1 : decode cX6_variableHere 1 = .ok (.getfield 50, 3) := dk_180 0 50 (dk_at dksX6_variableHere_0 1 rfl rfl)
theorem dX6_variableHere_4 : decode cX6_variableHere 4 = .ok (.aload_n 0, 1) := dk_42 (dk_at dksX6_variableHere_0 4 rfl rfl)
theorem dX6_variableHere_5 : decode cX6_variableHere 5 = .ok (.getfield 68, 3) := dk_180 0 68 (dk_at dksX6_variableHere_0 5 rfl rfl)
theorem dX6_variableHere_8 : decode cX6_variableHere 8 = .ok (.iaload, 1) := dk_46 (dk_at dksX6_variableHere_0 8 rfl rfl)
theorem dX6_variableHere_9 : decode cX6_variableHere 9 = .ok (.istore_n 2, 1) := dk_61 (dk_at dksX6_variableHere_0 9 rfl rfl)
theorem dX6_variableHere_10 : decode cX6_variableHere 10 = .ok (.iload_n 2, 1) := dk_28 (dk_at dksX6_variableHere_0 10 rfl rfl)
theorem dX6_variableHere_11 : decode cX6_variableHere 11 = .ok (.iload_n 1, 1) := dk_27 (dk_at dksX6_variableHere_0 11 rfl rfl)
theorem dX6_variableHere_12 : decode cX6_variableHere 12 = .ok (.if_icmp .ge 30, 3) := dk_162 0 30 (dk_at dksX6_variableHere_0 12 rfl rfl)
theorem dX6_variableHere_15 : decode cX6_variableHere 15 = .ok (.aload_n 0, 1) := dk_42 (dk_at dksX6_variableHere_0 15 rfl rfl)
theorem dX6_variableHere_16 : decode cX6_variableHere 16 = .ok (.aload_n 0, 1) := dk_42 (dk_at dksX6_variableHere_0 16 rfl rfl)
theorem dX6_variableHere_17 : decode cX6_variableHere 17 = .ok (.getfield 74, 3) := dk_180 0 74 (dk_at dksX6_variableHere_0 17 rfl rfl)
theorem dX6_variableHere_20 : decode cX6_variableHere 20 = .ok (.iload_n 2, 1) := dk_28 (dk_at dksX6_variableHere_0 20 rfl rfl)
theorem dX6_variableHere_21 : decode cX6_variableHere 21 = .ok (.iaload, 1) := dk_46 (dk_at dksX6_variableHere_0 21 rfl rfl)
theorem dX6_variableHere_22 : decode cX6_variableHere 22 = .ok (.aload_n 0, 1) := dk_42 (dk_at dksX6_variableHere_0 22 rfl rfl)
theorem dX6_variableHere_23 : decode cX6_variableHere 23 = .ok (.getfield 77, 3) := dk_180 0 77 (dk_at dksX6_variableHere_1 0 rfl rfl)
theorem dX6_variableHere_26 : decode cX6_variableHere 26 = .ok (.iload_n 2, 1) := dk_28 (dk_at dksX6_variableHere_1 3 rfl rfl)
theorem dX6_variableHere_27 : decode cX6_variableHere 27 = .ok (.iaload, 1) := dk_46 (dk_at dksX6_variableHere_1 4 rfl rfl)
theorem dX6_variableHere_28 : decode cX6_variableHere 28 = .ok (.invokevirtual 369, 3) := dk_182 1 113 (dk_at dksX6_variableHere_1 5 rfl rfl)
theorem dX6_variableHere_31 : decode cX6_variableHere 31 = .ok (.ifCond .eq 5, 3) := dk_153 0 5 (dk_at dksX6_variableHere_1 8 rfl rfl)
theorem dX6_variableHere_34 : decode cX6_variableHere 34 = .ok (.iload_n 2, 1) := dk_28 (dk_at dksX6_variableHere_1 11 rfl rfl)
theorem dX6_variableHere_35 : decode cX6_variableHere 35 = .ok (.ireturn, 1) := dk_172 (dk_at dksX6_variableHere_1 12 rfl rfl)
theorem dX6_variableHere_36 : decode cX6_variableHere 36 = .ok (.iinc 2 1, 3) := dk_132 2 1 (dk_at dksX6_variableHere_1 13 rfl rfl)
theorem dX6_variableHere_39 : decode cX6_variableHere 39 = .ok (.goto (-29), 3) := dk_167 255 227 (dk_at dksX6_variableHere_1 16 rfl rfl)
theorem dX6_variableHere_42 : decode cX6_variableHere 42 = .ok (.iconst (-1), 1) := dk_2 (dk_at dksX6_variableHere_1 19 rfl rfl)
theorem dX6_variableHere_43 : decode cX6_variableHere 43 = .ok (.ireturn, 1) := dk_172 (dk_at dksX6_variableHere_1 20 rfl rfl)
abbrev cX6_shallow : ByteArray := prog_26_method_24_code
def yX6_shallow : MethodName := ⟨RX6, "shallow", "(I)V"⟩
def dkwX6_shallow_2 : List UInt8 := [187, 1, 40, 89, 6, 42, 180, 0, 33, 183, 1, 42, 191, 177]
abbrev dktX6_shallow_2 : List UInt8 := dkwX6_shallow_2 ++ []
def dkwX6_shallow_1 : List UInt8 := [180, 0, 68, 46, 42, 180, 0, 80, 29, 46, 5, 108, 96, 62, 167, 255, 224, 28, 16, 8, 161, 0, 16]
abbrev dktX6_shallow_1 : List UInt8 := dkwX6_shallow_1 ++ dktX6_shallow_2
def dkwX6_shallow_0 : List UInt8 := [3, 61, 27, 62, 42, 180, 0, 80, 29, 46, 2, 159, 0, 28, 132, 2, 1, 42, 180, 0, 50, 42]
abbrev dktX6_shallow_0 : List UInt8 := dkwX6_shallow_0 ++ dktX6_shallow_1
theorem dksX6_shallow_0 : cX6_shallow.data.toList.drop 0 = dktX6_shallow_0 := by decide +kernel
theorem dksX6_shallow_1 : cX6_shallow.data.toList.drop 22 = dktX6_shallow_1 := dk_seg dksX6_shallow_0 22 rfl rfl
theorem dksX6_shallow_2 : cX6_shallow.data.toList.drop 45 = dktX6_shallow_2 := dk_seg dksX6_shallow_1 23 rfl rfl
theorem dX6_shallow_0 : decode cX6_shallow 0 = .ok (.iconst 0, 1) := dk_3 (dk_at dksX6_shallow_0 0 rfl rfl)
theorem dX6_shallow_1 : decode cX6_shallow 1 = .ok (.istore_n 2, 1) := dk_61 (dk_at dksX6_shallow_0 1 rfl rfl)
theorem dX6_shallow_2 : decode cX6_shallow 2 = .ok (.iload_n 1, 1) := dk_27 (dk_at dksX6_shallow_0 2 rfl rfl)
theorem dX6_shallow_3 : decode cX6_shallow 3 = .ok (.istore_n 3, 1) := dk_62 (dk_at dksX6_shallow_0 3 rfl rfl)
theorem dX6_shallow_4 : decode cX6_shallow 4 = .ok (.aload_n 0, 1) := dk_42 (dk_at dksX6_shallow_0 4 rfl rfl)
theorem dX6_shallow_5 : decode cX6_shallow 5 = .ok (.getfield 80, 3) := dk_180 0 80 (dk_at dksX6_shallow_0 5 rfl rfl)
theorem dX6_shallow_8 : decode cX6_shallow 8 = .ok (.iload_n 3, 1) := dk_29 (dk_at dksX6_shallow_0 8 rfl rfl)
theorem dX6_shallow_9 : decode cX6_shallow 9 = .ok (.iaload, 1) := dk_46 (dk_at dksX6_shallow_0 9 rfl rfl)
theorem dX6_shallow_10 : decode cX6_shallow 10 = .ok (.iconst (-1), 1) := dk_2 (dk_at dksX6_shallow_0 10 rfl rfl)
theorem dX6_shallow_11 : decode cX6_shallow 11 = .ok (.if_icmp .eq 28, 3) := dk_159 0 28 (dk_at dksX6_shallow_0 11 rfl rfl)
theorem dX6_shallow_14 : decode cX6_shallow 14 = .ok (.iinc 2 1, 3) := dk_132 2 1 (dk_at dksX6_shallow_0 14 rfl rfl)
theorem dX6_shallow_17 : decode cX6_shallow 17 = .ok (.aload_n 0, 1) := dk_42 (dk_at dksX6_shallow_0 17 rfl rfl)
theorem dX6_shallow_18 : decode cX6_shallow 18 = .ok (.getfield 50, 3) := dk_180 0 50 (dk_at dksX6_shallow_0 18 rfl rfl)
theorem dX6_shallow_21 : decode cX6_shallow 21 = .ok (.aload_n 0, 1) := dk_42 (dk_at dksX6_shallow_0 21 rfl rfl)
theorem dX6_shallow_22 : decode cX6_shallow 22 = .ok (.getfield 68, 3) := dk_180 0 68 (dk_at dksX6_shallow_1 0 rfl rfl)
theorem dX6_shallow_25 : decode cX6_shallow 25 = .ok (.iaload, 1) := dk_46 (dk_at dksX6_shallow_1 3 rfl rfl)
theorem dX6_shallow_26 : decode cX6_shallow 26 = .ok (.aload_n 0, 1) := dk_42 (dk_at dksX6_shallow_1 4 rfl rfl)
theorem dX6_shallow_27 : decode cX6_shallow 27 = .ok (.getfield 80, 3) := dk_180 0 80 (dk_at dksX6_shallow_1 5 rfl rfl)
theorem dX6_shallow_30 : decode cX6_shallow 30 = .ok (.iload_n 3, 1) := dk_29 (dk_at dksX6_shallow_1 8 rfl rfl)
theorem dX6_shallow_31 : decode cX6_shallow 31 = .ok (.iaload, 1) := dk_46 (dk_at dksX6_shallow_1 9 rfl rfl)
theorem dX6_shallow_32 : decode cX6_shallow 32 = .ok (.iconst 2, 1) := dk_5 (dk_at dksX6_shallow_1 10 rfl rfl)
theorem dX6_shallow_33 : decode cX6_shallow 33 = .ok (.idiv, 1) := dk_108 (dk_at dksX6_shallow_1 11 rfl rfl)
theorem dX6_shallow_34 : decode cX6_shallow 34 = .ok (.iadd, 1) := dk_96 (dk_at dksX6_shallow_1 12 rfl rfl)
theorem dX6_shallow_35 : decode cX6_shallow 35 = .ok (.istore_n 3, 1) := dk_62 (dk_at dksX6_shallow_1 13 rfl rfl)
theorem dX6_shallow_36 : decode cX6_shallow 36 = .ok (.goto (-32), 3) := dk_167 255 224 (dk_at dksX6_shallow_1 14 rfl rfl)
theorem dX6_shallow_39 : decode cX6_shallow 39 = .ok (.iload_n 2, 1) := dk_28 (dk_at dksX6_shallow_1 17 rfl rfl)
theorem dX6_shallow_40 : decode cX6_shallow 40 = .ok (.bipush 8, 2) := dk_16 8 (dk_at dksX6_shallow_1 18 rfl rfl)
theorem dX6_shallow_42 : decode cX6_shallow 42 = .ok (.if_icmp .lt 16, 3) := dk_161 0 16 (dk_at dksX6_shallow_1 20 rfl rfl)
theorem dX6_shallow_45 : decode cX6_shallow 45 = .ok (.new 296, 3) := dk_187 1 40 (dk_at dksX6_shallow_2 0 rfl rfl)
theorem dX6_shallow_48 : decode cX6_shallow 48 = .ok (.dup, 1) := dk_89 (dk_at dksX6_shallow_2 3 rfl rfl)
theorem dX6_shallow_49 : decode cX6_shallow 49 = .ok (.iconst 3, 1) := dk_6 (dk_at dksX6_shallow_2 4 rfl rfl)
theorem dX6_shallow_50 : decode cX6_shallow 50 = .ok (.aload_n 0, 1) := dk_42 (dk_at dksX6_shallow_2 5 rfl rfl)
theorem dX6_shallow_51 : decode cX6_shallow 51 = .ok (.getfield 33, 3) := dk_180 0 33 (dk_at dksX6_shallow_2 6 rfl rfl)
theorem dX6_shallow_54 : decode cX6_shallow 54 = .ok (.invokespecial 298, 3) := dk_183 1 42 (dk_at dksX6_shallow_2 9 rfl rfl)
theorem dX6_shallow_57 : decode cX6_shallow 57 = .ok (.athrow, 1) := dk_191 (dk_at dksX6_shallow_2 12 rfl rfl)
theorem dX6_shallow_58 : decode cX6_shallow 58 = .ok (.return_, 1) := dk_177 (dk_at dksX6_shallow_2 13 rfl rfl)
abbrev cX6_equation : ByteArray := prog_26_method_28_code
def yX6_equation : MethodName := ⟨RX6, "equation", "()V"⟩
def dkwX6_equation_10 : List UInt8 := [181, 0, 106, 42, 180, 0, 93, 42, 180, 0, 106, 42, 180, 0, 109, 79, 177]
abbrev dktX6_equation_10 : List UInt8 := dkwX6_equation_10 ++ []
def dkwX6_equation_9 : List UInt8 := [42, 180, 0, 106, 42, 27, 3, 182, 1, 156, 79, 42, 16, 59, 182, 1, 123, 42, 89, 180, 0, 106, 4, 96]
abbrev dktX6_equation_9 : List UInt8 := dkwX6_equation_9 ++ dktX6_equation_10
def dkwX6_equation_8 : List UInt8 := [156, 0, 16, 187, 1, 40, 89, 5, 42, 180, 0, 33, 183, 1, 42, 191, 42, 182, 1, 49, 42, 180, 0, 96]
abbrev dktX6_equation_8 : List UInt8 := dkwX6_equation_8 ++ dktX6_equation_9
def dkwX6_equation_7 : List UInt8 := [16, 61, 182, 1, 123, 42, 182, 1, 117, 154, 0, 8, 42, 182, 1, 45, 191, 42, 182, 1, 138, 60, 27]
abbrev dktX6_equation_7 : List UInt8 := dkwX6_equation_7 ++ dktX6_equation_8
def dkwX6_equation_6 : List UInt8 := [180, 0, 109, 90, 4, 96, 181, 0, 109, 42, 182, 1, 150, 79, 167, 255, 223, 42, 16, 41, 182, 1, 123, 42]
abbrev dktX6_equation_6 : List UInt8 := dkwX6_equation_6 ++ dktX6_equation_7
def dkwX6_equation_5 : List UInt8 := [182, 1, 150, 79, 42, 182, 1, 36, 16, 44, 160, 0, 30, 42, 182, 1, 49, 42, 180, 0, 100, 42, 89]
abbrev dktX6_equation_5 : List UInt8 := dkwX6_equation_5 ++ dktX6_equation_6
def dkwX6_equation_4 : List UInt8 := [167, 0, 128, 42, 182, 1, 49, 42, 180, 0, 100, 42, 89, 180, 0, 109, 90, 4, 96, 181, 0, 109, 42]
abbrev dktX6_equation_4 : List UInt8 := dkwX6_equation_4 ++ dktX6_equation_5
def dkwX6_equation_3 : List UInt8 := [182, 1, 150, 79, 42, 16, 61, 182, 1, 123, 42, 180, 0, 96, 42, 180, 0, 106, 42, 3, 182, 1, 153, 79]
abbrev dktX6_equation_3 : List UInt8 := dkwX6_equation_3 ++ dktX6_equation_4
def dkwX6_equation_2 : List UInt8 := [182, 1, 36, 16, 40, 159, 0, 46, 42, 180, 0, 100, 42, 89, 180, 0, 109, 90, 4, 96, 181, 0, 109, 42]
abbrev dktX6_equation_2 : List UInt8 := dkwX6_equation_2 ++ dktX6_equation_3
def dkwX6_equation_1 : List UInt8 := [180, 0, 106, 42, 180, 0, 109, 79, 42, 180, 0, 103, 42, 180, 0, 106, 42, 180, 0, 136, 79, 42]
abbrev dktX6_equation_1 : List UInt8 := dkwX6_equation_1 ++ dktX6_equation_2
def dkwX6_equation_0 : List UInt8 := [42, 182, 1, 36, 87, 42, 180, 0, 90, 42, 180, 0, 106, 42, 180, 0, 33, 79, 42, 180, 0, 93, 42]
abbrev dktX6_equation_0 : List UInt8 := dkwX6_equation_0 ++ dktX6_equation_1
theorem dksX6_equation_0 : cX6_equation.data.toList.drop 0 = dktX6_equation_0 := by decide +kernel
theorem dksX6_equation_1 : cX6_equation.data.toList.drop 23 = dktX6_equation_1 := dk_seg dksX6_equation_0 23 rfl rfl
theorem dksX6_equation_2 : cX6_equation.data.toList.drop 45 = dktX6_equation_2 := dk_seg dksX6_equation_1 22 rfl rfl
theorem dksX6_equation_3 : cX6_equation.data.toList.drop 69 = dktX6_equation_3 := dk_seg dksX6_equation_2 24 rfl rfl
theorem dksX6_equation_4 : cX6_equation.data.toList.drop 93 = dktX6_equation_4 := dk_seg dksX6_equation_3 24 rfl rfl
theorem dksX6_equation_5 : cX6_equation.data.toList.drop 116 = dktX6_equation_5 := dk_seg dksX6_equation_4 23 rfl rfl
theorem dksX6_equation_6 : cX6_equation.data.toList.drop 139 = dktX6_equation_6 := dk_seg dksX6_equation_5 23 rfl rfl
theorem dksX6_equation_7 : cX6_equation.data.toList.drop 163 = dktX6_equation_7 := dk_seg dksX6_equation_6 24 rfl rfl
theorem dksX6_equation_8 : cX6_equation.data.toList.drop 186 = dktX6_equation_8 := dk_seg dksX6_equation_7 23 rfl rfl
theorem dksX6_equation_9 : cX6_equation.data.toList.drop 210 = dktX6_equation_9 := dk_seg dksX6_equation_8 24 rfl rfl
theorem dksX6_equation_10 : cX6_equation.data.toList.drop 234 = dktX6_equation_10 := dk_seg dksX6_equation_9 24 rfl rfl
theorem dX6_equation_0 : decode cX6_equation 0 = .ok (.aload_n 0, 1) := dk_42 (dk_at dksX6_equation_0 0 rfl rfl)
theorem dX6_equation_1 : decode cX6_equation 1 = .ok (.invokevirtual 292, 3) := dk_182 1 36 (dk_at dksX6_equation_0 1 rfl rfl)
theorem dX6_equation_4 : decode cX6_equation 4 = .ok (.pop, 1) := dk_87 (dk_at dksX6_equation_0 4 rfl rfl)
theorem dX6_equation_5 : decode cX6_equation 5 = .ok (.aload_n 0, 1) := dk_42 (dk_at dksX6_equation_0 5 rfl rfl)
theorem dX6_equation_6 : decode cX6_equation 6 = .ok (.getfield 90, 3) := dk_180 0 90 (dk_at dksX6_equation_0 6 rfl rfl)
theorem dX6_equation_9 : decode cX6_equation 9 = .ok (.aload_n 0, 1) := dk_42 (dk_at dksX6_equation_0 9 rfl rfl)
theorem dX6_equation_10 : decode cX6_equation 10 = .ok (.getfield 106, 3) := dk_180 0 106 (dk_at dksX6_equation_0 10 rfl rfl)
theorem dX6_equation_13 : decode cX6_equation 13 = .ok (.aload_n 0, 1) := dk_42 (dk_at dksX6_equation_0 13 rfl rfl)
theorem dX6_equation_14 : decode cX6_equation 14 = .ok (.getfield 33, 3) := dk_180 0 33 (dk_at dksX6_equation_0 14 rfl rfl)
theorem dX6_equation_17 : decode cX6_equation 17 = .ok (.iastore, 1) := dk_79 (dk_at dksX6_equation_0 17 rfl rfl)
theorem dX6_equation_18 : decode cX6_equation 18 = .ok (.aload_n 0, 1) := dk_42 (dk_at dksX6_equation_0 18 rfl rfl)
theorem dX6_equation_19 : decode cX6_equation 19 = .ok (.getfield 93, 3) := dk_180 0 93 (dk_at dksX6_equation_0 19 rfl rfl)
theorem dX6_equation_22 : decode cX6_equation 22 = .ok (.aload_n 0, 1) := dk_42 (dk_at dksX6_equation_0 22 rfl rfl)
theorem dX6_equation_23 : decode cX6_equation 23 = .ok (.getfield 106, 3) := dk_180 0 106 (dk_at dksX6_equation_1 0 rfl rfl)
theorem dX6_equation_26 : decode cX6_equation 26 = .ok (.aload_n 0, 1) := dk_42 (dk_at dksX6_equation_1 3 rfl rfl)
theorem dX6_equation_27 : decode cX6_equation 27 = .ok (.getfield 109, 3) := dk_180 0 109 (dk_at dksX6_equation_1 4 rfl rfl)
theorem dX6_equation_30 : decode cX6_equation 30 = .ok (.iastore, 1) := dk_79 (dk_at dksX6_equation_1 7 rfl rfl)
theorem dX6_equation_31 : decode cX6_equation 31 = .ok (.aload_n 0, 1) := dk_42 (dk_at dksX6_equation_1 8 rfl rfl)
theorem dX6_equation_32 : decode cX6_equation 32 = .ok (.getfield 103, 3) := dk_180 0 103 (dk_at dksX6_equation_1 9 rfl rfl)
theorem dX6_equation_35 : decode cX6_equation 35 = .ok (.aload_n 0, 1) := dk_42 (dk_at dksX6_equation_1 12 rfl rfl)
theorem dX6_equation_36 : decode cX6_equation 36 = .ok (.getfield 106, 3) := dk_180 0 106 (dk_at dksX6_equation_1 13 rfl rfl)
theorem dX6_equation_39 : decode cX6_equation 39 = .ok (.aload_n 0, 1) := dk_42 (dk_at dksX6_equation_1 16 rfl rfl)
theorem dX6_equation_40 : decode cX6_equation 40 = .ok (.getfield 136, 3) := dk_180 0 136 (dk_at dksX6_equation_1 17 rfl rfl)
theorem dX6_equation_43 : decode cX6_equation 43 = .ok (.iastore, 1) := dk_79 (dk_at dksX6_equation_1 20 rfl rfl)
theorem dX6_equation_44 : decode cX6_equation 44 = .ok (.aload_n 0, 1) := dk_42 (dk_at dksX6_equation_1 21 rfl rfl)
theorem dX6_equation_45 : decode cX6_equation 45 = .ok (.invokevirtual 292, 3) := dk_182 1 36 (dk_at dksX6_equation_2 0 rfl rfl)
theorem dX6_equation_48 : decode cX6_equation 48 = .ok (.bipush 40, 2) := dk_16 40 (dk_at dksX6_equation_2 3 rfl rfl)
theorem dX6_equation_50 : decode cX6_equation 50 = .ok (.if_icmp .eq 46, 3) := dk_159 0 46 (dk_at dksX6_equation_2 5 rfl rfl)
theorem dX6_equation_53 : decode cX6_equation 53 = .ok (.aload_n 0, 1) := dk_42 (dk_at dksX6_equation_2 8 rfl rfl)
theorem dX6_equation_54 : decode cX6_equation 54 = .ok (.getfield 100, 3) := dk_180 0 100 (dk_at dksX6_equation_2 9 rfl rfl)
theorem dX6_equation_57 : decode cX6_equation 57 = .ok (.aload_n 0, 1) := dk_42 (dk_at dksX6_equation_2 12 rfl rfl)
theorem dX6_equation_58 : decode cX6_equation 58 = .ok (.dup, 1) := dk_89 (dk_at dksX6_equation_2 13 rfl rfl)
theorem dX6_equation_59 : decode cX6_equation 59 = .ok (.getfield 109, 3) := dk_180 0 109 (dk_at dksX6_equation_2 14 rfl rfl)
theorem dX6_equation_62 : decode cX6_equation 62 = .ok (.dup_x1, 1) := dk_90 (dk_at dksX6_equation_2 17 rfl rfl)
theorem dX6_equation_63 : decode cX6_equation 63 = .ok (.iconst 1, 1) := dk_4 (dk_at dksX6_equation_2 18 rfl rfl)
theorem dX6_equation_64 : decode cX6_equation 64 = .ok (.iadd, 1) := dk_96 (dk_at dksX6_equation_2 19 rfl rfl)
theorem dX6_equation_65 : decode cX6_equation 65 = .ok (.putfield 109, 3) := dk_181 0 109 (dk_at dksX6_equation_2 20 rfl rfl)
theorem dX6_equation_68 : decode cX6_equation 68 = .ok (.aload_n 0, 1) := dk_42 (dk_at dksX6_equation_2 23 rfl rfl)
theorem dX6_equation_69 : decode cX6_equation 69 = .ok (.invokevirtual 406, 3) := dk_182 1 150 (dk_at dksX6_equation_3 0 rfl rfl)
theorem dX6_equation_72 : decode cX6_equation 72 = .ok (.iastore, 1) := dk_79 (dk_at dksX6_equation_3 3 rfl rfl)
theorem dX6_equation_73 : decode cX6_equation 73 = .ok (.aload_n 0, 1) := dk_42 (dk_at dksX6_equation_3 4 rfl rfl)
theorem dX6_equation_74 : decode cX6_equation 74 = .ok (.bipush 61, 2) := dk_16 61 (dk_at dksX6_equation_3 5 rfl rfl)
theorem dX6_equation_76 : decode cX6_equation 76 = .ok (.invokevirtual 379, 3) := dk_182 1 123 (dk_at dksX6_equation_3 7 rfl rfl)
theorem dX6_equation_79 : decode cX6_equation 79 = .ok (.aload_n 0, 1) := dk_42 (dk_at dksX6_equation_3 10 rfl rfl)
theorem dX6_equation_80 : decode cX6_equation 80 = .ok (.getfield 96, 3) := dk_180 0 96 (dk_at dksX6_equation_3 11 rfl rfl)
theorem dX6_equation_83 : decode cX6_equation 83 = .ok (.aload_n 0, 1) := dk_42 (dk_at dksX6_equation_3 14 rfl rfl)
theorem dX6_equation_84 : decode cX6_equation 84 = .ok (.getfield 106, 3) := dk_180 0 106 (dk_at dksX6_equation_3 15 rfl rfl)
theorem dX6_equation_87 : decode cX6_equation 87 = .ok (.aload_n 0, 1) := dk_42 (dk_at dksX6_equation_3 18 rfl rfl)
theorem dX6_equation_88 : decode cX6_equation 88 = .ok (.iconst 0, 1) := dk_3 (dk_at dksX6_equation_3 19 rfl rfl)
theorem dX6_equation_89 : decode cX6_equation 89 = .ok (.invokevirtual 409, 3) := dk_182 1 153 (dk_at dksX6_equation_3 20 rfl rfl)
theorem dX6_equation_92 : decode cX6_equation 92 = .ok (.iastore, 1) := dk_79 (dk_at dksX6_equation_3 23 rfl rfl)
theorem dX6_equation_93 : decode cX6_equation 93 = .ok (.goto 128, 3) := dk_167 0 128 (dk_at dksX6_equation_4 0 rfl rfl)
theorem dX6_equation_96 : decode cX6_equation 96 = .ok (.aload_n 0, 1) := dk_42 (dk_at dksX6_equation_4 3 rfl rfl)
theorem dX6_equation_97 : decode cX6_equation 97 = .ok (.invokevirtual 305, 3) := dk_182 1 49 (dk_at dksX6_equation_4 4 rfl rfl)
theorem dX6_equation_100 : decode cX6_equation 100 = .ok (.aload_n 0, 1) := dk_42 (dk_at dksX6_equation_4 7 rfl rfl)
theorem dX6_equation_101 : decode cX6_equation 101 = .ok (.getfield 100, 3) := dk_180 0 100 (dk_at dksX6_equation_4 8 rfl rfl)
theorem dX6_equation_104 : decode cX6_equation 104 = .ok (.aload_n 0, 1) := dk_42 (dk_at dksX6_equation_4 11 rfl rfl)
theorem dX6_equation_105 : decode cX6_equation 105 = .ok (.dup, 1) := dk_89 (dk_at dksX6_equation_4 12 rfl rfl)
theorem dX6_equation_106 : decode cX6_equation 106 = .ok (.getfield 109, 3) := dk_180 0 109 (dk_at dksX6_equation_4 13 rfl rfl)
theorem dX6_equation_109 : decode cX6_equation 109 = .ok (.dup_x1, 1) := dk_90 (dk_at dksX6_equation_4 16 rfl rfl)
theorem dX6_equation_110 : decode cX6_equation 110 = .ok (.iconst 1, 1) := dk_4 (dk_at dksX6_equation_4 17 rfl rfl)
theorem dX6_equation_111 : decode cX6_equation 111 = .ok (.iadd, 1) := dk_96 (dk_at dksX6_equation_4 18 rfl rfl)
theorem dX6_equation_112 : decode cX6_equation 112 = .ok (.putfield 109, 3) := dk_181 0 109 (dk_at dksX6_equation_4 19 rfl rfl)
theorem dX6_equation_115 : decode cX6_equation 115 = .ok (.aload_n 0, 1) := dk_42 (dk_at dksX6_equation_4 22 rfl rfl)
theorem dX6_equation_116 : decode cX6_equation 116 = .ok (.invokevirtual 406, 3) := dk_182 1 150 (dk_at dksX6_equation_5 0 rfl rfl)
theorem dX6_equation_119 : decode cX6_equation 119 = .ok (.iastore, 1) := dk_79 (dk_at dksX6_equation_5 3 rfl rfl)
theorem dX6_equation_120 : decode cX6_equation 120 = .ok (.aload_n 0, 1) := dk_42 (dk_at dksX6_equation_5 4 rfl rfl)
theorem dX6_equation_121 : decode cX6_equation 121 = .ok (.invokevirtual 292, 3) := dk_182 1 36 (dk_at dksX6_equation_5 5 rfl rfl)
theorem dX6_equation_124 : decode cX6_equation 124 = .ok (.bipush 44, 2) := dk_16 44 (dk_at dksX6_equation_5 8 rfl rfl)
theorem dX6_equation_126 : decode cX6_equation 126 = .ok (.if_icmp .ne 30, 3) := dk_160 0 30 (dk_at dksX6_equation_5 10 rfl rfl)
theorem dX6_equation_129 : decode cX6_equation 129 = .ok (.aload_n 0, 1) := dk_42 (dk_at dksX6_equation_5 13 rfl rfl)
theorem dX6_equation_130 : decode cX6_equation 130 = .ok (.invokevirtual 305, 3) := dk_182 1 49 (dk_at dksX6_equation_5 14 rfl rfl)
theorem dX6_equation_133 : decode cX6_equation 133 = .ok (.aload_n 0, 1) := dk_42 (dk_at dksX6_equation_5 17 rfl rfl)
theorem dX6_equation_134 : decode cX6_equation 134 = .ok (.getfield 100, 3) := dk_180 0 100 (dk_at dksX6_equation_5 18 rfl rfl)
theorem dX6_equation_137 : decode cX6_equation 137 = .ok (.aload_n 0, 1) := dk_42 (dk_at dksX6_equation_5 21 rfl rfl)
theorem dX6_equation_138 : decode cX6_equation 138 = .ok (.dup, 1) := dk_89 (dk_at dksX6_equation_5 22 rfl rfl)
theorem dX6_equation_139 : decode cX6_equation 139 = .ok (.getfield 109, 3) := dk_180 0 109 (dk_at dksX6_equation_6 0 rfl rfl)
theorem dX6_equation_142 : decode cX6_equation 142 = .ok (.dup_x1, 1) := dk_90 (dk_at dksX6_equation_6 3 rfl rfl)
theorem dX6_equation_143 : decode cX6_equation 143 = .ok (.iconst 1, 1) := dk_4 (dk_at dksX6_equation_6 4 rfl rfl)
theorem dX6_equation_144 : decode cX6_equation 144 = .ok (.iadd, 1) := dk_96 (dk_at dksX6_equation_6 5 rfl rfl)
theorem dX6_equation_145 : decode cX6_equation 145 = .ok (.putfield 109, 3) := dk_181 0 109 (dk_at dksX6_equation_6 6 rfl rfl)
theorem dX6_equation_148 : decode cX6_equation 148 = .ok (.aload_n 0, 1) := dk_42 (dk_at dksX6_equation_6 9 rfl rfl)
theorem dX6_equation_149 : decode cX6_equation 149 = .ok (.invokevirtual 406, 3) := dk_182 1 150 (dk_at dksX6_equation_6 10 rfl rfl)
theorem dX6_equation_152 : decode cX6_equation 152 = .ok (.iastore, 1) := dk_79 (dk_at dksX6_equation_6 13 rfl rfl)
theorem dX6_equation_153 : decode cX6_equation 153 = .ok (.goto (-33), 3) := dk_167 255 223 (dk_at dksX6_equation_6 14 rfl rfl)
theorem dX6_equation_156 : decode cX6_equation 156 = .ok (.aload_n 0, 1) := dk_42 (dk_at dksX6_equation_6 17 rfl rfl)
theorem dX6_equation_157 : decode cX6_equation 157 = .ok (.bipush 41, 2) := dk_16 41 (dk_at dksX6_equation_6 18 rfl rfl)
theorem dX6_equation_159 : decode cX6_equation 159 = .ok (.invokevirtual 379, 3) := dk_182 1 123 (dk_at dksX6_equation_6 20 rfl rfl)
theorem dX6_equation_162 : decode cX6_equation 162 = .ok (.aload_n 0, 1) := dk_42 (dk_at dksX6_equation_6 23 rfl rfl)
theorem dX6_equation_163 : decode cX6_equation 163 = .ok (.bipush 61, 2) := dk_16 61 (dk_at dksX6_equation_7 0 rfl rfl)
theorem dX6_equation_165 : decode cX6_equation 165 = .ok (.invokevirtual 379, 3) := dk_182 1 123 (dk_at dksX6_equation_7 2 rfl rfl)
theorem dX6_equation_168 : decode cX6_equation 168 = .ok (.aload_n 0, 1) := dk_42 (dk_at dksX6_equation_7 5 rfl rfl)
theorem dX6_equation_169 : decode cX6_equation 169 = .ok (.invokevirtual 373, 3) := dk_182 1 117 (dk_at dksX6_equation_7 6 rfl rfl)
theorem dX6_equation_172 : decode cX6_equation 172 = .ok (.ifCond .ne 8, 3) := dk_154 0 8 (dk_at dksX6_equation_7 9 rfl rfl)
theorem dX6_equation_175 : decode cX6_equation 175 = .ok (.aload_n 0, 1) := dk_42 (dk_at dksX6_equation_7 12 rfl rfl)
theorem dX6_equation_176 : decode cX6_equation 176 = .ok (.invokevirtual 301, 3) := dk_182 1 45 (dk_at dksX6_equation_7 13 rfl rfl)
theorem dX6_equation_179 : decode cX6_equation 179 = .ok (.athrow, 1) := dk_191 (dk_at dksX6_equation_7 16 rfl rfl)
theorem dX6_equation_180 : decode cX6_equation 180 = .ok (.aload_n 0, 1) := dk_42 (dk_at dksX6_equation_7 17 rfl rfl)
theorem dX6_equation_181 : decode cX6_equation 181 = .ok (.invokevirtual 394, 3) := dk_182 1 138 (dk_at dksX6_equation_7 18 rfl rfl)
theorem dX6_equation_184 : decode cX6_equation 184 = .ok (.istore_n 1, 1) := dk_60 (dk_at dksX6_equation_7 21 rfl rfl)
theorem dX6_equation_185 : decode cX6_equation 185 = .ok (.iload_n 1, 1) := dk_27 (dk_at dksX6_equation_7 22 rfl rfl)
theorem dX6_equation_186 : decode cX6_equation 186 = .ok (.ifCond .ge 16, 3) := dk_156 0 16 (dk_at dksX6_equation_8 0 rfl rfl)
theorem dX6_equation_189 : decode cX6_equation 189 = .ok (.new 296, 3) := dk_187 1 40 (dk_at dksX6_equation_8 3 rfl rfl)
theorem dX6_equation_192 : decode cX6_equation 192 = .ok (.dup, 1) := dk_89 (dk_at dksX6_equation_8 6 rfl rfl)
theorem dX6_equation_193 : decode cX6_equation 193 = .ok (.iconst 2, 1) := dk_5 (dk_at dksX6_equation_8 7 rfl rfl)
theorem dX6_equation_194 : decode cX6_equation 194 = .ok (.aload_n 0, 1) := dk_42 (dk_at dksX6_equation_8 8 rfl rfl)
theorem dX6_equation_195 : decode cX6_equation 195 = .ok (.getfield 33, 3) := dk_180 0 33 (dk_at dksX6_equation_8 9 rfl rfl)
theorem dX6_equation_198 : decode cX6_equation 198 = .ok (.invokespecial 298, 3) := dk_183 1 42 (dk_at dksX6_equation_8 12 rfl rfl)
theorem dX6_equation_201 : decode cX6_equation 201 = .ok (.athrow, 1) := dk_191 (dk_at dksX6_equation_8 15 rfl rfl)
theorem dX6_equation_202 : decode cX6_equation 202 = .ok (.aload_n 0, 1) := dk_42 (dk_at dksX6_equation_8 16 rfl rfl)
theorem dX6_equation_203 : decode cX6_equation 203 = .ok (.invokevirtual 305, 3) := dk_182 1 49 (dk_at dksX6_equation_8 17 rfl rfl)
theorem dX6_equation_206 : decode cX6_equation 206 = .ok (.aload_n 0, 1) := dk_42 (dk_at dksX6_equation_8 20 rfl rfl)
theorem dX6_equation_207 : decode cX6_equation 207 = .ok (.getfield 96, 3) := dk_180 0 96 (dk_at dksX6_equation_8 21 rfl rfl)
theorem dX6_equation_210 : decode cX6_equation 210 = .ok (.aload_n 0, 1) := dk_42 (dk_at dksX6_equation_9 0 rfl rfl)
theorem dX6_equation_211 : decode cX6_equation 211 = .ok (.getfield 106, 3) := dk_180 0 106 (dk_at dksX6_equation_9 1 rfl rfl)
theorem dX6_equation_214 : decode cX6_equation 214 = .ok (.aload_n 0, 1) := dk_42 (dk_at dksX6_equation_9 4 rfl rfl)
theorem dX6_equation_215 : decode cX6_equation 215 = .ok (.iload_n 1, 1) := dk_27 (dk_at dksX6_equation_9 5 rfl rfl)
theorem dX6_equation_216 : decode cX6_equation 216 = .ok (.iconst 0, 1) := dk_3 (dk_at dksX6_equation_9 6 rfl rfl)
theorem dX6_equation_217 : decode cX6_equation 217 = .ok (.invokevirtual 412, 3) := dk_182 1 156 (dk_at dksX6_equation_9 7 rfl rfl)
theorem dX6_equation_220 : decode cX6_equation 220 = .ok (.iastore, 1) := dk_79 (dk_at dksX6_equation_9 10 rfl rfl)
theorem dX6_equation_221 : decode cX6_equation 221 = .ok (.aload_n 0, 1) := dk_42 (dk_at dksX6_equation_9 11 rfl rfl)
theorem dX6_equation_222 : decode cX6_equation 222 = .ok (.bipush 59, 2) := dk_16 59 (dk_at dksX6_equation_9 12 rfl rfl)
theorem dX6_equation_224 : decode cX6_equation 224 = .ok (.invokevirtual 379, 3) := dk_182 1 123 (dk_at dksX6_equation_9 14 rfl rfl)
theorem dX6_equation_227 : decode cX6_equation 227 = .ok (.aload_n 0, 1) := dk_42 (dk_at dksX6_equation_9 17 rfl rfl)
theorem dX6_equation_228 : decode cX6_equation 228 = .ok (.dup, 1) := dk_89 (dk_at dksX6_equation_9 18 rfl rfl)
theorem dX6_equation_229 : decode cX6_equation 229 = .ok (.getfield 106, 3) := dk_180 0 106 (dk_at dksX6_equation_9 19 rfl rfl)
theorem dX6_equation_232 : decode cX6_equation 232 = .ok (.iconst 1, 1) := dk_4 (dk_at dksX6_equation_9 22 rfl rfl)
theorem dX6_equation_233 : decode cX6_equation 233 = .ok (.iadd, 1) := dk_96 (dk_at dksX6_equation_9 23 rfl rfl)
theorem dX6_equation_234 : decode cX6_equation 234 = .ok (.putfield 106, 3) := dk_181 0 106 (dk_at dksX6_equation_10 0 rfl rfl)
theorem dX6_equation_237 : decode cX6_equation 237 = .ok (.aload_n 0, 1) := dk_42 (dk_at dksX6_equation_10 3 rfl rfl)
theorem dX6_equation_238 : decode cX6_equation 238 = .ok (.getfield 93, 3) := dk_180 0 93 (dk_at dksX6_equation_10 4 rfl rfl)
theorem dX6_equation_241 : decode cX6_equation 241 = .ok (.aload_n 0, 1) := dk_42 (dk_at dksX6_equation_10 7 rfl rfl)
theorem dX6_equation_242 : decode cX6_equation 242 = .ok (.getfield 106, 3) := dk_180 0 106 (dk_at dksX6_equation_10 8 rfl rfl)
theorem dX6_equation_245 : decode cX6_equation 245 = .ok (.aload_n 0, 1) := dk_42 (dk_at dksX6_equation_10 11 rfl rfl)
theorem dX6_equation_246 : decode cX6_equation 246 = .ok (.getfield 109, 3) := dk_180 0 109 (dk_at dksX6_equation_10 12 rfl rfl)
theorem dX6_equation_249 : decode cX6_equation 249 = .ok (.iastore, 1) := dk_79 (dk_at dksX6_equation_10 15 rfl rfl)
theorem dX6_equation_250 : decode cX6_equation 250 = .ok (.return_, 1) := dk_177 (dk_at dksX6_equation_10 16 rfl rfl)
abbrev cX6_left : ByteArray := prog_26_method_27_code
def yX6_left : MethodName := ⟨RX6, "left", "()I"⟩
def dkwX6_left_3 : List UInt8 := [27, 42, 180, 0, 50, 42, 180, 0, 68, 46, 100, 172]
abbrev dktX6_left_3 : List UInt8 := dkwX6_left_3 ++ []
def dkwX6_left_2 : List UInt8 := [89, 5, 42, 180, 0, 33, 183, 1, 42, 191, 42, 182, 1, 49, 42, 180, 0, 83, 27, 92, 46, 4, 96, 79]
abbrev dktX6_left_2 : List UInt8 := dkwX6_left_2 ++ dktX6_left_3
def dkwX6_left_1 : List UInt8 := [180, 0, 50, 42, 180, 0, 68, 46, 42, 180, 0, 53, 42, 180, 0, 68, 46, 96, 162, 0, 16, 187, 1, 40]
abbrev dktX6_left_1 : List UInt8 := dkwX6_left_1 ++ dktX6_left_2
def dkwX6_left_0 : List UInt8 := [42, 182, 1, 117, 154, 0, 8, 42, 182, 1, 45, 191, 42, 42, 180, 0, 71, 182, 1, 120, 60, 27, 42]
abbrev dktX6_left_0 : List UInt8 := dkwX6_left_0 ++ dktX6_left_1
theorem dksX6_left_0 : cX6_left.data.toList.drop 0 = dktX6_left_0 := by decide +kernel
theorem dksX6_left_1 : cX6_left.data.toList.drop 23 = dktX6_left_1 := dk_seg dksX6_left_0 23 rfl rfl
theorem dksX6_left_2 : cX6_left.data.toList.drop 47 = dktX6_left_2 := dk_seg dksX6_left_1 24 rfl rfl
theorem dksX6_left_3 : cX6_left.data.toList.drop 71 = dktX6_left_3 := dk_seg dksX6_left_2 24 rfl rfl
theorem dX6_left_0 : decode cX6_left 0 = .ok (.aload_n 0, 1) := dk_42 (dk_at dksX6_left_0 0 rfl rfl)
theorem dX6_left_1 : decode cX6_left 1 = .ok (.invokevirtual 373, 3) := dk_182 1 117 (dk_at dksX6_left_0 1 rfl rfl)
theorem dX6_left_4 : decode cX6_left 4 = .ok (.ifCond .ne 8, 3) := dk_154 0 8 (dk_at dksX6_left_0 4 rfl rfl)
theorem dX6_left_7 : decode cX6_left 7 = .ok (.aload_n 0, 1) := dk_42 (dk_at dksX6_left_0 7 rfl rfl)
theorem dX6_left_8 : decode cX6_left 8 = .ok (.invokevirtual 301, 3) := dk_182 1 45 (dk_at dksX6_left_0 8 rfl rfl)
theorem dX6_left_11 : decode cX6_left 11 = .ok (.athrow, 1) := dk_191 (dk_at dksX6_left_0 11 rfl rfl)
theorem dX6_left_12 : decode cX6_left 12 = .ok (.aload_n 0, 1) := dk_42 (dk_at dksX6_left_0 12 rfl rfl)
theorem dX6_left_13 : decode cX6_left 13 = .ok (.aload_n 0, 1) := dk_42 (dk_at dksX6_left_0 13 rfl rfl)
theorem dX6_left_14 : decode cX6_left 14 = .ok (.getfield 71, 3) := dk_180 0 71 (dk_at dksX6_left_0 14 rfl rfl)
theorem dX6_left_17 : decode cX6_left 17 = .ok (.invokevirtual 376, 3) := dk_182 1 120 (dk_at dksX6_left_0 17 rfl rfl)
theorem dX6_left_20 : decode cX6_left 20 = .ok (.istore_n 1, 1) := dk_60 (dk_at dksX6_left_0 20 rfl rfl)
theorem dX6_left_21 : decode cX6_left 21 = .ok (.iload_n 1, 1) := dk_27 (dk_at dksX6_left_0 21 rfl rfl)
theorem dX6_left_22 : decode cX6_left 22 = .ok (.aload_n 0, 1) := dk_42 (dk_at dksX6_left_0 22 rfl rfl)
theorem dX6_left_23 : decode cX6_left 23 = .ok (.getfield 50, 3) := dk_180 0 50 (dk_at dksX6_left_1 0 rfl rfl)
theorem dX6_left_26 : decode cX6_left 26 = .ok (.aload_n 0, 1) := dk_42 (dk_at dksX6_left_1 3 rfl rfl)
theorem dX6_left_27 : decode cX6_left 27 = .ok (.getfield 68, 3) := dk_180 0 68 (dk_at dksX6_left_1 4 rfl rfl)
theorem dX6_left_30 : decode cX6_left 30 = .ok (.iaload, 1) := dk_46 (dk_at dksX6_left_1 7 rfl rfl)
theorem dX6_left_31 : decode cX6_left 31 = .ok (.aload_n 0, 1) := dk_42 (dk_at dksX6_left_1 8 rfl rfl)
theorem dX6_left_32 : decode cX6_left 32 = .ok (.getfield 53, 3) := dk_180 0 53 (dk_at dksX6_left_1 9 rfl rfl)
theorem dX6_left_35 : decode cX6_left 35 = .ok (.aload_n 0, 1) := dk_42 (dk_at dksX6_left_1 12 rfl rfl)
theorem dX6_left_36 : decode cX6_left 36 = .ok (.getfield 68, 3) := dk_180 0 68 (dk_at dksX6_left_1 13 rfl rfl)
theorem dX6_left_39 : decode cX6_left 39 = .ok (.iaload, 1) := dk_46 (dk_at dksX6_left_1 16 rfl rfl)
theorem dX6_left_40 : decode cX6_left 40 = .ok (.iadd, 1) := dk_96 (dk_at dksX6_left_1 17 rfl rfl)
theorem dX6_left_41 : decode cX6_left 41 = .ok (.if_icmp .ge 16, 3) := dk_162 0 16 (dk_at dksX6_left_1 18 rfl rfl)
theorem dX6_left_44 : decode cX6_left 44 = .ok (.new 296, 3) := dk_187 1 40 (dk_at dksX6_left_1 21 rfl rfl)
theorem dX6_left_47 : decode cX6_left 47 = .ok (.dup, 1) := dk_89 (dk_at dksX6_left_2 0 rfl rfl)
theorem dX6_left_48 : decode cX6_left 48 = .ok (.iconst 2, 1) := dk_5 (dk_at dksX6_left_2 1 rfl rfl)
theorem dX6_left_49 : decode cX6_left 49 = .ok (.aload_n 0, 1) := dk_42 (dk_at dksX6_left_2 2 rfl rfl)
theorem dX6_left_50 : decode cX6_left 50 = .ok (.getfield 33, 3) := dk_180 0 33 (dk_at dksX6_left_2 3 rfl rfl)
theorem dX6_left_53 : decode cX6_left 53 = .ok (.invokespecial 298, 3) := dk_183 1 42 (dk_at dksX6_left_2 6 rfl rfl)
theorem dX6_left_56 : decode cX6_left 56 = .ok (.athrow, 1) := dk_191 (dk_at dksX6_left_2 9 rfl rfl)
theorem dX6_left_57 : decode cX6_left 57 = .ok (.aload_n 0, 1) := dk_42 (dk_at dksX6_left_2 10 rfl rfl)
theorem dX6_left_58 : decode cX6_left 58 = .ok (.invokevirtual 305, 3) := dk_182 1 49 (dk_at dksX6_left_2 11 rfl rfl)
theorem dX6_left_61 : decode cX6_left 61 = .ok (.aload_n 0, 1) := dk_42 (dk_at dksX6_left_2 14 rfl rfl)
theorem dX6_left_62 : decode cX6_left 62 = .ok (.getfield 83, 3) := dk_180 0 83 (dk_at dksX6_left_2 15 rfl rfl)
theorem dX6_left_65 : decode cX6_left 65 = .ok (.iload_n 1, 1) := dk_27 (dk_at dksX6_left_2 18 rfl rfl)
theorem dX6_left_66 : decode cX6_left 66 = .ok (.dup2, 1) := dk_92 (dk_at dksX6_left_2 19 rfl rfl)
theorem dX6_left_67 : decode cX6_left 67 = .ok (.iaload, 1) := dk_46 (dk_at dksX6_left_2 20 rfl rfl)
theorem dX6_left_68 : decode cX6_left 68 = .ok (.iconst 1, 1) := dk_4 (dk_at dksX6_left_2 21 rfl rfl)
theorem dX6_left_69 : decode cX6_left 69 = .ok (.iadd, 1) := dk_96 (dk_at dksX6_left_2 22 rfl rfl)
theorem dX6_left_70 : decode cX6_left 70 = .ok (.iastore, 1) := dk_79 (dk_at dksX6_left_2 23 rfl rfl)
theorem dX6_left_71 : decode cX6_left 71 = .ok (.iload_n 1, 1) := dk_27 (dk_at dksX6_left_3 0 rfl rfl)
theorem dX6_left_72 : decode cX6_left 72 = .ok (.aload_n 0, 1) := dk_42 (dk_at dksX6_left_3 1 rfl rfl)
theorem dX6_left_73 : decode cX6_left 73 = .ok (.getfield 50, 3) := dk_180 0 50 (dk_at dksX6_left_3 2 rfl rfl)
theorem dX6_left_76 : decode cX6_left 76 = .ok (.aload_n 0, 1) := dk_42 (dk_at dksX6_left_3 5 rfl rfl)
theorem dX6_left_77 : decode cX6_left 77 = .ok (.getfield 68, 3) := dk_180 0 68 (dk_at dksX6_left_3 6 rfl rfl)
theorem dX6_left_80 : decode cX6_left 80 = .ok (.iaload, 1) := dk_46 (dk_at dksX6_left_3 9 rfl rfl)
theorem dX6_left_81 : decode cX6_left 81 = .ok (.isub, 1) := dk_100 (dk_at dksX6_left_3 10 rfl rfl)
theorem dX6_left_82 : decode cX6_left 82 = .ok (.ireturn, 1) := dk_172 (dk_at dksX6_left_3 11 rfl rfl)
abbrev cX6_expression : ByteArray := prog_26_method_32_code
def yX6_expression : MethodName := ⟨RX6, "expression", "(I)I"⟩
def dkwX6_expression_6 : List UInt8 := [27, 182, 1, 168, 182, 1, 153, 182, 1, 174, 172, 28, 172]
abbrev dktX6_expression_6 : List UInt8 := dkwX6_expression_6 ++ []
def dkwX6_expression_5 : List UInt8 := [182, 1, 174, 172, 42, 19, 1, 99, 182, 1, 61, 153, 0, 24, 42, 182, 1, 49, 42, 16, 6, 28, 42, 42]
abbrev dktX6_expression_5 : List UInt8 := dkwX6_expression_5 ++ dktX6_expression_6
def dkwX6_expression_4 : List UInt8 := [17, 1, 47, 160, 0, 23, 42, 182, 1, 49, 42, 8, 28, 42, 42, 27, 182, 1, 168, 182, 1, 153]
abbrev dktX6_expression_4 : List UInt8 := dkwX6_expression_4 ++ dktX6_expression_5
def dkwX6_expression_3 : List UInt8 := [182, 1, 153, 79, 42, 7, 3, 28, 4, 182, 1, 164, 172, 42, 27, 182, 1, 171, 61, 42, 182, 1, 36]
abbrev dktX6_expression_3 : List UInt8 := dkwX6_expression_3 ++ dktX6_expression_4
def dkwX6_expression_2 : List UInt8 := [19, 1, 93, 182, 1, 134, 42, 180, 0, 121, 42, 180, 0, 121, 28, 46, 42, 42, 27, 182, 1, 168]
abbrev dktX6_expression_2 : List UInt8 := dkwX6_expression_2 ++ dktX6_expression_3
def dkwX6_expression_1 : List UInt8 := [42, 19, 1, 91, 182, 1, 134, 42, 180, 0, 121, 28, 42, 42, 27, 182, 1, 168, 182, 1, 153, 79, 42]
abbrev dktX6_expression_1 : List UInt8 := dkwX6_expression_1 ++ dktX6_expression_2
def dkwX6_expression_0 : List UInt8 := [42, 19, 1, 89, 182, 1, 61, 153, 0, 75, 42, 182, 1, 49, 42, 42, 27, 182, 1, 168, 182, 1, 153, 61]
abbrev dktX6_expression_0 : List UInt8 := dkwX6_expression_0 ++ dktX6_expression_1
theorem dksX6_expression_0 : cX6_expression.data.toList.drop 0 = dktX6_expression_0 := by decide +kernel
theorem dksX6_expression_1 : cX6_expression.data.toList.drop 24 = dktX6_expression_1 := dk_seg dksX6_expression_0 24 rfl rfl
theorem dksX6_expression_2 : cX6_expression.data.toList.drop 47 = dktX6_expression_2 := dk_seg dksX6_expression_1 23 rfl rfl
theorem dksX6_expression_3 : cX6_expression.data.toList.drop 69 = dktX6_expression_3 := dk_seg dksX6_expression_2 22 rfl rfl
theorem dksX6_expression_4 : cX6_expression.data.toList.drop 92 = dktX6_expression_4 := dk_seg dksX6_expression_3 23 rfl rfl
theorem dksX6_expression_5 : cX6_expression.data.toList.drop 114 = dktX6_expression_5 := dk_seg dksX6_expression_4 22 rfl rfl
theorem dksX6_expression_6 : cX6_expression.data.toList.drop 138 = dktX6_expression_6 := dk_seg dksX6_expression_5 24 rfl rfl
theorem dX6_expression_0 : decode cX6_expression 0 = .ok (.aload_n 0, 1) := dk_42 (dk_at dksX6_expression_0 0 rfl rfl)
theorem dX6_expression_1 : decode cX6_expression 1 = .ok (.ldc_w 345, 3) := dk_19 1 89 (dk_at dksX6_expression_0 1 rfl rfl)
theorem dX6_expression_4 : decode cX6_expression 4 = .ok (.invokevirtual 317, 3) := dk_182 1 61 (dk_at dksX6_expression_0 4 rfl rfl)
theorem dX6_expression_7 : decode cX6_expression 7 = .ok (.ifCond .eq 75, 3) := dk_153 0 75 (dk_at dksX6_expression_0 7 rfl rfl)
theorem dX6_expression_10 : decode cX6_expression 10 = .ok (.aload_n 0, 1) := dk_42 (dk_at dksX6_expression_0 10 rfl rfl)
theorem dX6_expression_11 : decode cX6_expression 11 = .ok (.invokevirtual 305, 3) := dk_182 1 49 (dk_at dksX6_expression_0 11 rfl rfl)
theorem dX6_expression_14 : decode cX6_expression 14 = .ok (.aload_n 0, 1) := dk_42 (dk_at dksX6_expression_0 14 rfl rfl)
theorem dX6_expression_15 : decode cX6_expression 15 = .ok (.aload_n 0, 1) := dk_42 (dk_at dksX6_expression_0 15 rfl rfl)
theorem dX6_expression_16 : decode cX6_expression 16 = .ok (.iload_n 1, 1) := dk_27 (dk_at dksX6_expression_0 16 rfl rfl)
theorem dX6_expression_17 : decode cX6_expression 17 = .ok (.invokevirtual 424, 3) := dk_182 1 168 (dk_at dksX6_expression_0 17 rfl rfl)
theorem dX6_expression_20 : decode cX6_expression 20 = .ok (.invokevirtual 409, 3) := dk_182 1 153 (dk_at dksX6_expression_0 20 rfl rfl)
theorem dX6_expression_23 : decode cX6_expression 23 = .ok (.istore_n 2, 1) := dk_61 (dk_at dksX6_expression_0 23 rfl rfl)
theorem dX6_expression_24 : decode cX6_expression 24 = .ok (.aload_n 0, 1) := dk_42 (dk_at dksX6_expression_1 0 rfl rfl)
theorem dX6_expression_25 : decode cX6_expression 25 = .ok (.ldc_w 347, 3) := dk_19 1 91 (dk_at dksX6_expression_1 1 rfl rfl)
theorem dX6_expression_28 : decode cX6_expression 28 = .ok (.invokevirtual 390, 3) := dk_182 1 134 (dk_at dksX6_expression_1 4 rfl rfl)
theorem dX6_expression_31 : decode cX6_expression 31 = .ok (.aload_n 0, 1) := dk_42 (dk_at dksX6_expression_1 7 rfl rfl)
theorem dX6_expression_32 : decode cX6_expression 32 = .ok (.getfield 121, 3) := dk_180 0 121 (dk_at dksX6_expression_1 8 rfl rfl)
theorem dX6_expression_35 : decode cX6_expression 35 = .ok (.iload_n 2, 1) := dk_28 (dk_at dksX6_expression_1 11 rfl rfl)
theorem dX6_expression_36 : decode cX6_expression 36 = .ok (.aload_n 0, 1) := dk_42 (dk_at dksX6_expression_1 12 rfl rfl)
theorem dX6_expression_37 : decode cX6_expression 37 = .ok (.aload_n 0, 1) := dk_42 (dk_at dksX6_expression_1 13 rfl rfl)
theorem dX6_expression_38 : decode cX6_expression 38 = .ok (.iload_n 1, 1) := dk_27 (dk_at dksX6_expression_1 14 rfl rfl)
theorem dX6_expression_39 : decode cX6_expression 39 = .ok (.invokevirtual 424, 3) := dk_182 1 168 (dk_at dksX6_expression_1 15 rfl rfl)
theorem dX6_expression_42 : decode cX6_expression 42 = .ok (.invokevirtual 409, 3) := dk_182 1 153 (dk_at dksX6_expression_1 18 rfl rfl)
theorem dX6_expression_45 : decode cX6_expression 45 = .ok (.iastore, 1) := dk_79 (dk_at dksX6_expression_1 21 rfl rfl)
theorem dX6_expression_46 : decode cX6_expression 46 = .ok (.aload_n 0, 1) := dk_42 (dk_at dksX6_expression_1 22 rfl rfl)
theorem dX6_expression_47 : decode cX6_expression 47 = .ok (.ldc_w 349, 3) := dk_19 1 93 (dk_at dksX6_expression_2 0 rfl rfl)
theorem dX6_expression_50 : decode cX6_expression 50 = .ok (.invokevirtual 390, 3) := dk_182 1 134 (dk_at dksX6_expression_2 3 rfl rfl)
theorem dX6_expression_53 : decode cX6_expression 53 = .ok (.aload_n 0, 1) := dk_42 (dk_at dksX6_expression_2 6 rfl rfl)
theorem dX6_expression_54 : decode cX6_expression 54 = .ok (.getfield 121, 3) := dk_180 0 121 (dk_at dksX6_expression_2 7 rfl rfl)
theorem dX6_expression_57 : decode cX6_expression 57 = .ok (.aload_n 0, 1) := dk_42 (dk_at dksX6_expression_2 10 rfl rfl)
theorem dX6_expression_58 : decode cX6_expression 58 = .ok (.getfield 121, 3) := dk_180 0 121 (dk_at dksX6_expression_2 11 rfl rfl)
theorem dX6_expression_61 : decode cX6_expression 61 = .ok (.iload_n 2, 1) := dk_28 (dk_at dksX6_expression_2 14 rfl rfl)
theorem dX6_expression_62 : decode cX6_expression 62 = .ok (.iaload, 1) := dk_46 (dk_at dksX6_expression_2 15 rfl rfl)
theorem dX6_expression_63 : decode cX6_expression 63 = .ok (.aload_n 0, 1) := dk_42 (dk_at dksX6_expression_2 16 rfl rfl)
theorem dX6_expression_64 : decode cX6_expression 64 = .ok (.aload_n 0, 1) := dk_42 (dk_at dksX6_expression_2 17 rfl rfl)
theorem dX6_expression_65 : decode cX6_expression 65 = .ok (.iload_n 1, 1) := dk_27 (dk_at dksX6_expression_2 18 rfl rfl)
theorem dX6_expression_66 : decode cX6_expression 66 = .ok (.invokevirtual 424, 3) := dk_182 1 168 (dk_at dksX6_expression_2 19 rfl rfl)
theorem dX6_expression_69 : decode cX6_expression 69 = .ok (.invokevirtual 409, 3) := dk_182 1 153 (dk_at dksX6_expression_3 0 rfl rfl)
theorem dX6_expression_72 : decode cX6_expression 72 = .ok (.iastore, 1) := dk_79 (dk_at dksX6_expression_3 3 rfl rfl)
theorem dX6_expression_73 : decode cX6_expression 73 = .ok (.aload_n 0, 1) := dk_42 (dk_at dksX6_expression_3 4 rfl rfl)
theorem dX6_expression_74 : decode cX6_expression 74 = .ok (.iconst 4, 1) := dk_7 (dk_at dksX6_expression_3 5 rfl rfl)
theorem dX6_expression_75 : decode cX6_expression 75 = .ok (.iconst 0, 1) := dk_3 (dk_at dksX6_expression_3 6 rfl rfl)
theorem dX6_expression_76 : decode cX6_expression 76 = .ok (.iload_n 2, 1) := dk_28 (dk_at dksX6_expression_3 7 rfl rfl)
theorem dX6_expression_77 : decode cX6_expression 77 = .ok (.iconst 1, 1) := dk_4 (dk_at dksX6_expression_3 8 rfl rfl)
theorem dX6_expression_78 : decode cX6_expression 78 = .ok (.invokevirtual 420, 3) := dk_182 1 164 (dk_at dksX6_expression_3 9 rfl rfl)
theorem dX6_expression_81 : decode cX6_expression 81 = .ok (.ireturn, 1) := dk_172 (dk_at dksX6_expression_3 12 rfl rfl)
theorem dX6_expression_82 : decode cX6_expression 82 = .ok (.aload_n 0, 1) := dk_42 (dk_at dksX6_expression_3 13 rfl rfl)
theorem dX6_expression_83 : decode cX6_expression 83 = .ok (.iload_n 1, 1) := dk_27 (dk_at dksX6_expression_3 14 rfl rfl)
theorem dX6_expression_84 : decode cX6_expression 84 = .ok (.invokevirtual 427, 3) := dk_182 1 171 (dk_at dksX6_expression_3 15 rfl rfl)
theorem dX6_expression_87 : decode cX6_expression 87 = .ok (.istore_n 2, 1) := dk_61 (dk_at dksX6_expression_3 18 rfl rfl)
theorem dX6_expression_88 : decode cX6_expression 88 = .ok (.aload_n 0, 1) := dk_42 (dk_at dksX6_expression_3 19 rfl rfl)
theorem dX6_expression_89 : decode cX6_expression 89 = .ok (.invokevirtual 292, 3) := dk_182 1 36 (dk_at dksX6_expression_3 20 rfl rfl)
theorem dX6_expression_92 : decode cX6_expression 92 = .ok (.sipush 303, 3) := dk_17 1 47 (dk_at dksX6_expression_4 0 rfl rfl)
theorem dX6_expression_95 : decode cX6_expression 95 = .ok (.if_icmp .ne 23, 3) := dk_160 0 23 (dk_at dksX6_expression_4 3 rfl rfl)
theorem dX6_expression_98 : decode cX6_expression 98 = .ok (.aload_n 0, 1) := dk_42 (dk_at dksX6_expression_4 6 rfl rfl)
theorem dX6_expression_99 : decode cX6_expression 99 = .ok (.invokevirtual 305, 3) := dk_182 1 49 (dk_at dksX6_expression_4 7 rfl rfl)
theorem dX6_expression_102 : decode cX6_expression 102 = .ok (.aload_n 0, 1) := dk_42 (dk_at dksX6_expression_4 10 rfl rfl)
theorem dX6_expression_103 : decode cX6_expression 103 = .ok (.iconst 5, 1) := dk_8 (dk_at dksX6_expression_4 11 rfl rfl)
theorem dX6_expression_104 : decode cX6_expression 104 = .ok (.iload_n 2, 1) := dk_28 (dk_at dksX6_expression_4 12 rfl rfl)
theorem dX6_expression_105 : decode cX6_expression 105 = .ok (.aload_n 0, 1) := dk_42 (dk_at dksX6_expression_4 13 rfl rfl)
theorem dX6_expression_106 : decode cX6_expression 106 = .ok (.aload_n 0, 1) := dk_42 (dk_at dksX6_expression_4 14 rfl rfl)
theorem dX6_expression_107 : decode cX6_expression 107 = .ok (.iload_n 1, 1) := dk_27 (dk_at dksX6_expression_4 15 rfl rfl)
theorem dX6_expression_108 : decode cX6_expression 108 = .ok (.invokevirtual 424, 3) := dk_182 1 168 (dk_at dksX6_expression_4 16 rfl rfl)
theorem dX6_expression_111 : decode cX6_expression 111 = .ok (.invokevirtual 409, 3) := dk_182 1 153 (dk_at dksX6_expression_4 19 rfl rfl)
theorem dX6_expression_114 : decode cX6_expression 114 = .ok (.invokevirtual 430, 3) := dk_182 1 174 (dk_at dksX6_expression_5 0 rfl rfl)
theorem dX6_expression_117 : decode cX6_expression 117 = .ok (.ireturn, 1) := dk_172 (dk_at dksX6_expression_5 3 rfl rfl)
theorem dX6_expression_118 : decode cX6_expression 118 = .ok (.aload_n 0, 1) := dk_42 (dk_at dksX6_expression_5 4 rfl rfl)
theorem dX6_expression_119 : decode cX6_expression 119 = .ok (.ldc_w 355, 3) := dk_19 1 99 (dk_at dksX6_expression_5 5 rfl rfl)
theorem dX6_expression_122 : decode cX6_expression 122 = .ok (.invokevirtual 317, 3) := dk_182 1 61 (dk_at dksX6_expression_5 8 rfl rfl)
theorem dX6_expression_125 : decode cX6_expression 125 = .ok (.ifCond .eq 24, 3) := dk_153 0 24 (dk_at dksX6_expression_5 11 rfl rfl)
theorem dX6_expression_128 : decode cX6_expression 128 = .ok (.aload_n 0, 1) := dk_42 (dk_at dksX6_expression_5 14 rfl rfl)
theorem dX6_expression_129 : decode cX6_expression 129 = .ok (.invokevirtual 305, 3) := dk_182 1 49 (dk_at dksX6_expression_5 15 rfl rfl)
theorem dX6_expression_132 : decode cX6_expression 132 = .ok (.aload_n 0, 1) := dk_42 (dk_at dksX6_expression_5 18 rfl rfl)
theorem dX6_expression_133 : decode cX6_expression 133 = .ok (.bipush 6, 2) := dk_16 6 (dk_at dksX6_expression_5 19 rfl rfl)
theorem dX6_expression_135 : decode cX6_expression 135 = .ok (.iload_n 2, 1) := dk_28 (dk_at dksX6_expression_5 21 rfl rfl)
theorem dX6_expression_136 : decode cX6_expression 136 = .ok (.aload_n 0, 1) := dk_42 (dk_at dksX6_expression_5 22 rfl rfl)
theorem dX6_expression_137 : decode cX6_expression 137 = .ok (.aload_n 0, 1) := dk_42 (dk_at dksX6_expression_5 23 rfl rfl)
theorem dX6_expression_138 : decode cX6_expression 138 = .ok (.iload_n 1, 1) := dk_27 (dk_at dksX6_expression_6 0 rfl rfl)
theorem dX6_expression_139 : decode cX6_expression 139 = .ok (.invokevirtual 424, 3) := dk_182 1 168 (dk_at dksX6_expression_6 1 rfl rfl)
theorem dX6_expression_142 : decode cX6_expression 142 = .ok (.invokevirtual 409, 3) := dk_182 1 153 (dk_at dksX6_expression_6 4 rfl rfl)
theorem dX6_expression_145 : decode cX6_expression 145 = .ok (.invokevirtual 430, 3) := dk_182 1 174 (dk_at dksX6_expression_6 7 rfl rfl)
theorem dX6_expression_148 : decode cX6_expression 148 = .ok (.ireturn, 1) := dk_172 (dk_at dksX6_expression_6 10 rfl rfl)
theorem dX6_expression_149 : decode cX6_expression 149 = .ok (.iload_n 2, 1) := dk_28 (dk_at dksX6_expression_6 11 rfl rfl)
theorem dX6_expression_150 : decode cX6_expression 150 = .ok (.ireturn, 1) := dk_172 (dk_at dksX6_expression_6 12 rfl rfl)
abbrev cX6_nest : ByteArray := prog_26_method_19_code
def yX6_nest : MethodName := ⟨RX6, "nest", "(I)I"⟩
def dkwX6_nest_1 : List UInt8 := [183, 1, 42, 191]
abbrev dktX6_nest_1 : List UInt8 := dkwX6_nest_1 ++ []
def dkwX6_nest_0 : List UInt8 := [27, 16, 40, 162, 0, 7, 27, 4, 96, 172, 42, 182, 1, 36, 87, 187, 1, 40, 89, 6, 42, 180, 0, 33]
abbrev dktX6_nest_0 : List UInt8 := dkwX6_nest_0 ++ dktX6_nest_1
theorem dksX6_nest_0 : cX6_nest.data.toList.drop 0 = dktX6_nest_0 := by decide +kernel
theorem dksX6_nest_1 : cX6_nest.data.toList.drop 24 = dktX6_nest_1 := dk_seg dksX6_nest_0 24 rfl rfl
theorem dX6_nest_0 : decode cX6_nest 0 = .ok (.iload_n 1, 1) := dk_27 (dk_at dksX6_nest_0 0 rfl rfl)
theorem dX6_nest_1 : decode cX6_nest 1 = .ok (.bipush 40, 2) := dk_16 40 (dk_at dksX6_nest_0 1 rfl rfl)
theorem dX6_nest_3 : decode cX6_nest 3 = .ok (.if_icmp .ge 7, 3) := dk_162 0 7 (dk_at dksX6_nest_0 3 rfl rfl)
theorem dX6_nest_6 : decode cX6_nest 6 = .ok (.iload_n 1, 1) := dk_27 (dk_at dksX6_nest_0 6 rfl rfl)
theorem dX6_nest_7 : decode cX6_nest 7 = .ok (.iconst 1, 1) := dk_4 (dk_at dksX6_nest_0 7 rfl rfl)
theorem dX6_nest_8 : decode cX6_nest 8 = .ok (.iadd, 1) := dk_96 (dk_at dksX6_nest_0 8 rfl rfl)
theorem dX6_nest_9 : decode cX6_nest 9 = .ok (.ireturn, 1) := dk_172 (dk_at dksX6_nest_0 9 rfl rfl)
theorem dX6_nest_10 : decode cX6_nest 10 = .ok (.aload_n 0, 1) := dk_42 (dk_at dksX6_nest_0 10 rfl rfl)
theorem dX6_nest_11 : decode cX6_nest 11 = .ok (.invokevirtual 292, 3) := dk_182 1 36 (dk_at dksX6_nest_0 11 rfl rfl)
theorem dX6_nest_14 : decode cX6_nest 14 = .ok (.pop, 1) := dk_87 (dk_at dksX6_nest_0 14 rfl rfl)
theorem dX6_nest_15 : decode cX6_nest 15 = .ok (.new 296, 3) := dk_187 1 40 (dk_at dksX6_nest_0 15 rfl rfl)
theorem dX6_nest_18 : decode cX6_nest 18 = .ok (.dup, 1) := dk_89 (dk_at dksX6_nest_0 18 rfl rfl)
theorem dX6_nest_19 : decode cX6_nest 19 = .ok (.iconst 3, 1) := dk_6 (dk_at dksX6_nest_0 19 rfl rfl)
theorem dX6_nest_20 : decode cX6_nest 20 = .ok (.aload_n 0, 1) := dk_42 (dk_at dksX6_nest_0 20 rfl rfl)
theorem dX6_nest_21 : decode cX6_nest 21 = .ok (.getfield 33, 3) := dk_180 0 33 (dk_at dksX6_nest_0 21 rfl rfl)
theorem dX6_nest_24 : decode cX6_nest 24 = .ok (.invokespecial 298, 3) := dk_183 1 42 (dk_at dksX6_nest_1 0 rfl rfl)
theorem dX6_nest_27 : decode cX6_nest 27 = .ok (.athrow, 1) := dk_191 (dk_at dksX6_nest_1 3 rfl rfl)
abbrev cX6_make : ByteArray := prog_26_method_29_code
def yX6_make : MethodName := ⟨RX6, "make", "(IIII)I"⟩
def dkwX6_make_10 : List UInt8 := [79, 21, 5, 172]
abbrev dktX6_make_10 : List UInt8 := dkwX6_make_10 ++ []
def dkwX6_make_9 : List UInt8 := [21, 5, 42, 180, 0, 65, 42, 180, 0, 68, 46, 79, 42, 180, 0, 65, 42, 180, 0, 68, 92, 46, 5, 96]
abbrev dktX6_make_9 : List UInt8 := dkwX6_make_9 ++ dktX6_make_10
def dkwX6_make_8 : List UInt8 := [180, 0, 65, 42, 180, 0, 68, 92, 46, 91, 4, 96, 79, 79, 27, 16, 6, 160, 0, 32, 42, 180, 0, 127]
abbrev dktX6_make_8 : List UInt8 := dkwX6_make_8 ++ dktX6_make_9
def dkwX6_make_7 : List UInt8 := [27, 16, 24, 159, 0, 14, 27, 8, 159, 0, 9, 27, 16, 25, 160, 0, 24, 42, 180, 0, 127, 21, 5, 42]
abbrev dktX6_make_7 : List UInt8 := dkwX6_make_7 ++ dktX6_make_8
def dkwX6_make_6 : List UInt8 := [17, 0, 200, 164, 0, 21, 42, 182, 1, 36, 87, 187, 1, 40, 89, 6, 42, 180, 0, 33, 183, 1, 42, 191]
abbrev dktX6_make_6 : List UInt8 := dkwX6_make_6 ++ dktX6_make_7
def dkwX6_make_5 : List UInt8 := [184, 1, 159, 79, 42, 180, 0, 121, 21, 6, 46, 54, 6, 167, 255, 199, 42, 180, 0, 133, 21, 5, 46]
abbrev dktX6_make_5 : List UInt8 := dkwX6_make_5 ++ dktX6_make_6
def dkwX6_make_4 : List UInt8 := [96, 79, 42, 180, 0, 133, 21, 5, 42, 180, 0, 133, 21, 5, 46, 42, 180, 0, 133, 21, 6, 46, 4, 96]
abbrev dktX6_make_4 : List UInt8 := dkwX6_make_4 ++ dktX6_make_5
def dkwX6_make_3 : List UInt8 := [79, 29, 54, 6, 21, 6, 155, 0, 58, 42, 180, 0, 130, 21, 5, 92, 46, 42, 180, 0, 130, 21, 6, 46]
abbrev dktX6_make_3 : List UInt8 := dkwX6_make_3 ++ dktX6_make_4
def dkwX6_make_2 : List UInt8 := [180, 0, 124, 21, 5, 16, 254, 79, 42, 180, 0, 130, 21, 5, 21, 4, 79, 42, 180, 0, 133, 21, 5, 4]
abbrev dktX6_make_2 : List UInt8 := dkwX6_make_2 ++ dktX6_make_3
def dkwX6_make_1 : List UInt8 := [180, 0, 115, 21, 5, 28, 79, 42, 180, 0, 118, 21, 5, 29, 79, 42, 180, 0, 121, 21, 5, 2, 79, 42]
abbrev dktX6_make_1 : List UInt8 := dkwX6_make_1 ++ dktX6_make_2
def dkwX6_make_0 : List UInt8 := [42, 89, 180, 0, 136, 90, 4, 96, 181, 0, 136, 54, 5, 42, 180, 0, 112, 21, 5, 27, 79, 42]
abbrev dktX6_make_0 : List UInt8 := dkwX6_make_0 ++ dktX6_make_1
theorem dksX6_make_0 : cX6_make.data.toList.drop 0 = dktX6_make_0 := by decide +kernel
theorem dksX6_make_1 : cX6_make.data.toList.drop 22 = dktX6_make_1 := dk_seg dksX6_make_0 22 rfl rfl
theorem dksX6_make_2 : cX6_make.data.toList.drop 46 = dktX6_make_2 := dk_seg dksX6_make_1 24 rfl rfl
theorem dksX6_make_3 : cX6_make.data.toList.drop 70 = dktX6_make_3 := dk_seg dksX6_make_2 24 rfl rfl
theorem dksX6_make_4 : cX6_make.data.toList.drop 94 = dktX6_make_4 := dk_seg dksX6_make_3 24 rfl rfl
theorem dksX6_make_5 : cX6_make.data.toList.drop 118 = dktX6_make_5 := dk_seg dksX6_make_4 24 rfl rfl
theorem dksX6_make_6 : cX6_make.data.toList.drop 141 = dktX6_make_6 := dk_seg dksX6_make_5 23 rfl rfl
theorem dksX6_make_7 : cX6_make.data.toList.drop 165 = dktX6_make_7 := dk_seg dksX6_make_6 24 rfl rfl
theorem dksX6_make_8 : cX6_make.data.toList.drop 189 = dktX6_make_8 := dk_seg dksX6_make_7 24 rfl rfl
theorem dksX6_make_9 : cX6_make.data.toList.drop 213 = dktX6_make_9 := dk_seg dksX6_make_8 24 rfl rfl
theorem dksX6_make_10 : cX6_make.data.toList.drop 237 = dktX6_make_10 := dk_seg dksX6_make_9 24 rfl rfl
theorem dX6_make_0 : decode cX6_make 0 = .ok (.aload_n 0, 1) := dk_42 (dk_at dksX6_make_0 0 rfl rfl)
theorem dX6_make_1 : decode cX6_make 1 = .ok (.dup, 1) := dk_89 (dk_at dksX6_make_0 1 rfl rfl)
theorem dX6_make_2 : decode cX6_make 2 = .ok (.getfield 136, 3) := dk_180 0 136 (dk_at dksX6_make_0 2 rfl rfl)
theorem dX6_make_5 : decode cX6_make 5 = .ok (.dup_x1, 1) := dk_90 (dk_at dksX6_make_0 5 rfl rfl)
theorem dX6_make_6 : decode cX6_make 6 = .ok (.iconst 1, 1) := dk_4 (dk_at dksX6_make_0 6 rfl rfl)
theorem dX6_make_7 : decode cX6_make 7 = .ok (.iadd, 1) := dk_96 (dk_at dksX6_make_0 7 rfl rfl)
theorem dX6_make_8 : decode cX6_make 8 = .ok (.putfield 136, 3) := dk_181 0 136 (dk_at dksX6_make_0 8 rfl rfl)
theorem dX6_make_11 : decode cX6_make 11 = .ok (.istore 5, 2) := dk_54 5 (dk_at dksX6_make_0 11 rfl rfl)
theorem dX6_make_13 : decode cX6_make 13 = .ok (.aload_n 0, 1) := dk_42 (dk_at dksX6_make_0 13 rfl rfl)
theorem dX6_make_14 : decode cX6_make 14 = .ok (.getfield 112, 3) := dk_180 0 112 (dk_at dksX6_make_0 14 rfl rfl)
theorem dX6_make_17 : decode cX6_make 17 = .ok (.iload 5, 2) := dk_21 5 (dk_at dksX6_make_0 17 rfl rfl)
theorem dX6_make_19 : decode cX6_make 19 = .ok (.iload_n 1, 1) := dk_27 (dk_at dksX6_make_0 19 rfl rfl)
theorem dX6_make_20 : decode cX6_make 20 = .ok (.iastore, 1) := dk_79 (dk_at dksX6_make_0 20 rfl rfl)
theorem dX6_make_21 : decode cX6_make 21 = .ok (.aload_n 0, 1) := dk_42 (dk_at dksX6_make_0 21 rfl rfl)
theorem dX6_make_22 : decode cX6_make 22 = .ok (.getfield 115, 3) := dk_180 0 115 (dk_at dksX6_make_1 0 rfl rfl)
theorem dX6_make_25 : decode cX6_make 25 = .ok (.iload 5, 2) := dk_21 5 (dk_at dksX6_make_1 3 rfl rfl)
theorem dX6_make_27 : decode cX6_make 27 = .ok (.iload_n 2, 1) := dk_28 (dk_at dksX6_make_1 5 rfl rfl)
theorem dX6_make_28 : decode cX6_make 28 = .ok (.iastore, 1) := dk_79 (dk_at dksX6_make_1 6 rfl rfl)
theorem dX6_make_29 : decode cX6_make 29 = .ok (.aload_n 0, 1) := dk_42 (dk_at dksX6_make_1 7 rfl rfl)
theorem dX6_make_30 : decode cX6_make 30 = .ok (.getfield 118, 3) := dk_180 0 118 (dk_at dksX6_make_1 8 rfl rfl)
theorem dX6_make_33 : decode cX6_make 33 = .ok (.iload 5, 2) := dk_21 5 (dk_at dksX6_make_1 11 rfl rfl)
theorem dX6_make_35 : decode cX6_make 35 = .ok (.iload_n 3, 1) := dk_29 (dk_at dksX6_make_1 13 rfl rfl)
theorem dX6_make_36 : decode cX6_make 36 = .ok (.iastore, 1) := dk_79 (dk_at dksX6_make_1 14 rfl rfl)
theorem dX6_make_37 : decode cX6_make 37 = .ok (.aload_n 0, 1) := dk_42 (dk_at dksX6_make_1 15 rfl rfl)
theorem dX6_make_38 : decode cX6_make 38 = .ok (.getfield 121, 3) := dk_180 0 121 (dk_at dksX6_make_1 16 rfl rfl)
theorem dX6_make_41 : decode cX6_make 41 = .ok (.iload 5, 2) := dk_21 5 (dk_at dksX6_make_1 19 rfl rfl)
theorem dX6_make_43 : decode cX6_make 43 = .ok (.iconst (-1), 1) := dk_2 (dk_at dksX6_make_1 21 rfl rfl)
theorem dX6_make_44 : decode cX6_make 44 = .ok (.iastore, 1) := dk_79 (dk_at dksX6_make_1 22 rfl rfl)
theorem dX6_make_45 : decode cX6_make 45 = .ok (.aload_n 0, 1) := dk_42 (dk_at dksX6_make_1 23 rfl rfl)
theorem dX6_make_46 : decode cX6_make 46 = .ok (.getfield 124, 3) := dk_180 0 124 (dk_at dksX6_make_2 0 rfl rfl)
theorem dX6_make_49 : decode cX6_make 49 = .ok (.iload 5, 2) := dk_21 5 (dk_at dksX6_make_2 3 rfl rfl)
theorem dX6_make_51 : decode cX6_make 51 = .ok (.bipush (-2), 2) := dk_16 254 (dk_at dksX6_make_2 5 rfl rfl)
theorem dX6_make_53 : decode cX6_make 53 = .ok (.iastore, 1) := dk_79 (dk_at dksX6_make_2 7 rfl rfl)
theorem dX6_make_54 : decode cX6_make 54 = .ok (.aload_n 0, 1) := dk_42 (dk_at dksX6_make_2 8 rfl rfl)
theorem dX6_make_55 : decode cX6_make 55 = .ok (.getfield 130, 3) := dk_180 0 130 (dk_at dksX6_make_2 9 rfl rfl)
theorem dX6_make_58 : decode cX6_make 58 = .ok (.iload 5, 2) := dk_21 5 (dk_at dksX6_make_2 12 rfl rfl)
theorem dX6_make_60 : decode cX6_make 60 = .ok (.iload 4, 2) := dk_21 4 (dk_at dksX6_make_2 14 rfl rfl)
theorem dX6_make_62 : decode cX6_make 62 = .ok (.iastore, 1) := dk_79 (dk_at dksX6_make_2 16 rfl rfl)
theorem dX6_make_63 : decode cX6_make 63 = .ok (.aload_n 0, 1) := dk_42 (dk_at dksX6_make_2 17 rfl rfl)
theorem dX6_make_64 : decode cX6_make 64 = .ok (.getfield 133, 3) := dk_180 0 133 (dk_at dksX6_make_2 18 rfl rfl)
theorem dX6_make_67 : decode cX6_make 67 = .ok (.iload 5, 2) := dk_21 5 (dk_at dksX6_make_2 21 rfl rfl)
theorem dX6_make_69 : decode cX6_make 69 = .ok (.iconst 1, 1) := dk_4 (dk_at dksX6_make_2 23 rfl rfl)
theorem dX6_make_70 : decode cX6_make 70 = .ok (.iastore, 1) := dk_79 (dk_at dksX6_make_3 0 rfl rfl)
theorem dX6_make_71 : decode cX6_make 71 = .ok (.iload_n 3, 1) := dk_29 (dk_at dksX6_make_3 1 rfl rfl)
theorem dX6_make_72 : decode cX6_make 72 = .ok (.istore 6, 2) := dk_54 6 (dk_at dksX6_make_3 2 rfl rfl)
theorem dX6_make_74 : decode cX6_make 74 = .ok (.iload 6, 2) := dk_21 6 (dk_at dksX6_make_3 4 rfl rfl)
theorem dX6_make_76 : decode cX6_make 76 = .ok (.ifCond .lt 58, 3) := dk_155 0 58 (dk_at dksX6_make_3 6 rfl rfl)
theorem dX6_make_79 : decode cX6_make 79 = .ok (.aload_n 0, 1) := dk_42 (dk_at dksX6_make_3 9 rfl rfl)
theorem dX6_make_80 : decode cX6_make 80 = .ok (.getfield 130, 3) := dk_180 0 130 (dk_at dksX6_make_3 10 rfl rfl)
theorem dX6_make_83 : decode cX6_make 83 = .ok (.iload 5, 2) := dk_21 5 (dk_at dksX6_make_3 13 rfl rfl)
theorem dX6_make_85 : decode cX6_make 85 = .ok (.dup2, 1) := dk_92 (dk_at dksX6_make_3 15 rfl rfl)
theorem dX6_make_86 : decode cX6_make 86 = .ok (.iaload, 1) := dk_46 (dk_at dksX6_make_3 16 rfl rfl)
theorem dX6_make_87 : decode cX6_make 87 = .ok (.aload_n 0, 1) := dk_42 (dk_at dksX6_make_3 17 rfl rfl)
theorem dX6_make_88 : decode cX6_make 88 = .ok (.getfield 130, 3) := dk_180 0 130 (dk_at dksX6_make_3 18 rfl rfl)
theorem dX6_make_91 : decode cX6_make 91 = .ok (.iload 6, 2) := dk_21 6 (dk_at dksX6_make_3 21 rfl rfl)
theorem dX6_make_93 : decode cX6_make 93 = .ok (.iaload, 1) := dk_46 (dk_at dksX6_make_3 23 rfl rfl)
theorem dX6_make_94 : decode cX6_make 94 = .ok (.iadd, 1) := dk_96 (dk_at dksX6_make_4 0 rfl rfl)
theorem dX6_make_95 : decode cX6_make 95 = .ok (.iastore, 1) := dk_79 (dk_at dksX6_make_4 1 rfl rfl)
theorem dX6_make_96 : decode cX6_make 96 = .ok (.aload_n 0, 1) := dk_42 (dk_at dksX6_make_4 2 rfl rfl)
theorem dX6_make_97 : decode cX6_make 97 = .ok (.getfield 133, 3) := dk_180 0 133 (dk_at dksX6_make_4 3 rfl rfl)
theorem dX6_make_100 : decode cX6_make 100 = .ok (.iload 5, 2) := dk_21 5 (dk_at dksX6_make_4 6 rfl rfl)
theorem dX6_make_102 : decode cX6_make 102 = .ok (.aload_n 0, 1) := dk_42 (dk_at dksX6_make_4 8 rfl rfl)
theorem dX6_make_103 : decode cX6_make 103 = .ok (.getfield 133, 3) := dk_180 0 133 (dk_at dksX6_make_4 9 rfl rfl)
theorem dX6_make_106 : decode cX6_make 106 = .ok (.iload 5, 2) := dk_21 5 (dk_at dksX6_make_4 12 rfl rfl)
theorem dX6_make_108 : decode cX6_make 108 = .ok (.iaload, 1) := dk_46 (dk_at dksX6_make_4 14 rfl rfl)
theorem dX6_make_109 : decode cX6_make 109 = .ok (.aload_n 0, 1) := dk_42 (dk_at dksX6_make_4 15 rfl rfl)
theorem dX6_make_110 : decode cX6_make 110 = .ok (.getfield 133, 3) := dk_180 0 133 (dk_at dksX6_make_4 16 rfl rfl)
theorem dX6_make_113 : decode cX6_make 113 = .ok (.iload 6, 2) := dk_21 6 (dk_at dksX6_make_4 19 rfl rfl)
theorem dX6_make_115 : decode cX6_make 115 = .ok (.iaload, 1) := dk_46 (dk_at dksX6_make_4 21 rfl rfl)
theorem dX6_make_116 : decode cX6_make 116 = .ok (.iconst 1, 1) := dk_4 (dk_at dksX6_make_4 22 rfl rfl)
theorem dX6_make_117 : decode cX6_make 117 = .ok (.iadd, 1) := dk_96 (dk_at dksX6_make_4 23 rfl rfl)
theorem dX6_make_118 : decode cX6_make 118 = .ok (.invokestatic 415, 3) := dk_184 1 159 (dk_at dksX6_make_5 0 rfl rfl)
theorem dX6_make_121 : decode cX6_make 121 = .ok (.iastore, 1) := dk_79 (dk_at dksX6_make_5 3 rfl rfl)
theorem dX6_make_122 : decode cX6_make 122 = .ok (.aload_n 0, 1) := dk_42 (dk_at dksX6_make_5 4 rfl rfl)
theorem dX6_make_123 : decode cX6_make 123 = .ok (.getfield 121, 3) := dk_180 0 121 (dk_at dksX6_make_5 5 rfl rfl)
theorem dX6_make_126 : decode cX6_make 126 = .ok (.iload 6, 2) := dk_21 6 (dk_at dksX6_make_5 8 rfl rfl)
theorem dX6_make_128 : decode cX6_make 128 = .ok (.iaload, 1) := dk_46 (dk_at dksX6_make_5 10 rfl rfl)
theorem dX6_make_129 : decode cX6_make 129 = .ok (.istore 6, 2) := dk_54 6 (dk_at dksX6_make_5 11 rfl rfl)
theorem dX6_make_131 : decode cX6_make 131 = .ok (.goto (-57), 3) := dk_167 255 199 (dk_at dksX6_make_5 13 rfl rfl)
theorem dX6_make_134 : decode cX6_make 134 = .ok (.aload_n 0, 1) := dk_42 (dk_at dksX6_make_5 16 rfl rfl)
theorem dX6_make_135 : decode cX6_make 135 = .ok (.getfield 133, 3) := dk_180 0 133 (dk_at dksX6_make_5 17 rfl rfl)
theorem dX6_make_138 : decode cX6_make 138 = .ok (.iload 5, 2) := dk_21 5 (dk_at dksX6_make_5 20 rfl rfl)
theorem dX6_make_140 : decode cX6_make 140 = .ok (.iaload, 1) := dk_46 (dk_at dksX6_make_5 22 rfl rfl)
theorem dX6_make_141 : decode cX6_make 141 = .ok (.sipush 200, 3) := dk_17 0 200 (dk_at dksX6_make_6 0 rfl rfl)
theorem dX6_make_144 : decode cX6_make 144 = .ok (.if_icmp .le 21, 3) := dk_164 0 21 (dk_at dksX6_make_6 3 rfl rfl)
theorem dX6_make_147 : decode cX6_make 147 = .ok (.aload_n 0, 1) := dk_42 (dk_at dksX6_make_6 6 rfl rfl)
theorem dX6_make_148 : decode cX6_make 148 = .ok (.invokevirtual 292, 3) := dk_182 1 36 (dk_at dksX6_make_6 7 rfl rfl)
theorem dX6_make_151 : decode cX6_make 151 = .ok (.pop, 1) := dk_87 (dk_at dksX6_make_6 10 rfl rfl)
theorem dX6_make_152 : decode cX6_make 152 = .ok (.new 296, 3) := dk_187 1 40 (dk_at dksX6_make_6 11 rfl rfl)
theorem dX6_make_155 : decode cX6_make 155 = .ok (.dup, 1) := dk_89 (dk_at dksX6_make_6 14 rfl rfl)
theorem dX6_make_156 : decode cX6_make 156 = .ok (.iconst 3, 1) := dk_6 (dk_at dksX6_make_6 15 rfl rfl)
theorem dX6_make_157 : decode cX6_make 157 = .ok (.aload_n 0, 1) := dk_42 (dk_at dksX6_make_6 16 rfl rfl)
theorem dX6_make_158 : decode cX6_make 158 = .ok (.getfield 33, 3) := dk_180 0 33 (dk_at dksX6_make_6 17 rfl rfl)
theorem dX6_make_161 : decode cX6_make 161 = .ok (.invokespecial 298, 3) := dk_183 1 42 (dk_at dksX6_make_6 20 rfl rfl)
theorem dX6_make_164 : decode cX6_make 164 = .ok (.athrow, 1) := dk_191 (dk_at dksX6_make_6 23 rfl rfl)
theorem dX6_make_165 : decode cX6_make 165 = .ok (.iload_n 1, 1) := dk_27 (dk_at dksX6_make_7 0 rfl rfl)
theorem dX6_make_166 : decode cX6_make 166 = .ok (.bipush 24, 2) := dk_16 24 (dk_at dksX6_make_7 1 rfl rfl)
theorem dX6_make_168 : decode cX6_make 168 = .ok (.if_icmp .eq 14, 3) := dk_159 0 14 (dk_at dksX6_make_7 3 rfl rfl)
theorem dX6_make_171 : decode cX6_make 171 = .ok (.iload_n 1, 1) := dk_27 (dk_at dksX6_make_7 6 rfl rfl)
theorem dX6_make_172 : decode cX6_make 172 = .ok (.iconst 5, 1) := dk_8 (dk_at dksX6_make_7 7 rfl rfl)
theorem dX6_make_173 : decode cX6_make 173 = .ok (.if_icmp .eq 9, 3) := dk_159 0 9 (dk_at dksX6_make_7 8 rfl rfl)
theorem dX6_make_176 : decode cX6_make 176 = .ok (.iload_n 1, 1) := dk_27 (dk_at dksX6_make_7 11 rfl rfl)
theorem dX6_make_177 : decode cX6_make 177 = .ok (.bipush 25, 2) := dk_16 25 (dk_at dksX6_make_7 12 rfl rfl)
theorem dX6_make_179 : decode cX6_make 179 = .ok (.if_icmp .ne 24, 3) := dk_160 0 24 (dk_at dksX6_make_7 14 rfl rfl)
theorem dX6_make_182 : decode cX6_make 182 = .ok (.aload_n 0, 1) := dk_42 (dk_at dksX6_make_7 17 rfl rfl)
theorem dX6_make_183 : decode cX6_make 183 = .ok (.getfield 127, 3) := dk_180 0 127 (dk_at dksX6_make_7 18 rfl rfl)
theorem dX6_make_186 : decode cX6_make 186 = .ok (.iload 5, 2) := dk_21 5 (dk_at dksX6_make_7 21 rfl rfl)
theorem dX6_make_188 : decode cX6_make 188 = .ok (.aload_n 0, 1) := dk_42 (dk_at dksX6_make_7 23 rfl rfl)
theorem dX6_make_189 : decode cX6_make 189 = .ok (.getfield 65, 3) := dk_180 0 65 (dk_at dksX6_make_8 0 rfl rfl)
theorem dX6_make_192 : decode cX6_make 192 = .ok (.aload_n 0, 1) := dk_42 (dk_at dksX6_make_8 3 rfl rfl)
theorem dX6_make_193 : decode cX6_make 193 = .ok (.getfield 68, 3) := dk_180 0 68 (dk_at dksX6_make_8 4 rfl rfl)
theorem dX6_make_196 : decode cX6_make 196 = .ok (.dup2, 1) := dk_92 (dk_at dksX6_make_8 7 rfl rfl)
theorem dX6_make_197 : decode cX6_make 197 = .ok (.iaload, 1) := dk_46 (dk_at dksX6_make_8 8 rfl rfl)
theorem dX6_make_198 : decode cX6_make 198 = .ok (.dup_x2, 1) := dk_91 (dk_at dksX6_make_8 9 rfl rfl)
theorem dX6_make_199 : decode cX6_make 199 = .ok (.iconst 1, 1) := dk_4 (dk_at dksX6_make_8 10 rfl rfl)
theorem dX6_make_200 : decode cX6_make 200 = .ok (.iadd, 1) := dk_96 (dk_at dksX6_make_8 11 rfl rfl)
theorem dX6_make_201 : decode cX6_make 201 = .ok (.iastore, 1) := dk_79 (dk_at dksX6_make_8 12 rfl rfl)
theorem dX6_make_202 : decode cX6_make 202 = .ok (.iastore, 1) := dk_79 (dk_at dksX6_make_8 13 rfl rfl)
theorem dX6_make_203 : decode cX6_make 203 = .ok (.iload_n 1, 1) := dk_27 (dk_at dksX6_make_8 14 rfl rfl)
theorem dX6_make_204 : decode cX6_make 204 = .ok (.bipush 6, 2) := dk_16 6 (dk_at dksX6_make_8 15 rfl rfl)
theorem dX6_make_206 : decode cX6_make 206 = .ok (.if_icmp .ne 32, 3) := dk_160 0 32 (dk_at dksX6_make_8 17 rfl rfl)
theorem dX6_make_209 : decode cX6_make 209 = .ok (.aload_n 0, 1) := dk_42 (dk_at dksX6_make_8 20 rfl rfl)
theorem dX6_make_210 : decode cX6_make 210 = .ok (.getfield 127, 3) := dk_180 0 127 (dk_at dksX6_make_8 21 rfl rfl)
theorem dX6_make_213 : decode cX6_make 213 = .ok (.iload 5, 2) := dk_21 5 (dk_at dksX6_make_9 0 rfl rfl)
theorem dX6_make_215 : decode cX6_make 215 = .ok (.aload_n 0, 1) := dk_42 (dk_at dksX6_make_9 2 rfl rfl)
theorem dX6_make_216 : decode cX6_make 216 = .ok (.getfield 65, 3) := dk_180 0 65 (dk_at dksX6_make_9 3 rfl rfl)
theorem dX6_make_219 : decode cX6_make 219 = .ok (.aload_n 0, 1) := dk_42 (dk_at dksX6_make_9 6 rfl rfl)
theorem dX6_make_220 : decode cX6_make 220 = .ok (.getfield 68, 3) := dk_180 0 68 (dk_at dksX6_make_9 7 rfl rfl)
theorem dX6_make_223 : decode cX6_make 223 = .ok (.iaload, 1) := dk_46 (dk_at dksX6_make_9 10 rfl rfl)
theorem dX6_make_224 : decode cX6_make 224 = .ok (.iastore, 1) := dk_79 (dk_at dksX6_make_9 11 rfl rfl)
theorem dX6_make_225 : decode cX6_make 225 = .ok (.aload_n 0, 1) := dk_42 (dk_at dksX6_make_9 12 rfl rfl)
theorem dX6_make_226 : decode cX6_make 226 = .ok (.getfield 65, 3) := dk_180 0 65 (dk_at dksX6_make_9 13 rfl rfl)
theorem dX6_make_229 : decode cX6_make 229 = .ok (.aload_n 0, 1) := dk_42 (dk_at dksX6_make_9 16 rfl rfl)
theorem dX6_make_230 : decode cX6_make 230 = .ok (.getfield 68, 3) := dk_180 0 68 (dk_at dksX6_make_9 17 rfl rfl)
theorem dX6_make_233 : decode cX6_make 233 = .ok (.dup2, 1) := dk_92 (dk_at dksX6_make_9 20 rfl rfl)
theorem dX6_make_234 : decode cX6_make 234 = .ok (.iaload, 1) := dk_46 (dk_at dksX6_make_9 21 rfl rfl)
theorem dX6_make_235 : decode cX6_make 235 = .ok (.iconst 2, 1) := dk_5 (dk_at dksX6_make_9 22 rfl rfl)
theorem dX6_make_236 : decode cX6_make 236 = .ok (.iadd, 1) := dk_96 (dk_at dksX6_make_9 23 rfl rfl)
theorem dX6_make_237 : decode cX6_make 237 = .ok (.iastore, 1) := dk_79 (dk_at dksX6_make_10 0 rfl rfl)
theorem dX6_make_238 : decode cX6_make 238 = .ok (.iload 5, 2) := dk_21 5 (dk_at dksX6_make_10 1 rfl rfl)
theorem dX6_make_240 : decode cX6_make 240 = .ok (.ireturn, 1) := dk_172 (dk_at dksX6_make_10 3 rfl rfl)
abbrev cX6_implied : ByteArray := prog_26_method_33_code
def yX6_implied : MethodName := ⟨RX6, "implied", "(I)I"⟩
def dkwX6_implied_1 : List UInt8 := [16, 7, 28, 42, 42, 27, 182, 1, 168, 182, 1, 171, 182, 1, 174, 172]
abbrev dktX6_implied_1 : List UInt8 := dkwX6_implied_1 ++ []
def dkwX6_implied_0 : List UInt8 := [42, 27, 182, 1, 178, 61, 42, 182, 1, 36, 17, 1, 48, 159, 0, 5, 28, 172, 42, 182, 1, 49, 42]
abbrev dktX6_implied_0 : List UInt8 := dkwX6_implied_0 ++ dktX6_implied_1
theorem dksX6_implied_0 : cX6_implied.data.toList.drop 0 = dktX6_implied_0 := by decide +kernel
theorem dksX6_implied_1 : cX6_implied.data.toList.drop 23 = dktX6_implied_1 := dk_seg dksX6_implied_0 23 rfl rfl
theorem dX6_implied_0 : decode cX6_implied 0 = .ok (.aload_n 0, 1) := dk_42 (dk_at dksX6_implied_0 0 rfl rfl)
theorem dX6_implied_1 : decode cX6_implied 1 = .ok (.iload_n 1, 1) := dk_27 (dk_at dksX6_implied_0 1 rfl rfl)
theorem dX6_implied_2 : decode cX6_implied 2 = .ok (.invokevirtual 434, 3) := dk_182 1 178 (dk_at dksX6_implied_0 2 rfl rfl)
theorem dX6_implied_5 : decode cX6_implied 5 = .ok (.istore_n 2, 1) := dk_61 (dk_at dksX6_implied_0 5 rfl rfl)
theorem dX6_implied_6 : decode cX6_implied 6 = .ok (.aload_n 0, 1) := dk_42 (dk_at dksX6_implied_0 6 rfl rfl)
theorem dX6_implied_7 : decode cX6_implied 7 = .ok (.invokevirtual 292, 3) := dk_182 1 36 (dk_at dksX6_implied_0 7 rfl rfl)
theorem dX6_implied_10 : decode cX6_implied 10 = .ok (.sipush 304, 3) := dk_17 1 48 (dk_at dksX6_implied_0 10 rfl rfl)
theorem dX6_implied_13 : decode cX6_implied 13 = .ok (.if_icmp .eq 5, 3) := dk_159 0 5 (dk_at dksX6_implied_0 13 rfl rfl)
theorem dX6_implied_16 : decode cX6_implied 16 = .ok (.iload_n 2, 1) := dk_28 (dk_at dksX6_implied_0 16 rfl rfl)
theorem dX6_implied_17 : decode cX6_implied 17 = .ok (.ireturn, 1) := dk_172 (dk_at dksX6_implied_0 17 rfl rfl)
theorem dX6_implied_18 : decode cX6_implied 18 = .ok (.aload_n 0, 1) := dk_42 (dk_at dksX6_implied_0 18 rfl rfl)
theorem dX6_implied_19 : decode cX6_implied 19 = .ok (.invokevirtual 305, 3) := dk_182 1 49 (dk_at dksX6_implied_0 19 rfl rfl)
theorem dX6_implied_22 : decode cX6_implied 22 = .ok (.aload_n 0, 1) := dk_42 (dk_at dksX6_implied_0 22 rfl rfl)
theorem dX6_implied_23 : decode cX6_implied 23 = .ok (.bipush 7, 2) := dk_16 7 (dk_at dksX6_implied_1 0 rfl rfl)
theorem dX6_implied_25 : decode cX6_implied 25 = .ok (.iload_n 2, 1) := dk_28 (dk_at dksX6_implied_1 2 rfl rfl)
theorem dX6_implied_26 : decode cX6_implied 26 = .ok (.aload_n 0, 1) := dk_42 (dk_at dksX6_implied_1 3 rfl rfl)
theorem dX6_implied_27 : decode cX6_implied 27 = .ok (.aload_n 0, 1) := dk_42 (dk_at dksX6_implied_1 4 rfl rfl)
theorem dX6_implied_28 : decode cX6_implied 28 = .ok (.iload_n 1, 1) := dk_27 (dk_at dksX6_implied_1 5 rfl rfl)
theorem dX6_implied_29 : decode cX6_implied 29 = .ok (.invokevirtual 424, 3) := dk_182 1 168 (dk_at dksX6_implied_1 6 rfl rfl)
theorem dX6_implied_32 : decode cX6_implied 32 = .ok (.invokevirtual 427, 3) := dk_182 1 171 (dk_at dksX6_implied_1 9 rfl rfl)
theorem dX6_implied_35 : decode cX6_implied 35 = .ok (.invokevirtual 430, 3) := dk_182 1 174 (dk_at dksX6_implied_1 12 rfl rfl)
theorem dX6_implied_38 : decode cX6_implied 38 = .ok (.ireturn, 1) := dk_172 (dk_at dksX6_implied_1 15 rfl rfl)
abbrev cX6_either : ByteArray := prog_26_method_34_code
def yX6_either : MethodName := ⟨RX6, "either", "(I)I"⟩
def dkwX6_either_2 : List UInt8 := [182, 1, 49, 42, 27, 182, 1, 181, 54, 4, 42, 29, 28, 21, 4, 182, 1, 174, 61, 167, 255, 198, 28, 172]
abbrev dktX6_either_2 : List UInt8 := dkwX6_either_2 ++ []
def dkwX6_either_1 : List UInt8 := [153, 0, 44, 42, 19, 1, 85, 182, 1, 61, 153, 0, 8, 16, 8, 167, 0, 5, 16, 9, 62, 42]
abbrev dktX6_either_1 : List UInt8 := dkwX6_either_1 ++ dktX6_either_2
def dkwX6_either_0 : List UInt8 := [42, 27, 182, 1, 181, 61, 42, 19, 1, 85, 182, 1, 61, 154, 0, 13, 42, 19, 1, 87, 182, 1, 61]
abbrev dktX6_either_0 : List UInt8 := dkwX6_either_0 ++ dktX6_either_1
theorem dksX6_either_0 : cX6_either.data.toList.drop 0 = dktX6_either_0 := by decide +kernel
theorem dksX6_either_1 : cX6_either.data.toList.drop 23 = dktX6_either_1 := dk_seg dksX6_either_0 23 rfl rfl
theorem dksX6_either_2 : cX6_either.data.toList.drop 45 = dktX6_either_2 := dk_seg dksX6_either_1 22 rfl rfl
theorem dX6_either_0 : decode cX6_either 0 = .ok (.aload_n 0, 1) := dk_42 (dk_at dksX6_either_0 0 rfl rfl)
theorem dX6_either_1 : decode cX6_either 1 = .ok (.iload_n 1, 1) := dk_27 (dk_at dksX6_either_0 1 rfl rfl)
theorem dX6_either_2 : decode cX6_either 2 = .ok (.invokevirtual 437, 3) := dk_182 1 181 (dk_at dksX6_either_0 2 rfl rfl)
theorem dX6_either_5 : decode cX6_either 5 = .ok (.istore_n 2, 1) := dk_61 (dk_at dksX6_either_0 5 rfl rfl)
theorem dX6_either_6 : decode cX6_either 6 = .ok (.aload_n 0, 1) := dk_42 (dk_at dksX6_either_0 6 rfl rfl)
theorem dX6_either_7 : decode cX6_either 7 = .ok (.ldc_w 341, 3) := dk_19 1 85 (dk_at dksX6_either_0 7 rfl rfl)
theorem dX6_either_10 : decode cX6_either 10 = .ok (.invokevirtual 317, 3) := dk_182 1 61 (dk_at dksX6_either_0 10 rfl rfl)
theorem dX6_either_13 : decode cX6_either 13 = .ok (.ifCond .ne 13, 3) := dk_154 0 13 (dk_at dksX6_either_0 13 rfl rfl)
theorem dX6_either_16 : decode cX6_either 16 = .ok (.aload_n 0, 1) := dk_42 (dk_at dksX6_either_0 16 rfl rfl)
theorem dX6_either_17 : decode cX6_either 17 = .ok (.ldc_w 343, 3) := dk_19 1 87 (dk_at dksX6_either_0 17 rfl rfl)
theorem dX6_either_20 : decode cX6_either 20 = .ok (.invokevirtual 317, 3) := dk_182 1 61 (dk_at dksX6_either_0 20 rfl rfl)
theorem dX6_either_23 : decode cX6_either 23 = .ok (.ifCond .eq 44, 3) := dk_153 0 44 (dk_at dksX6_either_1 0 rfl rfl)
theorem dX6_either_26 : decode cX6_either 26 = .ok (.aload_n 0, 1) := dk_42 (dk_at dksX6_either_1 3 rfl rfl)
theorem dX6_either_27 : decode cX6_either 27 = .ok (.ldc_w 341, 3) := dk_19 1 85 (dk_at dksX6_either_1 4 rfl rfl)
theorem dX6_either_30 : decode cX6_either 30 = .ok (.invokevirtual 317, 3) := dk_182 1 61 (dk_at dksX6_either_1 7 rfl rfl)
theorem dX6_either_33 : decode cX6_either 33 = .ok (.ifCond .eq 8, 3) := dk_153 0 8 (dk_at dksX6_either_1 10 rfl rfl)
theorem dX6_either_36 : decode cX6_either 36 = .ok (.bipush 8, 2) := dk_16 8 (dk_at dksX6_either_1 13 rfl rfl)
theorem dX6_either_38 : decode cX6_either 38 = .ok (.goto 5, 3) := dk_167 0 5 (dk_at dksX6_either_1 15 rfl rfl)
theorem dX6_either_41 : decode cX6_either 41 = .ok (.bipush 9, 2) := dk_16 9 (dk_at dksX6_either_1 18 rfl rfl)
theorem dX6_either_43 : decode cX6_either 43 = .ok (.istore_n 3, 1) := dk_62 (dk_at dksX6_either_1 20 rfl rfl)
theorem dX6_either_44 : decode cX6_either 44 = .ok (.aload_n 0, 1) := dk_42 (dk_at dksX6_either_1 21 rfl rfl)
theorem dX6_either_45 : decode cX6_either 45 = .ok (.invokevirtual 305, 3) := dk_182 1 49 (dk_at dksX6_either_2 0 rfl rfl)
theorem dX6_either_48 : decode cX6_either 48 = .ok (.aload_n 0, 1) := dk_42 (dk_at dksX6_either_2 3 rfl rfl)
theorem dX6_either_49 : decode cX6_either 49 = .ok (.iload_n 1, 1) := dk_27 (dk_at dksX6_either_2 4 rfl rfl)
theorem dX6_either_50 : decode cX6_either 50 = .ok (.invokevirtual 437, 3) := dk_182 1 181 (dk_at dksX6_either_2 5 rfl rfl)
theorem dX6_either_53 : decode cX6_either 53 = .ok (.istore 4, 2) := dk_54 4 (dk_at dksX6_either_2 8 rfl rfl)
theorem dX6_either_55 : decode cX6_either 55 = .ok (.aload_n 0, 1) := dk_42 (dk_at dksX6_either_2 10 rfl rfl)
theorem dX6_either_56 : decode cX6_either 56 = .ok (.iload_n 3, 1) := dk_29 (dk_at dksX6_either_2 11 rfl rfl)
theorem dX6_either_57 : decode cX6_either 57 = .ok (.iload_n 2, 1) := dk_28 (dk_at dksX6_either_2 12 rfl rfl)
theorem dX6_either_58 : decode cX6_either 58 = .ok (.iload 4, 2) := dk_21 4 (dk_at dksX6_either_2 13 rfl rfl)
theorem dX6_either_60 : decode cX6_either 60 = .ok (.invokevirtual 430, 3) := dk_182 1 174 (dk_at dksX6_either_2 15 rfl rfl)
theorem dX6_either_63 : decode cX6_either 63 = .ok (.istore_n 2, 1) := dk_61 (dk_at dksX6_either_2 18 rfl rfl)
theorem dX6_either_64 : decode cX6_either 64 = .ok (.goto (-58), 3) := dk_167 255 198 (dk_at dksX6_either_2 19 rfl rfl)
theorem dX6_either_67 : decode cX6_either 67 = .ok (.iload_n 2, 1) := dk_28 (dk_at dksX6_either_2 22 rfl rfl)
theorem dX6_either_68 : decode cX6_either 68 = .ok (.ireturn, 1) := dk_172 (dk_at dksX6_either_2 23 rfl rfl)
abbrev cX6_both : ByteArray := prog_26_method_35_code
def yX6_both : MethodName := ⟨RX6, "both", "(I)I"⟩
def dkwX6_both_1 : List UInt8 := [182, 1, 184, 62, 42, 16, 10, 28, 29, 182, 1, 174, 61, 167, 255, 227, 28, 172]
abbrev dktX6_both_1 : List UInt8 := dkwX6_both_1 ++ []
def dkwX6_both_0 : List UInt8 := [42, 27, 182, 1, 184, 61, 42, 19, 1, 83, 182, 1, 61, 153, 0, 25, 42, 182, 1, 49, 42, 27]
abbrev dktX6_both_0 : List UInt8 := dkwX6_both_0 ++ dktX6_both_1
theorem dksX6_both_0 : cX6_both.data.toList.drop 0 = dktX6_both_0 := by decide +kernel
theorem dksX6_both_1 : cX6_both.data.toList.drop 22 = dktX6_both_1 := dk_seg dksX6_both_0 22 rfl rfl
theorem dX6_both_0 : decode cX6_both 0 = .ok (.aload_n 0, 1) := dk_42 (dk_at dksX6_both_0 0 rfl rfl)
theorem dX6_both_1 : decode cX6_both 1 = .ok (.iload_n 1, 1) := dk_27 (dk_at dksX6_both_0 1 rfl rfl)
theorem dX6_both_2 : decode cX6_both 2 = .ok (.invokevirtual 440, 3) := dk_182 1 184 (dk_at dksX6_both_0 2 rfl rfl)
theorem dX6_both_5 : decode cX6_both 5 = .ok (.istore_n 2, 1) := dk_61 (dk_at dksX6_both_0 5 rfl rfl)
theorem dX6_both_6 : decode cX6_both 6 = .ok (.aload_n 0, 1) := dk_42 (dk_at dksX6_both_0 6 rfl rfl)
theorem dX6_both_7 : decode cX6_both 7 = .ok (.ldc_w 339, 3) := dk_19 1 83 (dk_at dksX6_both_0 7 rfl rfl)
theorem dX6_both_10 : decode cX6_both 10 = .ok (.invokevirtual 317, 3) := dk_182 1 61 (dk_at dksX6_both_0 10 rfl rfl)
theorem dX6_both_13 : decode cX6_both 13 = .ok (.ifCond .eq 25, 3) := dk_153 0 25 (dk_at dksX6_both_0 13 rfl rfl)
theorem dX6_both_16 : decode cX6_both 16 = .ok (.aload_n 0, 1) := dk_42 (dk_at dksX6_both_0 16 rfl rfl)
theorem dX6_both_17 : decode cX6_both 17 = .ok (.invokevirtual 305, 3) := dk_182 1 49 (dk_at dksX6_both_0 17 rfl rfl)
theorem dX6_both_20 : decode cX6_both 20 = .ok (.aload_n 0, 1) := dk_42 (dk_at dksX6_both_0 20 rfl rfl)
theorem dX6_both_21 : decode cX6_both 21 = .ok (.iload_n 1, 1) := dk_27 (dk_at dksX6_both_0 21 rfl rfl)
theorem dX6_both_22 : decode cX6_both 22 = .ok (.invokevirtual 440, 3) := dk_182 1 184 (dk_at dksX6_both_1 0 rfl rfl)
theorem dX6_both_25 : decode cX6_both 25 = .ok (.istore_n 3, 1) := dk_62 (dk_at dksX6_both_1 3 rfl rfl)
theorem dX6_both_26 : decode cX6_both 26 = .ok (.aload_n 0, 1) := dk_42 (dk_at dksX6_both_1 4 rfl rfl)
theorem dX6_both_27 : decode cX6_both 27 = .ok (.bipush 10, 2) := dk_16 10 (dk_at dksX6_both_1 5 rfl rfl)
theorem dX6_both_29 : decode cX6_both 29 = .ok (.iload_n 2, 1) := dk_28 (dk_at dksX6_both_1 7 rfl rfl)
theorem dX6_both_30 : decode cX6_both 30 = .ok (.iload_n 3, 1) := dk_29 (dk_at dksX6_both_1 8 rfl rfl)
theorem dX6_both_31 : decode cX6_both 31 = .ok (.invokevirtual 430, 3) := dk_182 1 174 (dk_at dksX6_both_1 9 rfl rfl)
theorem dX6_both_34 : decode cX6_both 34 = .ok (.istore_n 2, 1) := dk_61 (dk_at dksX6_both_1 12 rfl rfl)
theorem dX6_both_35 : decode cX6_both 35 = .ok (.goto (-29), 3) := dk_167 255 227 (dk_at dksX6_both_1 13 rfl rfl)
theorem dX6_both_38 : decode cX6_both 38 = .ok (.iload_n 2, 1) := dk_28 (dk_at dksX6_both_1 16 rfl rfl)
theorem dX6_both_39 : decode cX6_both 39 = .ok (.ireturn, 1) := dk_172 (dk_at dksX6_both_1 17 rfl rfl)
abbrev cX6_compared : ByteArray := prog_26_method_36_code
def yX6_compared : MethodName := ⟨RX6, "compared", "(I)I"⟩
def dkwX6_compared_4 : List UInt8 := [182, 1, 49, 42, 27, 182, 1, 187, 54, 5, 42, 21, 4, 28, 21, 5, 182, 1, 174, 172]
abbrev dktX6_compared_4 : List UInt8 := dkwX6_compared_4 ++ []
def dkwX6_compared_3 : List UInt8 := [17, 1, 46, 160, 0, 8, 16, 16, 167, 0, 4, 3, 54, 4, 21, 4, 154, 0, 5, 28, 172, 42]
abbrev dktX6_compared_3 : List UInt8 := dkwX6_compared_3 ++ dktX6_compared_4
def dkwX6_compared_2 : List UInt8 := [17, 1, 45, 160, 0, 8, 16, 14, 167, 0, 27, 29, 16, 62, 160, 0, 8, 16, 15, 167, 0, 16, 29]
abbrev dktX6_compared_2 : List UInt8 := dkwX6_compared_2 ++ dktX6_compared_3
def dkwX6_compared_1 : List UInt8 := [17, 1, 44, 160, 0, 8, 16, 12, 167, 0, 50, 29, 16, 60, 160, 0, 8, 16, 13, 167, 0, 39, 29]
abbrev dktX6_compared_1 : List UInt8 := dkwX6_compared_1 ++ dktX6_compared_2
def dkwX6_compared_0 : List UInt8 := [42, 27, 182, 1, 187, 61, 42, 182, 1, 36, 62, 29, 16, 61, 160, 0, 8, 16, 11, 167, 0, 62, 29]
abbrev dktX6_compared_0 : List UInt8 := dkwX6_compared_0 ++ dktX6_compared_1
theorem dksX6_compared_0 : cX6_compared.data.toList.drop 0 = dktX6_compared_0 := by decide +kernel
theorem dksX6_compared_1 : cX6_compared.data.toList.drop 23 = dktX6_compared_1 := dk_seg dksX6_compared_0 23 rfl rfl
theorem dksX6_compared_2 : cX6_compared.data.toList.drop 46 = dktX6_compared_2 := dk_seg dksX6_compared_1 23 rfl rfl
theorem dksX6_compared_3 : cX6_compared.data.toList.drop 69 = dktX6_compared_3 := dk_seg dksX6_compared_2 23 rfl rfl
theorem dksX6_compared_4 : cX6_compared.data.toList.drop 91 = dktX6_compared_4 := dk_seg dksX6_compared_3 22 rfl rfl
theorem dX6_compared_0 : decode cX6_compared 0 = .ok (.aload_n 0, 1) := dk_42 (dk_at dksX6_compared_0 0 rfl rfl)
theorem dX6_compared_1 : decode cX6_compared 1 = .ok (.iload_n 1, 1) := dk_27 (dk_at dksX6_compared_0 1 rfl rfl)
theorem dX6_compared_2 : decode cX6_compared 2 = .ok (.invokevirtual 443, 3) := dk_182 1 187 (dk_at dksX6_compared_0 2 rfl rfl)
theorem dX6_compared_5 : decode cX6_compared 5 = .ok (.istore_n 2, 1) := dk_61 (dk_at dksX6_compared_0 5 rfl rfl)
theorem dX6_compared_6 : decode cX6_compared 6 = .ok (.aload_n 0, 1) := dk_42 (dk_at dksX6_compared_0 6 rfl rfl)
theorem dX6_compared_7 : decode cX6_compared 7 = .ok (.invokevirtual 292, 3) := dk_182 1 36 (dk_at dksX6_compared_0 7 rfl rfl)
theorem dX6_compared_10 : decode cX6_compared 10 = .ok (.istore_n 3, 1) := dk_62 (dk_at dksX6_compared_0 10 rfl rfl)
theorem dX6_compared_11 : decode cX6_compared 11 = .ok (.iload_n 3, 1) := dk_29 (dk_at dksX6_compared_0 11 rfl rfl)
theorem dX6_compared_12 : decode cX6_compared 12 = .ok (.bipush 61, 2) := dk_16 61 (dk_at dksX6_compared_0 12 rfl rfl)
theorem dX6_compared_14 : decode cX6_compared 14 = .ok (.if_icmp .ne 8, 3) := dk_160 0 8 (dk_at dksX6_compared_0 14 rfl rfl)
theorem dX6_compared_17 : decode cX6_compared 17 = .ok (.bipush 11, 2) := dk_16 11 (dk_at dksX6_compared_0 17 rfl rfl)
theorem dX6_compared_19 : decode cX6_compared 19 = .ok (.goto 62, 3) := dk_167 0 62 (dk_at dksX6_compared_0 19 rfl rfl)
theorem dX6_compared_22 : decode cX6_compared 22 = .ok (.iload_n 3, 1) := dk_29 (dk_at dksX6_compared_0 22 rfl rfl)
theorem dX6_compared_23 : decode cX6_compared 23 = .ok (.sipush 300, 3) := dk_17 1 44 (dk_at dksX6_compared_1 0 rfl rfl)
theorem dX6_compared_26 : decode cX6_compared 26 = .ok (.if_icmp .ne 8, 3) := dk_160 0 8 (dk_at dksX6_compared_1 3 rfl rfl)
theorem dX6_compared_29 : decode cX6_compared 29 = .ok (.bipush 12, 2) := dk_16 12 (dk_at dksX6_compared_1 6 rfl rfl)
theorem dX6_compared_31 : decode cX6_compared 31 = .ok (.goto 50, 3) := dk_167 0 50 (dk_at dksX6_compared_1 8 rfl rfl)
theorem dX6_compared_34 : decode cX6_compared 34 = .ok (.iload_n 3, 1) := dk_29 (dk_at dksX6_compared_1 11 rfl rfl)
theorem dX6_compared_35 : decode cX6_compared 35 = .ok (.bipush 60, 2) := dk_16 60 (dk_at dksX6_compared_1 12 rfl rfl)
theorem dX6_compared_37 : decode cX6_compared 37 = .ok (.if_icmp .ne 8, 3) := dk_160 0 8 (dk_at dksX6_compared_1 14 rfl rfl)
theorem dX6_compared_40 : decode cX6_compared 40 = .ok (.bipush 13, 2) := dk_16 13 (dk_at dksX6_compared_1 17 rfl rfl)
theorem dX6_compared_42 : decode cX6_compared 42 = .ok (.goto 39, 3) := dk_167 0 39 (dk_at dksX6_compared_1 19 rfl rfl)
theorem dX6_compared_45 : decode cX6_compared 45 = .ok (.iload_n 3, 1) := dk_29 (dk_at dksX6_compared_1 22 rfl rfl)
theorem dX6_compared_46 : decode cX6_compared 46 = .ok (.sipush 301, 3) := dk_17 1 45 (dk_at dksX6_compared_2 0 rfl rfl)
theorem dX6_compared_49 : decode cX6_compared 49 = .ok (.if_icmp .ne 8, 3) := dk_160 0 8 (dk_at dksX6_compared_2 3 rfl rfl)
theorem dX6_compared_52 : decode cX6_compared 52 = .ok (.bipush 14, 2) := dk_16 14 (dk_at dksX6_compared_2 6 rfl rfl)
theorem dX6_compared_54 : decode cX6_compared 54 = .ok (.goto 27, 3) := dk_167 0 27 (dk_at dksX6_compared_2 8 rfl rfl)
theorem dX6_compared_57 : decode cX6_compared 57 = .ok (.iload_n 3, 1) := dk_29 (dk_at dksX6_compared_2 11 rfl rfl)
theorem dX6_compared_58 : decode cX6_compared 58 = .ok (.bipush 62, 2) := dk_16 62 (dk_at dksX6_compared_2 12 rfl rfl)
theorem dX6_compared_60 : decode cX6_compared 60 = .ok (.if_icmp .ne 8, 3) := dk_160 0 8 (dk_at dksX6_compared_2 14 rfl rfl)
theorem dX6_compared_63 : decode cX6_compared 63 = .ok (.bipush 15, 2) := dk_16 15 (dk_at dksX6_compared_2 17 rfl rfl)
theorem dX6_compared_65 : decode cX6_compared 65 = .ok (.goto 16, 3) := dk_167 0 16 (dk_at dksX6_compared_2 19 rfl rfl)
theorem dX6_compared_68 : decode cX6_compared 68 = .ok (.iload_n 3, 1) := dk_29 (dk_at dksX6_compared_2 22 rfl rfl)
theorem dX6_compared_69 : decode cX6_compared 69 = .ok (.sipush 302, 3) := dk_17 1 46 (dk_at dksX6_compared_3 0 rfl rfl)
theorem dX6_compared_72 : decode cX6_compared 72 = .ok (.if_icmp .ne 8, 3) := dk_160 0 8 (dk_at dksX6_compared_3 3 rfl rfl)
theorem dX6_compared_75 : decode cX6_compared 75 = .ok (.bipush 16, 2) := dk_16 16 (dk_at dksX6_compared_3 6 rfl rfl)
theorem dX6_compared_77 : decode cX6_compared 77 = .ok (.goto 4, 3) := dk_167 0 4 (dk_at dksX6_compared_3 8 rfl rfl)
theorem dX6_compared_80 : decode cX6_compared 80 = .ok (.iconst 0, 1) := dk_3 (dk_at dksX6_compared_3 11 rfl rfl)
theorem dX6_compared_81 : decode cX6_compared 81 = .ok (.istore 4, 2) := dk_54 4 (dk_at dksX6_compared_3 12 rfl rfl)
theorem dX6_compared_83 : decode cX6_compared 83 = .ok (.iload 4, 2) := dk_21 4 (dk_at dksX6_compared_3 14 rfl rfl)
theorem dX6_compared_85 : decode cX6_compared 85 = .ok (.ifCond .ne 5, 3) := dk_154 0 5 (dk_at dksX6_compared_3 16 rfl rfl)
theorem dX6_compared_88 : decode cX6_compared 88 = .ok (.iload_n 2, 1) := dk_28 (dk_at dksX6_compared_3 19 rfl rfl)
theorem dX6_compared_89 : decode cX6_compared 89 = .ok (.ireturn, 1) := dk_172 (dk_at dksX6_compared_3 20 rfl rfl)
theorem dX6_compared_90 : decode cX6_compared 90 = .ok (.aload_n 0, 1) := dk_42 (dk_at dksX6_compared_3 21 rfl rfl)
theorem dX6_compared_91 : decode cX6_compared 91 = .ok (.invokevirtual 305, 3) := dk_182 1 49 (dk_at dksX6_compared_4 0 rfl rfl)
theorem dX6_compared_94 : decode cX6_compared 94 = .ok (.aload_n 0, 1) := dk_42 (dk_at dksX6_compared_4 3 rfl rfl)
theorem dX6_compared_95 : decode cX6_compared 95 = .ok (.iload_n 1, 1) := dk_27 (dk_at dksX6_compared_4 4 rfl rfl)
theorem dX6_compared_96 : decode cX6_compared 96 = .ok (.invokevirtual 443, 3) := dk_182 1 187 (dk_at dksX6_compared_4 5 rfl rfl)
theorem dX6_compared_99 : decode cX6_compared 99 = .ok (.istore 5, 2) := dk_54 5 (dk_at dksX6_compared_4 8 rfl rfl)
theorem dX6_compared_101 : decode cX6_compared 101 = .ok (.aload_n 0, 1) := dk_42 (dk_at dksX6_compared_4 10 rfl rfl)
theorem dX6_compared_102 : decode cX6_compared 102 = .ok (.iload 4, 2) := dk_21 4 (dk_at dksX6_compared_4 11 rfl rfl)
theorem dX6_compared_104 : decode cX6_compared 104 = .ok (.iload_n 2, 1) := dk_28 (dk_at dksX6_compared_4 13 rfl rfl)
theorem dX6_compared_105 : decode cX6_compared 105 = .ok (.iload 5, 2) := dk_21 5 (dk_at dksX6_compared_4 14 rfl rfl)
theorem dX6_compared_107 : decode cX6_compared 107 = .ok (.invokevirtual 430, 3) := dk_182 1 174 (dk_at dksX6_compared_4 16 rfl rfl)
theorem dX6_compared_110 : decode cX6_compared 110 = .ok (.ireturn, 1) := dk_172 (dk_at dksX6_compared_4 19 rfl rfl)
abbrev cX6_sum : ByteArray := prog_26_method_37_code
def yX6_sum : MethodName := ⟨RX6, "sum", "(I)I"⟩
def dkwX6_sum_2 : List UInt8 := [182, 1, 190, 54, 4, 42, 29, 28, 21, 4, 182, 1, 174, 61, 167, 255, 201, 28, 172]
abbrev dktX6_sum_2 : List UInt8 := dkwX6_sum_2 ++ []
def dkwX6_sum_1 : List UInt8 := [42, 182, 1, 36, 16, 43, 160, 0, 8, 16, 17, 167, 0, 5, 16, 18, 62, 42, 182, 1, 49, 42, 27]
abbrev dktX6_sum_1 : List UInt8 := dkwX6_sum_1 ++ dktX6_sum_2
def dkwX6_sum_0 : List UInt8 := [42, 27, 182, 1, 190, 61, 42, 182, 1, 36, 16, 43, 159, 0, 12, 42, 182, 1, 36, 16, 45, 160, 0, 43]
abbrev dktX6_sum_0 : List UInt8 := dkwX6_sum_0 ++ dktX6_sum_1
theorem dksX6_sum_0 : cX6_sum.data.toList.drop 0 = dktX6_sum_0 := by decide +kernel
theorem dksX6_sum_1 : cX6_sum.data.toList.drop 24 = dktX6_sum_1 := dk_seg dksX6_sum_0 24 rfl rfl
theorem dksX6_sum_2 : cX6_sum.data.toList.drop 47 = dktX6_sum_2 := dk_seg dksX6_sum_1 23 rfl rfl
theorem dX6_sum_0 : decode cX6_sum 0 = .ok (.aload_n 0, 1) := dk_42 (dk_at dksX6_sum_0 0 rfl rfl)
theorem dX6_sum_1 : decode cX6_sum 1 = .ok (.iload_n 1, 1) := dk_27 (dk_at dksX6_sum_0 1 rfl rfl)
theorem dX6_sum_2 : decode cX6_sum 2 = .ok (.invokevirtual 446, 3) := dk_182 1 190 (dk_at dksX6_sum_0 2 rfl rfl)
theorem dX6_sum_5 : decode cX6_sum 5 = .ok (.istore_n 2, 1) := dk_61 (dk_at dksX6_sum_0 5 rfl rfl)
theorem dX6_sum_6 : decode cX6_sum 6 = .ok (.aload_n 0, 1) := dk_42 (dk_at dksX6_sum_0 6 rfl rfl)
theorem dX6_sum_7 : decode cX6_sum 7 = .ok (.invokevirtual 292, 3) := dk_182 1 36 (dk_at dksX6_sum_0 7 rfl rfl)
theorem dX6_sum_10 : decode cX6_sum 10 = .ok (.bipush 43, 2) := dk_16 43 (dk_at dksX6_sum_0 10 rfl rfl)
theorem dX6_sum_12 : decode cX6_sum 12 = .ok (.if_icmp .eq 12, 3) := dk_159 0 12 (dk_at dksX6_sum_0 12 rfl rfl)
theorem dX6_sum_15 : decode cX6_sum 15 = .ok (.aload_n 0, 1) := dk_42 (dk_at dksX6_sum_0 15 rfl rfl)
theorem dX6_sum_16 : decode cX6_sum 16 = .ok (.invokevirtual 292, 3) := dk_182 1 36 (dk_at dksX6_sum_0 16 rfl rfl)
theorem dX6_sum_19 : decode cX6_sum 19 = .ok (.bipush 45, 2) := dk_16 45 (dk_at dksX6_sum_0 19 rfl rfl)
theorem dX6_sum_21 : decode cX6_sum 21 = .ok (.if_icmp .ne 43, 3) := dk_160 0 43 (dk_at dksX6_sum_0 21 rfl rfl)
theorem dX6_sum_24 : decode cX6_sum 24 = .ok (.aload_n 0, 1) := dk_42 (dk_at dksX6_sum_1 0 rfl rfl)
theorem dX6_sum_25 : decode cX6_sum 25 = .ok (.invokevirtual 292, 3) := dk_182 1 36 (dk_at dksX6_sum_1 1 rfl rfl)
theorem dX6_sum_28 : decode cX6_sum 28 = .ok (.bipush 43, 2) := dk_16 43 (dk_at dksX6_sum_1 4 rfl rfl)
theorem dX6_sum_30 : decode cX6_sum 30 = .ok (.if_icmp .ne 8, 3) := dk_160 0 8 (dk_at dksX6_sum_1 6 rfl rfl)
theorem dX6_sum_33 : decode cX6_sum 33 = .ok (.bipush 17, 2) := dk_16 17 (dk_at dksX6_sum_1 9 rfl rfl)
theorem dX6_sum_35 : decode cX6_sum 35 = .ok (.goto 5, 3) := dk_167 0 5 (dk_at dksX6_sum_1 11 rfl rfl)
theorem dX6_sum_38 : decode cX6_sum 38 = .ok (.bipush 18, 2) := dk_16 18 (dk_at dksX6_sum_1 14 rfl rfl)
theorem dX6_sum_40 : decode cX6_sum 40 = .ok (.istore_n 3, 1) := dk_62 (dk_at dksX6_sum_1 16 rfl rfl)
theorem dX6_sum_41 : decode cX6_sum 41 = .ok (.aload_n 0, 1) := dk_42 (dk_at dksX6_sum_1 17 rfl rfl)
theorem dX6_sum_42 : decode cX6_sum 42 = .ok (.invokevirtual 305, 3) := dk_182 1 49 (dk_at dksX6_sum_1 18 rfl rfl)
theorem dX6_sum_45 : decode cX6_sum 45 = .ok (.aload_n 0, 1) := dk_42 (dk_at dksX6_sum_1 21 rfl rfl)
theorem dX6_sum_46 : decode cX6_sum 46 = .ok (.iload_n 1, 1) := dk_27 (dk_at dksX6_sum_1 22 rfl rfl)
theorem dX6_sum_47 : decode cX6_sum 47 = .ok (.invokevirtual 446, 3) := dk_182 1 190 (dk_at dksX6_sum_2 0 rfl rfl)
theorem dX6_sum_50 : decode cX6_sum 50 = .ok (.istore 4, 2) := dk_54 4 (dk_at dksX6_sum_2 3 rfl rfl)
theorem dX6_sum_52 : decode cX6_sum 52 = .ok (.aload_n 0, 1) := dk_42 (dk_at dksX6_sum_2 5 rfl rfl)
theorem dX6_sum_53 : decode cX6_sum 53 = .ok (.iload_n 3, 1) := dk_29 (dk_at dksX6_sum_2 6 rfl rfl)
theorem dX6_sum_54 : decode cX6_sum 54 = .ok (.iload_n 2, 1) := dk_28 (dk_at dksX6_sum_2 7 rfl rfl)
theorem dX6_sum_55 : decode cX6_sum 55 = .ok (.iload 4, 2) := dk_21 4 (dk_at dksX6_sum_2 8 rfl rfl)
theorem dX6_sum_57 : decode cX6_sum 57 = .ok (.invokevirtual 430, 3) := dk_182 1 174 (dk_at dksX6_sum_2 10 rfl rfl)
theorem dX6_sum_60 : decode cX6_sum 60 = .ok (.istore_n 2, 1) := dk_61 (dk_at dksX6_sum_2 13 rfl rfl)
theorem dX6_sum_61 : decode cX6_sum 61 = .ok (.goto (-55), 3) := dk_167 255 201 (dk_at dksX6_sum_2 14 rfl rfl)
theorem dX6_sum_64 : decode cX6_sum 64 = .ok (.iload_n 2, 1) := dk_28 (dk_at dksX6_sum_2 17 rfl rfl)
theorem dX6_sum_65 : decode cX6_sum 65 = .ok (.ireturn, 1) := dk_172 (dk_at dksX6_sum_2 18 rfl rfl)
abbrev cX6_product : ByteArray := prog_26_method_38_code
def yX6_product : MethodName := ⟨RX6, "product", "(I)I"⟩
def dkwX6_product_3 : List UInt8 := [182, 1, 49, 42, 27, 182, 1, 193, 54, 4, 42, 29, 28, 21, 4, 182, 1, 174, 61, 167, 255, 175, 28, 172]
abbrev dktX6_product_3 : List UInt8 := dkwX6_product_3 ++ []
def dkwX6_product_2 : List UInt8 := [167, 0, 20, 42, 19, 1, 101, 182, 1, 61, 153, 0, 8, 16, 20, 167, 0, 5, 16, 21, 62, 42]
abbrev dktX6_product_2 : List UInt8 := dkwX6_product_2 ++ dktX6_product_3
def dkwX6_product_1 : List UInt8 := [154, 0, 13, 42, 19, 1, 103, 182, 1, 61, 153, 0, 58, 42, 182, 1, 36, 16, 42, 160, 0, 8, 16, 19]
abbrev dktX6_product_1 : List UInt8 := dkwX6_product_1 ++ dktX6_product_2
def dkwX6_product_0 : List UInt8 := [42, 27, 182, 1, 193, 61, 42, 182, 1, 36, 16, 42, 159, 0, 23, 42, 19, 1, 101, 182, 1, 61]
abbrev dktX6_product_0 : List UInt8 := dkwX6_product_0 ++ dktX6_product_1
theorem dksX6_product_0 : cX6_product.data.toList.drop 0 = dktX6_product_0 := by decide +kernel
theorem dksX6_product_1 : cX6_product.data.toList.drop 22 = dktX6_product_1 := dk_seg dksX6_product_0 22 rfl rfl
theorem dksX6_product_2 : cX6_product.data.toList.drop 46 = dktX6_product_2 := dk_seg dksX6_product_1 24 rfl rfl
theorem dksX6_product_3 : cX6_product.data.toList.drop 68 = dktX6_product_3 := dk_seg dksX6_product_2 22 rfl rfl
theorem dX6_product_0 : decode cX6_product 0 = .ok (.aload_n 0, 1) := dk_42 (dk_at dksX6_product_0 0 rfl rfl)
theorem dX6_product_1 : decode cX6_product 1 = .ok (.iload_n 1, 1) := dk_27 (dk_at dksX6_product_0 1 rfl rfl)
theorem dX6_product_2 : decode cX6_product 2 = .ok (.invokevirtual 449, 3) := dk_182 1 193 (dk_at dksX6_product_0 2 rfl rfl)
theorem dX6_product_5 : decode cX6_product 5 = .ok (.istore_n 2, 1) := dk_61 (dk_at dksX6_product_0 5 rfl rfl)
theorem dX6_product_6 : decode cX6_product 6 = .ok (.aload_n 0, 1) := dk_42 (dk_at dksX6_product_0 6 rfl rfl)
theorem dX6_product_7 : decode cX6_product 7 = .ok (.invokevirtual 292, 3) := dk_182 1 36 (dk_at dksX6_product_0 7 rfl rfl)
theorem dX6_product_10 : decode cX6_product 10 = .ok (.bipush 42, 2) := dk_16 42 (dk_at dksX6_product_0 10 rfl rfl)
theorem dX6_product_12 : decode cX6_product 12 = .ok (.if_icmp .eq 23, 3) := dk_159 0 23 (dk_at dksX6_product_0 12 rfl rfl)
theorem dX6_product_15 : decode cX6_product 15 = .ok (.aload_n 0, 1) := dk_42 (dk_at dksX6_product_0 15 rfl rfl)
theorem dX6_product_16 : decode cX6_product 16 = .ok (.ldc_w 357, 3) := dk_19 1 101 (dk_at dksX6_product_0 16 rfl rfl)
theorem dX6_product_19 : decode cX6_product 19 = .ok (.invokevirtual 317, 3) := dk_182 1 61 (dk_at dksX6_product_0 19 rfl rfl)
theorem dX6_product_22 : decode cX6_product 22 = .ok (.ifCond .ne 13, 3) := dk_154 0 13 (dk_at dksX6_product_1 0 rfl rfl)
theorem dX6_product_25 : decode cX6_product 25 = .ok (.aload_n 0, 1) := dk_42 (dk_at dksX6_product_1 3 rfl rfl)
theorem dX6_product_26 : decode cX6_product 26 = .ok (.ldc_w 359, 3) := dk_19 1 103 (dk_at dksX6_product_1 4 rfl rfl)
theorem dX6_product_29 : decode cX6_product 29 = .ok (.invokevirtual 317, 3) := dk_182 1 61 (dk_at dksX6_product_1 7 rfl rfl)
theorem dX6_product_32 : decode cX6_product 32 = .ok (.ifCond .eq 58, 3) := dk_153 0 58 (dk_at dksX6_product_1 10 rfl rfl)
theorem dX6_product_35 : decode cX6_product 35 = .ok (.aload_n 0, 1) := dk_42 (dk_at dksX6_product_1 13 rfl rfl)
theorem dX6_product_36 : decode cX6_product 36 = .ok (.invokevirtual 292, 3) := dk_182 1 36 (dk_at dksX6_product_1 14 rfl rfl)
theorem dX6_product_39 : decode cX6_product 39 = .ok (.bipush 42, 2) := dk_16 42 (dk_at dksX6_product_1 17 rfl rfl)
theorem dX6_product_41 : decode cX6_product 41 = .ok (.if_icmp .ne 8, 3) := dk_160 0 8 (dk_at dksX6_product_1 19 rfl rfl)
theorem dX6_product_44 : decode cX6_product 44 = .ok (.bipush 19, 2) := dk_16 19 (dk_at dksX6_product_1 22 rfl rfl)
theorem dX6_product_46 : decode cX6_product 46 = .ok (.goto 20, 3) := dk_167 0 20 (dk_at dksX6_product_2 0 rfl rfl)
theorem dX6_product_49 : decode cX6_product 49 = .ok (.aload_n 0, 1) := dk_42 (dk_at dksX6_product_2 3 rfl rfl)
theorem dX6_product_50 : decode cX6_product 50 = .ok (.ldc_w 357, 3) := dk_19 1 101 (dk_at dksX6_product_2 4 rfl rfl)
theorem dX6_product_53 : decode cX6_product 53 = .ok (.invokevirtual 317, 3) := dk_182 1 61 (dk_at dksX6_product_2 7 rfl rfl)
theorem dX6_product_56 : decode cX6_product 56 = .ok (.ifCond .eq 8, 3) := dk_153 0 8 (dk_at dksX6_product_2 10 rfl rfl)
theorem dX6_product_59 : decode cX6_product 59 = .ok (.bipush 20, 2) := dk_16 20 (dk_at dksX6_product_2 13 rfl rfl)
theorem dX6_product_61 : decode cX6_product 61 = .ok (.goto 5, 3) := dk_167 0 5 (dk_at dksX6_product_2 15 rfl rfl)
theorem dX6_product_64 : decode cX6_product 64 = .ok (.bipush 21, 2) := dk_16 21 (dk_at dksX6_product_2 18 rfl rfl)
theorem dX6_product_66 : decode cX6_product 66 = .ok (.istore_n 3, 1) := dk_62 (dk_at dksX6_product_2 20 rfl rfl)
theorem dX6_product_67 : decode cX6_product 67 = .ok (.aload_n 0, 1) := dk_42 (dk_at dksX6_product_2 21 rfl rfl)
theorem dX6_product_68 : decode cX6_product 68 = .ok (.invokevirtual 305, 3) := dk_182 1 49 (dk_at dksX6_product_3 0 rfl rfl)
theorem dX6_product_71 : decode cX6_product 71 = .ok (.aload_n 0, 1) := dk_42 (dk_at dksX6_product_3 3 rfl rfl)
theorem dX6_product_72 : decode cX6_product 72 = .ok (.iload_n 1, 1) := dk_27 (dk_at dksX6_product_3 4 rfl rfl)
theorem dX6_product_73 : decode cX6_product 73 = .ok (.invokevirtual 449, 3) := dk_182 1 193 (dk_at dksX6_product_3 5 rfl rfl)
theorem dX6_product_76 : decode cX6_product 76 = .ok (.istore 4, 2) := dk_54 4 (dk_at dksX6_product_3 8 rfl rfl)
theorem dX6_product_78 : decode cX6_product 78 = .ok (.aload_n 0, 1) := dk_42 (dk_at dksX6_product_3 10 rfl rfl)
theorem dX6_product_79 : decode cX6_product 79 = .ok (.iload_n 3, 1) := dk_29 (dk_at dksX6_product_3 11 rfl rfl)
theorem dX6_product_80 : decode cX6_product 80 = .ok (.iload_n 2, 1) := dk_28 (dk_at dksX6_product_3 12 rfl rfl)
theorem dX6_product_81 : decode cX6_product 81 = .ok (.iload 4, 2) := dk_21 4 (dk_at dksX6_product_3 13 rfl rfl)
theorem dX6_product_83 : decode cX6_product 83 = .ok (.invokevirtual 430, 3) := dk_182 1 174 (dk_at dksX6_product_3 15 rfl rfl)
theorem dX6_product_86 : decode cX6_product 86 = .ok (.istore_n 2, 1) := dk_61 (dk_at dksX6_product_3 18 rfl rfl)
theorem dX6_product_87 : decode cX6_product 87 = .ok (.goto (-81), 3) := dk_167 255 175 (dk_at dksX6_product_3 19 rfl rfl)
theorem dX6_product_90 : decode cX6_product 90 = .ok (.iload_n 2, 1) := dk_28 (dk_at dksX6_product_3 22 rfl rfl)
theorem dX6_product_91 : decode cX6_product 91 = .ok (.ireturn, 1) := dk_172 (dk_at dksX6_product_3 23 rfl rfl)
abbrev cX6_unary : ByteArray := prog_26_method_39_code
def yX6_unary : MethodName := ⟨RX6, "unary", "(I)I"⟩
def dkwX6_unary_9 : List UInt8 := [182, 1, 164, 62, 167, 255, 130, 29, 172]
abbrev dktX6_unary_9 : List UInt8 := dkwX6_unary_9 ++ []
def dkwX6_unary_8 : List UInt8 := [180, 0, 50, 42, 180, 0, 68, 46, 100, 104, 21, 4, 153, 0, 7, 3, 167, 0, 4, 4, 96, 29, 4]
abbrev dktX6_unary_8 : List UInt8 := dkwX6_unary_8 ++ dktX6_unary_9
def dkwX6_unary_7 : List UInt8 := [180, 0, 33, 183, 1, 42, 191, 42, 21, 5, 182, 1, 127, 42, 182, 1, 49, 42, 16, 26, 5, 21, 5, 42]
abbrev dktX6_unary_7 : List UInt8 := dkwX6_unary_7 ++ dktX6_unary_8
def dkwX6_unary_6 : List UInt8 := [54, 5, 21, 5, 155, 0, 13, 42, 180, 0, 86, 21, 5, 51, 154, 0, 16, 187, 1, 40, 89, 5, 42]
abbrev dktX6_unary_6 : List UInt8 := dkwX6_unary_6 ++ dktX6_unary_7
def dkwX6_unary_5 : List UInt8 := [42, 182, 1, 49, 42, 182, 1, 117, 154, 0, 8, 42, 182, 1, 45, 191, 42, 42, 180, 0, 71, 182, 1, 120]
abbrev dktX6_unary_5 : List UInt8 := dkwX6_unary_5 ++ dktX6_unary_6
def dkwX6_unary_4 : List UInt8 := [182, 1, 61, 153, 0, 122, 42, 182, 1, 49, 42, 19, 1, 81, 182, 1, 61, 54, 4, 21, 4, 153, 0, 7]
abbrev dktX6_unary_4 : List UInt8 := dkwX6_unary_4 ++ dktX6_unary_5
def dkwX6_unary_3 : List UInt8 := [42, 42, 27, 182, 1, 168, 182, 1, 193, 4, 182, 1, 164, 172, 42, 27, 182, 1, 196, 62, 42, 19, 1, 79]
abbrev dktX6_unary_3 : List UInt8 := dkwX6_unary_3 ++ dktX6_unary_4
def dkwX6_unary_2 : List UInt8 := [182, 1, 61, 153, 0, 8, 16, 25, 167, 0, 4, 3, 61, 28, 158, 0, 24, 42, 182, 1, 49, 42, 28, 3]
abbrev dktX6_unary_2 : List UInt8 := dkwX6_unary_2 ++ dktX6_unary_3
def dkwX6_unary_1 : List UInt8 := [16, 23, 167, 0, 34, 42, 19, 1, 95, 182, 1, 61, 153, 0, 8, 16, 24, 167, 0, 19, 42, 19, 1, 97]
abbrev dktX6_unary_1 : List UInt8 := dkwX6_unary_1 ++ dktX6_unary_2
def dkwX6_unary_0 : List UInt8 := [42, 182, 1, 36, 16, 45, 160, 0, 8, 16, 22, 167, 0, 49, 42, 19, 1, 81, 182, 1, 61, 153, 0, 8]
abbrev dktX6_unary_0 : List UInt8 := dkwX6_unary_0 ++ dktX6_unary_1
theorem dksX6_unary_0 : cX6_unary.data.toList.drop 0 = dktX6_unary_0 := by decide +kernel
theorem dksX6_unary_1 : cX6_unary.data.toList.drop 24 = dktX6_unary_1 := dk_seg dksX6_unary_0 24 rfl rfl
theorem dksX6_unary_2 : cX6_unary.data.toList.drop 48 = dktX6_unary_2 := dk_seg dksX6_unary_1 24 rfl rfl
theorem dksX6_unary_3 : cX6_unary.data.toList.drop 72 = dktX6_unary_3 := dk_seg dksX6_unary_2 24 rfl rfl
theorem dksX6_unary_4 : cX6_unary.data.toList.drop 96 = dktX6_unary_4 := dk_seg dksX6_unary_3 24 rfl rfl
theorem dksX6_unary_5 : cX6_unary.data.toList.drop 120 = dktX6_unary_5 := dk_seg dksX6_unary_4 24 rfl rfl
theorem dksX6_unary_6 : cX6_unary.data.toList.drop 144 = dktX6_unary_6 := dk_seg dksX6_unary_5 24 rfl rfl
theorem dksX6_unary_7 : cX6_unary.data.toList.drop 167 = dktX6_unary_7 := dk_seg dksX6_unary_6 23 rfl rfl
theorem dksX6_unary_8 : cX6_unary.data.toList.drop 191 = dktX6_unary_8 := dk_seg dksX6_unary_7 24 rfl rfl
theorem dksX6_unary_9 : cX6_unary.data.toList.drop 214 = dktX6_unary_9 := dk_seg dksX6_unary_8 23 rfl rfl
theorem dX6_unary_0 : decode cX6_unary 0 = .ok (.aload_n 0, 1) := dk_42 (dk_at dksX6_unary_0 0 rfl rfl)
theorem dX6_unary_1 : decode cX6_unary 1 = .ok (.invokevirtual 292, 3) := dk_182 1 36 (dk_at dksX6_unary_0 1 rfl rfl)
theorem dX6_unary_4 : decode cX6_unary 4 = .ok (.bipush 45, 2) := dk_16 45 (dk_at dksX6_unary_0 4 rfl rfl)
theorem dX6_unary_6 : decode cX6_unary 6 = .ok (.if_icmp .ne 8, 3) := dk_160 0 8 (dk_at dksX6_unary_0 6 rfl rfl)
theorem dX6_unary_9 : decode cX6_unary 9 = .ok (.bipush 22, 2) := dk_16 22 (dk_at dksX6_unary_0 9 rfl rfl)
theorem dX6_unary_11 : decode cX6_unary 11 = .ok (.goto 49, 3) := dk_167 0 49 (dk_at dksX6_unary_0 11 rfl rfl)
theorem dX6_unary_14 : decode cX6_unary 14 = .ok (.aload_n 0, 1) := dk_42 (dk_at dksX6_unary_0 14 rfl rfl)
theorem dX6_unary_15 : decode cX6_unary 15 = .ok (.ldc_w 337, 3) := dk_19 1 81 (dk_at dksX6_unary_0 15 rfl rfl)
theorem dX6_unary_18 : decode cX6_unary 18 = .ok (.invokevirtual 317, 3) := dk_182 1 61 (dk_at dksX6_unary_0 18 rfl rfl)
theorem dX6_unary_21 : decode cX6_unary 21 = .ok (.ifCond .eq 8, 3) := dk_153 0 8 (dk_at dksX6_unary_0 21 rfl rfl)
theorem dX6_unary_24 : decode cX6_unary 24 = .ok (.bipush 23, 2) := dk_16 23 (dk_at dksX6_unary_1 0 rfl rfl)
theorem dX6_unary_26 : decode cX6_unary 26 = .ok (.goto 34, 3) := dk_167 0 34 (dk_at dksX6_unary_1 2 rfl rfl)
theorem dX6_unary_29 : decode cX6_unary 29 = .ok (.aload_n 0, 1) := dk_42 (dk_at dksX6_unary_1 5 rfl rfl)
theorem dX6_unary_30 : decode cX6_unary 30 = .ok (.ldc_w 351, 3) := dk_19 1 95 (dk_at dksX6_unary_1 6 rfl rfl)
theorem dX6_unary_33 : decode cX6_unary 33 = .ok (.invokevirtual 317, 3) := dk_182 1 61 (dk_at dksX6_unary_1 9 rfl rfl)
theorem dX6_unary_36 : decode cX6_unary 36 = .ok (.ifCond .eq 8, 3) := dk_153 0 8 (dk_at dksX6_unary_1 12 rfl rfl)
theorem dX6_unary_39 : decode cX6_unary 39 = .ok (.bipush 24, 2) := dk_16 24 (dk_at dksX6_unary_1 15 rfl rfl)
theorem dX6_unary_41 : decode cX6_unary 41 = .ok (.goto 19, 3) := dk_167 0 19 (dk_at dksX6_unary_1 17 rfl rfl)
theorem dX6_unary_44 : decode cX6_unary 44 = .ok (.aload_n 0, 1) := dk_42 (dk_at dksX6_unary_1 20 rfl rfl)
theorem dX6_unary_45 : decode cX6_unary 45 = .ok (.ldc_w 353, 3) := dk_19 1 97 (dk_at dksX6_unary_1 21 rfl rfl)
theorem dX6_unary_48 : decode cX6_unary 48 = .ok (.invokevirtual 317, 3) := dk_182 1 61 (dk_at dksX6_unary_2 0 rfl rfl)
theorem dX6_unary_51 : decode cX6_unary 51 = .ok (.ifCond .eq 8, 3) := dk_153 0 8 (dk_at dksX6_unary_2 3 rfl rfl)
theorem dX6_unary_54 : decode cX6_unary 54 = .ok (.bipush 25, 2) := dk_16 25 (dk_at dksX6_unary_2 6 rfl rfl)
theorem dX6_unary_56 : decode cX6_unary 56 = .ok (.goto 4, 3) := dk_167 0 4 (dk_at dksX6_unary_2 8 rfl rfl)
theorem dX6_unary_59 : decode cX6_unary 59 = .ok (.iconst 0, 1) := dk_3 (dk_at dksX6_unary_2 11 rfl rfl)
theorem dX6_unary_60 : decode cX6_unary 60 = .ok (.istore_n 2, 1) := dk_61 (dk_at dksX6_unary_2 12 rfl rfl)
theorem dX6_unary_61 : decode cX6_unary 61 = .ok (.iload_n 2, 1) := dk_28 (dk_at dksX6_unary_2 13 rfl rfl)
theorem dX6_unary_62 : decode cX6_unary 62 = .ok (.ifCond .le 24, 3) := dk_158 0 24 (dk_at dksX6_unary_2 14 rfl rfl)
theorem dX6_unary_65 : decode cX6_unary 65 = .ok (.aload_n 0, 1) := dk_42 (dk_at dksX6_unary_2 17 rfl rfl)
theorem dX6_unary_66 : decode cX6_unary 66 = .ok (.invokevirtual 305, 3) := dk_182 1 49 (dk_at dksX6_unary_2 18 rfl rfl)
theorem dX6_unary_69 : decode cX6_unary 69 = .ok (.aload_n 0, 1) := dk_42 (dk_at dksX6_unary_2 21 rfl rfl)
theorem dX6_unary_70 : decode cX6_unary 70 = .ok (.iload_n 2, 1) := dk_28 (dk_at dksX6_unary_2 22 rfl rfl)
theorem dX6_unary_71 : decode cX6_unary 71 = .ok (.iconst 0, 1) := dk_3 (dk_at dksX6_unary_2 23 rfl rfl)
theorem dX6_unary_72 : decode cX6_unary 72 = .ok (.aload_n 0, 1) := dk_42 (dk_at dksX6_unary_3 0 rfl rfl)
theorem dX6_unary_73 : decode cX6_unary 73 = .ok (.aload_n 0, 1) := dk_42 (dk_at dksX6_unary_3 1 rfl rfl)
theorem dX6_unary_74 : decode cX6_unary 74 = .ok (.iload_n 1, 1) := dk_27 (dk_at dksX6_unary_3 2 rfl rfl)
theorem dX6_unary_75 : decode cX6_unary 75 = .ok (.invokevirtual 424, 3) := dk_182 1 168 (dk_at dksX6_unary_3 3 rfl rfl)
theorem dX6_unary_78 : decode cX6_unary 78 = .ok (.invokevirtual 449, 3) := dk_182 1 193 (dk_at dksX6_unary_3 6 rfl rfl)
theorem dX6_unary_81 : decode cX6_unary 81 = .ok (.iconst 1, 1) := dk_4 (dk_at dksX6_unary_3 9 rfl rfl)
theorem dX6_unary_82 : decode cX6_unary 82 = .ok (.invokevirtual 420, 3) := dk_182 1 164 (dk_at dksX6_unary_3 10 rfl rfl)
theorem dX6_unary_85 : decode cX6_unary 85 = .ok (.ireturn, 1) := dk_172 (dk_at dksX6_unary_3 13 rfl rfl)
theorem dX6_unary_86 : decode cX6_unary 86 = .ok (.aload_n 0, 1) := dk_42 (dk_at dksX6_unary_3 14 rfl rfl)
theorem dX6_unary_87 : decode cX6_unary 87 = .ok (.iload_n 1, 1) := dk_27 (dk_at dksX6_unary_3 15 rfl rfl)
theorem dX6_unary_88 : decode cX6_unary 88 = .ok (.invokevirtual 452, 3) := dk_182 1 196 (dk_at dksX6_unary_3 16 rfl rfl)
theorem dX6_unary_91 : decode cX6_unary 91 = .ok (.istore_n 3, 1) := dk_62 (dk_at dksX6_unary_3 19 rfl rfl)
theorem dX6_unary_92 : decode cX6_unary 92 = .ok (.aload_n 0, 1) := dk_42 (dk_at dksX6_unary_3 20 rfl rfl)
theorem dX6_unary_93 : decode cX6_unary 93 = .ok (.ldc_w 335, 3) := dk_19 1 79 (dk_at dksX6_unary_3 21 rfl rfl)
theorem dX6_unary_96 : decode cX6_unary 96 = .ok (.invokevirtual 317, 3) := dk_182 1 61 (dk_at dksX6_unary_4 0 rfl rfl)
theorem dX6_unary_99 : decode cX6_unary 99 = .ok (.ifCond .eq 122, 3) := dk_153 0 122 (dk_at dksX6_unary_4 3 rfl rfl)
theorem dX6_unary_102 : decode cX6_unary 102 = .ok (.aload_n 0, 1) := dk_42 (dk_at dksX6_unary_4 6 rfl rfl)
theorem dX6_unary_103 : decode cX6_unary 103 = .ok (.invokevirtual 305, 3) := dk_182 1 49 (dk_at dksX6_unary_4 7 rfl rfl)
theorem dX6_unary_106 : decode cX6_unary 106 = .ok (.aload_n 0, 1) := dk_42 (dk_at dksX6_unary_4 10 rfl rfl)
theorem dX6_unary_107 : decode cX6_unary 107 = .ok (.ldc_w 337, 3) := dk_19 1 81 (dk_at dksX6_unary_4 11 rfl rfl)
theorem dX6_unary_110 : decode cX6_unary 110 = .ok (.invokevirtual 317, 3) := dk_182 1 61 (dk_at dksX6_unary_4 14 rfl rfl)
theorem dX6_unary_113 : decode cX6_unary 113 = .ok (.istore 4, 2) := dk_54 4 (dk_at dksX6_unary_4 17 rfl rfl)
theorem dX6_unary_115 : decode cX6_unary 115 = .ok (.iload 4, 2) := dk_21 4 (dk_at dksX6_unary_4 19 rfl rfl)
theorem dX6_unary_117 : decode cX6_unary 117 = .ok (.ifCond .eq 7, 3) := dk_153 0 7 (dk_at dksX6_unary_4 21 rfl rfl)
theorem dX6_unary_120 : decode cX6_unary 120 = .ok (.aload_n 0, 1) := dk_42 (dk_at dksX6_unary_5 0 rfl rfl)
theorem dX6_unary_121 : decode cX6_unary 121 = .ok (.invokevirtual 305, 3) := dk_182 1 49 (dk_at dksX6_unary_5 1 rfl rfl)
theorem dX6_unary_124 : decode cX6_unary 124 = .ok (.aload_n 0, 1) := dk_42 (dk_at dksX6_unary_5 4 rfl rfl)
theorem dX6_unary_125 : decode cX6_unary 125 = .ok (.invokevirtual 373, 3) := dk_182 1 117 (dk_at dksX6_unary_5 5 rfl rfl)
theorem dX6_unary_128 : decode cX6_unary 128 = .ok (.ifCond .ne 8, 3) := dk_154 0 8 (dk_at dksX6_unary_5 8 rfl rfl)
theorem dX6_unary_131 : decode cX6_unary 131 = .ok (.aload_n 0, 1) := dk_42 (dk_at dksX6_unary_5 11 rfl rfl)
theorem dX6_unary_132 : decode cX6_unary 132 = .ok (.invokevirtual 301, 3) := dk_182 1 45 (dk_at dksX6_unary_5 12 rfl rfl)
theorem dX6_unary_135 : decode cX6_unary 135 = .ok (.athrow, 1) := dk_191 (dk_at dksX6_unary_5 15 rfl rfl)
theorem dX6_unary_136 : decode cX6_unary 136 = .ok (.aload_n 0, 1) := dk_42 (dk_at dksX6_unary_5 16 rfl rfl)
theorem dX6_unary_137 : decode cX6_unary 137 = .ok (.aload_n 0, 1) := dk_42 (dk_at dksX6_unary_5 17 rfl rfl)
theorem dX6_unary_138 : decode cX6_unary 138 = .ok (.getfield 71, 3) := dk_180 0 71 (dk_at dksX6_unary_5 18 rfl rfl)
theorem dX6_unary_141 : decode cX6_unary 141 = .ok (.invokevirtual 376, 3) := dk_182 1 120 (dk_at dksX6_unary_5 21 rfl rfl)
theorem dX6_unary_144 : decode cX6_unary 144 = .ok (.istore 5, 2) := dk_54 5 (dk_at dksX6_unary_6 0 rfl rfl)
theorem dX6_unary_146 : decode cX6_unary 146 = .ok (.iload 5, 2) := dk_21 5 (dk_at dksX6_unary_6 2 rfl rfl)
theorem dX6_unary_148 : decode cX6_unary 148 = .ok (.ifCond .lt 13, 3) := dk_155 0 13 (dk_at dksX6_unary_6 4 rfl rfl)
theorem dX6_unary_151 : decode cX6_unary 151 = .ok (.aload_n 0, 1) := dk_42 (dk_at dksX6_unary_6 7 rfl rfl)
theorem dX6_unary_152 : decode cX6_unary 152 = .ok (.getfield 86, 3) := dk_180 0 86 (dk_at dksX6_unary_6 8 rfl rfl)
theorem dX6_unary_155 : decode cX6_unary 155 = .ok (.iload 5, 2) := dk_21 5 (dk_at dksX6_unary_6 11 rfl rfl)
theorem dX6_unary_157 : decode cX6_unary 157 = .ok (.baload, 1) := dk_51 (dk_at dksX6_unary_6 13 rfl rfl)
theorem dX6_unary_158 : decode cX6_unary 158 = .ok (.ifCond .ne 16, 3) := dk_154 0 16 (dk_at dksX6_unary_6 14 rfl rfl)
theorem dX6_unary_161 : decode cX6_unary 161 = .ok (.new 296, 3) := dk_187 1 40 (dk_at dksX6_unary_6 17 rfl rfl)
theorem dX6_unary_164 : decode cX6_unary 164 = .ok (.dup, 1) := dk_89 (dk_at dksX6_unary_6 20 rfl rfl)
theorem dX6_unary_165 : decode cX6_unary 165 = .ok (.iconst 2, 1) := dk_5 (dk_at dksX6_unary_6 21 rfl rfl)
theorem dX6_unary_166 : decode cX6_unary 166 = .ok (.aload_n 0, 1) := dk_42 (dk_at dksX6_unary_6 22 rfl rfl)
theorem dX6_unary_167 : decode cX6_unary 167 = .ok (.getfield 33, 3) := dk_180 0 33 (dk_at dksX6_unary_7 0 rfl rfl)
theorem dX6_unary_170 : decode cX6_unary 170 = .ok (.invokespecial 298, 3) := dk_183 1 42 (dk_at dksX6_unary_7 3 rfl rfl)
theorem dX6_unary_173 : decode cX6_unary 173 = .ok (.athrow, 1) := dk_191 (dk_at dksX6_unary_7 6 rfl rfl)
theorem dX6_unary_174 : decode cX6_unary 174 = .ok (.aload_n 0, 1) := dk_42 (dk_at dksX6_unary_7 7 rfl rfl)
theorem dX6_unary_175 : decode cX6_unary 175 = .ok (.iload 5, 2) := dk_21 5 (dk_at dksX6_unary_7 8 rfl rfl)
theorem dX6_unary_177 : decode cX6_unary 177 = .ok (.invokevirtual 383, 3) := dk_182 1 127 (dk_at dksX6_unary_7 10 rfl rfl)
theorem dX6_unary_180 : decode cX6_unary 180 = .ok (.aload_n 0, 1) := dk_42 (dk_at dksX6_unary_7 13 rfl rfl)
theorem dX6_unary_181 : decode cX6_unary 181 = .ok (.invokevirtual 305, 3) := dk_182 1 49 (dk_at dksX6_unary_7 14 rfl rfl)
theorem dX6_unary_184 : decode cX6_unary 184 = .ok (.aload_n 0, 1) := dk_42 (dk_at dksX6_unary_7 17 rfl rfl)
theorem dX6_unary_185 : decode cX6_unary 185 = .ok (.bipush 26, 2) := dk_16 26 (dk_at dksX6_unary_7 18 rfl rfl)
theorem dX6_unary_187 : decode cX6_unary 187 = .ok (.iconst 2, 1) := dk_5 (dk_at dksX6_unary_7 20 rfl rfl)
theorem dX6_unary_188 : decode cX6_unary 188 = .ok (.iload 5, 2) := dk_21 5 (dk_at dksX6_unary_7 21 rfl rfl)
theorem dX6_unary_190 : decode cX6_unary 190 = .ok (.aload_n 0, 1) := dk_42 (dk_at dksX6_unary_7 23 rfl rfl)
theorem dX6_unary_191 : decode cX6_unary 191 = .ok (.getfield 50, 3) := dk_180 0 50 (dk_at dksX6_unary_8 0 rfl rfl)
theorem dX6_unary_194 : decode cX6_unary 194 = .ok (.aload_n 0, 1) := dk_42 (dk_at dksX6_unary_8 3 rfl rfl)
theorem dX6_unary_195 : decode cX6_unary 195 = .ok (.getfield 68, 3) := dk_180 0 68 (dk_at dksX6_unary_8 4 rfl rfl)
theorem dX6_unary_198 : decode cX6_unary 198 = .ok (.iaload, 1) := dk_46 (dk_at dksX6_unary_8 7 rfl rfl)
theorem dX6_unary_199 : decode cX6_unary 199 = .ok (.isub, 1) := dk_100 (dk_at dksX6_unary_8 8 rfl rfl)
theorem dX6_unary_200 : decode cX6_unary 200 = .ok (.imul, 1) := dk_104 (dk_at dksX6_unary_8 9 rfl rfl)
theorem dX6_unary_201 : decode cX6_unary 201 = .ok (.iload 4, 2) := dk_21 4 (dk_at dksX6_unary_8 10 rfl rfl)
theorem dX6_unary_203 : decode cX6_unary 203 = .ok (.ifCond .eq 7, 3) := dk_153 0 7 (dk_at dksX6_unary_8 12 rfl rfl)
theorem dX6_unary_206 : decode cX6_unary 206 = .ok (.iconst 0, 1) := dk_3 (dk_at dksX6_unary_8 15 rfl rfl)
theorem dX6_unary_207 : decode cX6_unary 207 = .ok (.goto 4, 3) := dk_167 0 4 (dk_at dksX6_unary_8 16 rfl rfl)
theorem dX6_unary_210 : decode cX6_unary 210 = .ok (.iconst 1, 1) := dk_4 (dk_at dksX6_unary_8 19 rfl rfl)
theorem dX6_unary_211 : decode cX6_unary 211 = .ok (.iadd, 1) := dk_96 (dk_at dksX6_unary_8 20 rfl rfl)
theorem dX6_unary_212 : decode cX6_unary 212 = .ok (.iload_n 3, 1) := dk_29 (dk_at dksX6_unary_8 21 rfl rfl)
theorem dX6_unary_213 : decode cX6_unary 213 = .ok (.iconst 1, 1) := dk_4 (dk_at dksX6_unary_8 22 rfl rfl)
theorem dX6_unary_214 : decode cX6_unary 214 = .ok (.invokevirtual 420, 3) := dk_182 1 164 (dk_at dksX6_unary_9 0 rfl rfl)
theorem dX6_unary_217 : decode cX6_unary 217 = .ok (.istore_n 3, 1) := dk_62 (dk_at dksX6_unary_9 3 rfl rfl)
theorem dX6_unary_218 : decode cX6_unary 218 = .ok (.goto (-126), 3) := dk_167 255 130 (dk_at dksX6_unary_9 4 rfl rfl)
theorem dX6_unary_221 : decode cX6_unary 221 = .ok (.iload_n 3, 1) := dk_29 (dk_at dksX6_unary_9 7 rfl rfl)
theorem dX6_unary_222 : decode cX6_unary 222 = .ok (.ireturn, 1) := dk_172 (dk_at dksX6_unary_9 8 rfl rfl)
abbrev cX6_atom : ByteArray := prog_26_method_40_code
def yX6_atom : MethodName := ⟨RX6, "atom", "(I)I"⟩
def dkwX6_atom_10 : List UInt8 := [46, 100, 2, 4, 182, 1, 164, 172]
abbrev dktX6_atom_10 : List UInt8 := dkwX6_atom_10 ++ []
def dkwX6_atom_9 : List UInt8 := [156, 0, 13, 187, 1, 40, 89, 5, 28, 183, 1, 42, 191, 42, 5, 29, 42, 180, 0, 50, 42, 180, 0, 68]
abbrev dktX6_atom_9 : List UInt8 := dkwX6_atom_9 ++ dktX6_atom_10
def dkwX6_atom_8 : List UInt8 := [156, 0, 13, 187, 1, 40, 89, 5, 28, 183, 1, 42, 191, 42, 21, 4, 27, 182, 1, 156, 172, 29]
abbrev dktX6_atom_8 : List UInt8 := dkwX6_atom_8 ++ dktX6_atom_9
def dkwX6_atom_7 : List UInt8 := [62, 42, 182, 1, 138, 54, 4, 42, 182, 1, 49, 42, 182, 1, 36, 16, 40, 160, 0, 26, 21, 4]
abbrev dktX6_atom_7 : List UInt8 := dkwX6_atom_7 ++ dktX6_atom_8
def dkwX6_atom_6 : List UInt8 := [182, 1, 117, 154, 0, 8, 42, 182, 1, 45, 191, 42, 180, 0, 33, 61, 42, 42, 180, 0, 71, 182, 1, 120]
abbrev dktX6_atom_6 : List UInt8 := dkwX6_atom_6 ++ dktX6_atom_7
def dkwX6_atom_5 : List UInt8 := [182, 1, 49, 42, 42, 27, 182, 1, 168, 182, 1, 153, 61, 42, 16, 41, 182, 1, 123, 28, 172, 42]
abbrev dktX6_atom_5 : List UInt8 := dkwX6_atom_5 ++ dktX6_atom_6
def dkwX6_atom_4 : List UInt8 := [61, 42, 182, 1, 49, 42, 4, 28, 2, 4, 182, 1, 164, 172, 42, 182, 1, 36, 16, 40, 160, 0, 25, 42]
abbrev dktX6_atom_4 : List UInt8 := dkwX6_atom_4 ++ dktX6_atom_5
def dkwX6_atom_3 : List UInt8 := [19, 1, 107, 182, 1, 61, 153, 0, 32, 42, 19, 1, 105, 182, 1, 61, 153, 0, 7, 4, 167, 0, 4, 3]
abbrev dktX6_atom_3 : List UInt8 := dkwX6_atom_3 ++ dktX6_atom_4
def dkwX6_atom_2 : List UInt8 := [182, 1, 49, 42, 3, 28, 2, 4, 182, 1, 164, 172, 42, 19, 1, 105, 182, 1, 61, 154, 0, 13, 42]
abbrev dktX6_atom_2 : List UInt8 := dkwX6_atom_2 ++ dktX6_atom_3
def dkwX6_atom_1 : List UInt8 := [16, 10, 28, 104, 42, 180, 0, 8, 29, 51, 96, 16, 48, 100, 61, 132, 3, 1, 167, 255, 230, 42]
abbrev dktX6_atom_1 : List UInt8 := dkwX6_atom_1 ++ dktX6_atom_2
def dkwX6_atom_0 : List UInt8 := [42, 182, 1, 36, 5, 160, 0, 52, 3, 61, 42, 180, 0, 33, 62, 29, 42, 180, 0, 36, 162, 0, 24]
abbrev dktX6_atom_0 : List UInt8 := dkwX6_atom_0 ++ dktX6_atom_1
theorem dksX6_atom_0 : cX6_atom.data.toList.drop 0 = dktX6_atom_0 := by decide +kernel
theorem dksX6_atom_1 : cX6_atom.data.toList.drop 23 = dktX6_atom_1 := dk_seg dksX6_atom_0 23 rfl rfl
theorem dksX6_atom_2 : cX6_atom.data.toList.drop 45 = dktX6_atom_2 := dk_seg dksX6_atom_1 22 rfl rfl
theorem dksX6_atom_3 : cX6_atom.data.toList.drop 68 = dktX6_atom_3 := dk_seg dksX6_atom_2 23 rfl rfl
theorem dksX6_atom_4 : cX6_atom.data.toList.drop 92 = dktX6_atom_4 := dk_seg dksX6_atom_3 24 rfl rfl
theorem dksX6_atom_5 : cX6_atom.data.toList.drop 116 = dktX6_atom_5 := dk_seg dksX6_atom_4 24 rfl rfl
theorem dksX6_atom_6 : cX6_atom.data.toList.drop 138 = dktX6_atom_6 := dk_seg dksX6_atom_5 22 rfl rfl
theorem dksX6_atom_7 : cX6_atom.data.toList.drop 162 = dktX6_atom_7 := dk_seg dksX6_atom_6 24 rfl rfl
theorem dksX6_atom_8 : cX6_atom.data.toList.drop 184 = dktX6_atom_8 := dk_seg dksX6_atom_7 22 rfl rfl
theorem dksX6_atom_9 : cX6_atom.data.toList.drop 206 = dktX6_atom_9 := dk_seg dksX6_atom_8 22 rfl rfl
theorem dksX6_atom_10 : cX6_atom.data.toList.drop 230 = dktX6_atom_10 := dk_seg dksX6_atom_9 24 rfl rfl
theorem dX6_atom_0 : decode cX6_atom 0 = .ok (.aload_n 0, 1) := dk_42 (dk_at dksX6_atom_0 0 rfl rfl)
theorem dX6_atom_1 : decode cX6_atom 1 = .ok (.invokevirtual 292, 3) := dk_182 1 36 (dk_at dksX6_atom_0 1 rfl rfl)
theorem dX6_atom_4 : decode cX6_atom 4 = .ok (.iconst 2, 1) := dk_5 (dk_at dksX6_atom_0 4 rfl rfl)
theorem dX6_atom_5 : decode cX6_atom 5 = .ok (.if_icmp .ne 52, 3) := dk_160 0 52 (dk_at dksX6_atom_0 5 rfl rfl)
theorem dX6_atom_8 : decode cX6_atom 8 = .ok (.iconst 0, 1) := dk_3 (dk_at dksX6_atom_0 8 rfl rfl)
theorem dX6_atom_9 : decode cX6_atom 9 = .ok (.istore_n 2, 1) := dk_61 (dk_at dksX6_atom_0 9 rfl rfl)
theorem dX6_atom_10 : decode cX6_atom 10 = .ok (.aload_n 0, 1) := dk_42 (dk_at dksX6_atom_0 10 rfl rfl)
theorem dX6_atom_11 : decode cX6_atom 11 = .ok (.getfield 33, 3) := dk_180 0 33 (dk_at dksX6_atom_0 11 rfl rfl)
theorem dX6_atom_14 : decode cX6_atom 14 = .ok (.istore_n 3, 1) := dk_62 (dk_at dksX6_atom_0 14 rfl rfl)
theorem dX6_atom_15 : decode cX6_atom 15 = .ok (.iload_n 3, 1) := dk_29 (dk_at dksX6_atom_0 15 rfl rfl)
theorem dX6_atom_16 : decode cX6_atom 16 = .ok (.aload_n 0, 1) := dk_42 (dk_at dksX6_atom_0 16 rfl rfl)
theorem dX6_atom_17 : decode cX6_atom 17 = .ok (.getfield 36, 3) := dk_180 0 36 (dk_at dksX6_atom_0 17 rfl rfl)
theorem dX6_atom_20 : decode cX6_atom 20 = .ok (.if_icmp .ge 24, 3) := dk_162 0 24 (dk_at dksX6_atom_0 20 rfl rfl)
theorem dX6_atom_23 : decode cX6_atom 23 = .ok (.bipush 10, 2) := dk_16 10 (dk_at dksX6_atom_1 0 rfl rfl)
theorem dX6_atom_25 : decode cX6_atom 25 = .ok (.iload_n 2, 1) := dk_28 (dk_at dksX6_atom_1 2 rfl rfl)
theorem dX6_atom_26 : decode cX6_atom 26 = .ok (.imul, 1) := dk_104 (dk_at dksX6_atom_1 3 rfl rfl)
theorem dX6_atom_27 : decode cX6_atom 27 = .ok (.aload_n 0, 1) := dk_42 (dk_at dksX6_atom_1 4 rfl rfl)
theorem dX6_atom_28 : decode cX6_atom 28 = .ok (.getfield 8, 3) := dk_180 0 8 (dk_at dksX6_atom_1 5 rfl rfl)
theorem dX6_atom_31 : decode cX6_atom 31 = .ok (.iload_n 3, 1) := dk_29 (dk_at dksX6_atom_1 8 rfl rfl)
theorem dX6_atom_32 : decode cX6_atom 32 = .ok (.baload, 1) := dk_51 (dk_at dksX6_atom_1 9 rfl rfl)
theorem dX6_atom_33 : decode cX6_atom 33 = .ok (.iadd, 1) := dk_96 (dk_at dksX6_atom_1 10 rfl rfl)
theorem dX6_atom_34 : decode cX6_atom 34 = .ok (.bipush 48, 2) := dk_16 48 (dk_at dksX6_atom_1 11 rfl rfl)
theorem dX6_atom_36 : decode cX6_atom 36 = .ok (.isub, 1) := dk_100 (dk_at dksX6_atom_1 13 rfl rfl)
theorem dX6_atom_37 : decode cX6_atom 37 = .ok (.istore_n 2, 1) := dk_61 (dk_at dksX6_atom_1 14 rfl rfl)
theorem dX6_atom_38 : decode cX6_atom 38 = .ok (.iinc 3 1, 3) := dk_132 3 1 (dk_at dksX6_atom_1 15 rfl rfl)
theorem dX6_atom_41 : decode cX6_atom 41 = .ok (.goto (-26), 3) := dk_167 255 230 (dk_at dksX6_atom_1 18 rfl rfl)
theorem dX6_atom_44 : decode cX6_atom 44 = .ok (.aload_n 0, 1) := dk_42 (dk_at dksX6_atom_1 21 rfl rfl)
theorem dX6_atom_45 : decode cX6_atom 45 = .ok (.invokevirtual 305, 3) := dk_182 1 49 (dk_at dksX6_atom_2 0 rfl rfl)
theorem dX6_atom_48 : decode cX6_atom 48 = .ok (.aload_n 0, 1) := dk_42 (dk_at dksX6_atom_2 3 rfl rfl)
theorem dX6_atom_49 : decode cX6_atom 49 = .ok (.iconst 0, 1) := dk_3 (dk_at dksX6_atom_2 4 rfl rfl)
theorem dX6_atom_50 : decode cX6_atom 50 = .ok (.iload_n 2, 1) := dk_28 (dk_at dksX6_atom_2 5 rfl rfl)
theorem dX6_atom_51 : decode cX6_atom 51 = .ok (.iconst (-1), 1) := dk_2 (dk_at dksX6_atom_2 6 rfl rfl)
theorem dX6_atom_52 : decode cX6_atom 52 = .ok (.iconst 1, 1) := dk_4 (dk_at dksX6_atom_2 7 rfl rfl)
theorem dX6_atom_53 : decode cX6_atom 53 = .ok (.invokevirtual 420, 3) := dk_182 1 164 (dk_at dksX6_atom_2 8 rfl rfl)
theorem dX6_atom_56 : decode cX6_atom 56 = .ok (.ireturn, 1) := dk_172 (dk_at dksX6_atom_2 11 rfl rfl)
theorem dX6_atom_57 : decode cX6_atom 57 = .ok (.aload_n 0, 1) := dk_42 (dk_at dksX6_atom_2 12 rfl rfl)
theorem dX6_atom_58 : decode cX6_atom 58 = .ok (.ldc_w 361, 3) := dk_19 1 105 (dk_at dksX6_atom_2 13 rfl rfl)
theorem dX6_atom_61 : decode cX6_atom 61 = .ok (.invokevirtual 317, 3) := dk_182 1 61 (dk_at dksX6_atom_2 16 rfl rfl)
theorem dX6_atom_64 : decode cX6_atom 64 = .ok (.ifCond .ne 13, 3) := dk_154 0 13 (dk_at dksX6_atom_2 19 rfl rfl)
theorem dX6_atom_67 : decode cX6_atom 67 = .ok (.aload_n 0, 1) := dk_42 (dk_at dksX6_atom_2 22 rfl rfl)
theorem dX6_atom_68 : decode cX6_atom 68 = .ok (.ldc_w 363, 3) := dk_19 1 107 (dk_at dksX6_atom_3 0 rfl rfl)
theorem dX6_atom_71 : decode cX6_atom 71 = .ok (.invokevirtual 317, 3) := dk_182 1 61 (dk_at dksX6_atom_3 3 rfl rfl)
theorem dX6_atom_74 : decode cX6_atom 74 = .ok (.ifCond .eq 32, 3) := dk_153 0 32 (dk_at dksX6_atom_3 6 rfl rfl)
theorem dX6_atom_77 : decode cX6_atom 77 = .ok (.aload_n 0, 1) := dk_42 (dk_at dksX6_atom_3 9 rfl rfl)
theorem dX6_atom_78 : decode cX6_atom 78 = .ok (.ldc_w 361, 3) := dk_19 1 105 (dk_at dksX6_atom_3 10 rfl rfl)
theorem dX6_atom_81 : decode cX6_atom 81 = .ok (.invokevirtual 317, 3) := dk_182 1 61 (dk_at dksX6_atom_3 13 rfl rfl)
theorem dX6_atom_84 : decode cX6_atom 84 = .ok (.ifCond .eq 7, 3) := dk_153 0 7 (dk_at dksX6_atom_3 16 rfl rfl)
theorem dX6_atom_87 : decode cX6_atom 87 = .ok (.iconst 1, 1) := dk_4 (dk_at dksX6_atom_3 19 rfl rfl)
theorem dX6_atom_88 : decode cX6_atom 88 = .ok (.goto 4, 3) := dk_167 0 4 (dk_at dksX6_atom_3 20 rfl rfl)
theorem dX6_atom_91 : decode cX6_atom 91 = .ok (.iconst 0, 1) := dk_3 (dk_at dksX6_atom_3 23 rfl rfl)
theorem dX6_atom_92 : decode cX6_atom 92 = .ok (.istore_n 2, 1) := dk_61 (dk_at dksX6_atom_4 0 rfl rfl)
theorem dX6_atom_93 : decode cX6_atom 93 = .ok (.aload_n 0, 1) := dk_42 (dk_at dksX6_atom_4 1 rfl rfl)
theorem dX6_atom_94 : decode cX6_atom 94 = .ok (.invokevirtual 305, 3) := dk_182 1 49 (dk_at dksX6_atom_4 2 rfl rfl)
theorem dX6_atom_97 : decode cX6_atom 97 = .ok (.aload_n 0, 1) := dk_42 (dk_at dksX6_atom_4 5 rfl rfl)
theorem dX6_atom_98 : decode cX6_atom 98 = .ok (.iconst 1, 1) := dk_4 (dk_at dksX6_atom_4 6 rfl rfl)
theorem dX6_atom_99 : decode cX6_atom 99 = .ok (.iload_n 2, 1) := dk_28 (dk_at dksX6_atom_4 7 rfl rfl)
theorem dX6_atom_100 : decode cX6_atom 100 = .ok (.iconst (-1), 1) := dk_2 (dk_at dksX6_atom_4 8 rfl rfl)
theorem dX6_atom_101 : decode cX6_atom 101 = .ok (.iconst 1, 1) := dk_4 (dk_at dksX6_atom_4 9 rfl rfl)
theorem dX6_atom_102 : decode cX6_atom 102 = .ok (.invokevirtual 420, 3) := dk_182 1 164 (dk_at dksX6_atom_4 10 rfl rfl)
theorem dX6_atom_105 : decode cX6_atom 105 = .ok (.ireturn, 1) := dk_172 (dk_at dksX6_atom_4 13 rfl rfl)
theorem dX6_atom_106 : decode cX6_atom 106 = .ok (.aload_n 0, 1) := dk_42 (dk_at dksX6_atom_4 14 rfl rfl)
theorem dX6_atom_107 : decode cX6_atom 107 = .ok (.invokevirtual 292, 3) := dk_182 1 36 (dk_at dksX6_atom_4 15 rfl rfl)
theorem dX6_atom_110 : decode cX6_atom 110 = .ok (.bipush 40, 2) := dk_16 40 (dk_at dksX6_atom_4 18 rfl rfl)
theorem dX6_atom_112 : decode cX6_atom 112 = .ok (.if_icmp .ne 25, 3) := dk_160 0 25 (dk_at dksX6_atom_4 20 rfl rfl)
theorem dX6_atom_115 : decode cX6_atom 115 = .ok (.aload_n 0, 1) := dk_42 (dk_at dksX6_atom_4 23 rfl rfl)
theorem dX6_atom_116 : decode cX6_atom 116 = .ok (.invokevirtual 305, 3) := dk_182 1 49 (dk_at dksX6_atom_5 0 rfl rfl)
theorem dX6_atom_119 : decode cX6_atom 119 = .ok (.aload_n 0, 1) := dk_42 (dk_at dksX6_atom_5 3 rfl rfl)
theorem dX6_atom_120 : decode cX6_atom 120 = .ok (.aload_n 0, 1) := dk_42 (dk_at dksX6_atom_5 4 rfl rfl)
theorem dX6_atom_121 : decode cX6_atom 121 = .ok (.iload_n 1, 1) := dk_27 (dk_at dksX6_atom_5 5 rfl rfl)
theorem dX6_atom_122 : decode cX6_atom 122 = .ok (.invokevirtual 424, 3) := dk_182 1 168 (dk_at dksX6_atom_5 6 rfl rfl)
theorem dX6_atom_125 : decode cX6_atom 125 = .ok (.invokevirtual 409, 3) := dk_182 1 153 (dk_at dksX6_atom_5 9 rfl rfl)
theorem dX6_atom_128 : decode cX6_atom 128 = .ok (.istore_n 2, 1) := dk_61 (dk_at dksX6_atom_5 12 rfl rfl)
theorem dX6_atom_129 : decode cX6_atom 129 = .ok (.aload_n 0, 1) := dk_42 (dk_at dksX6_atom_5 13 rfl rfl)
theorem dX6_atom_130 : decode cX6_atom 130 = .ok (.bipush 41, 2) := dk_16 41 (dk_at dksX6_atom_5 14 rfl rfl)
theorem dX6_atom_132 : decode cX6_atom 132 = .ok (.invokevirtual 379, 3) := dk_182 1 123 (dk_at dksX6_atom_5 16 rfl rfl)
theorem dX6_atom_135 : decode cX6_atom 135 = .ok (.iload_n 2, 1) := dk_28 (dk_at dksX6_atom_5 19 rfl rfl)
theorem dX6_atom_136 : decode cX6_atom 136 = .ok (.ireturn, 1) := dk_172 (dk_at dksX6_atom_5 20 rfl rfl)
theorem dX6_atom_137 : decode cX6_atom 137 = .ok (.aload_n 0, 1) := dk_42 (dk_at dksX6_atom_5 21 rfl rfl)
theorem dX6_atom_138 : decode cX6_atom 138 = .ok (.invokevirtual 373, 3) := dk_182 1 117 (dk_at dksX6_atom_6 0 rfl rfl)
theorem dX6_atom_141 : decode cX6_atom 141 = .ok (.ifCond .ne 8, 3) := dk_154 0 8 (dk_at dksX6_atom_6 3 rfl rfl)
theorem dX6_atom_144 : decode cX6_atom 144 = .ok (.aload_n 0, 1) := dk_42 (dk_at dksX6_atom_6 6 rfl rfl)
theorem dX6_atom_145 : decode cX6_atom 145 = .ok (.invokevirtual 301, 3) := dk_182 1 45 (dk_at dksX6_atom_6 7 rfl rfl)
theorem dX6_atom_148 : decode cX6_atom 148 = .ok (.athrow, 1) := dk_191 (dk_at dksX6_atom_6 10 rfl rfl)
theorem dX6_atom_149 : decode cX6_atom 149 = .ok (.aload_n 0, 1) := dk_42 (dk_at dksX6_atom_6 11 rfl rfl)
theorem dX6_atom_150 : decode cX6_atom 150 = .ok (.getfield 33, 3) := dk_180 0 33 (dk_at dksX6_atom_6 12 rfl rfl)
theorem dX6_atom_153 : decode cX6_atom 153 = .ok (.istore_n 2, 1) := dk_61 (dk_at dksX6_atom_6 15 rfl rfl)
theorem dX6_atom_154 : decode cX6_atom 154 = .ok (.aload_n 0, 1) := dk_42 (dk_at dksX6_atom_6 16 rfl rfl)
theorem dX6_atom_155 : decode cX6_atom 155 = .ok (.aload_n 0, 1) := dk_42 (dk_at dksX6_atom_6 17 rfl rfl)
theorem dX6_atom_156 : decode cX6_atom 156 = .ok (.getfield 71, 3) := dk_180 0 71 (dk_at dksX6_atom_6 18 rfl rfl)
theorem dX6_atom_159 : decode cX6_atom 159 = .ok (.invokevirtual 376, 3) := dk_182 1 120 (dk_at dksX6_atom_6 21 rfl rfl)
theorem dX6_atom_162 : decode cX6_atom 162 = .ok (.istore_n 3, 1) := dk_62 (dk_at dksX6_atom_7 0 rfl rfl)
theorem dX6_atom_163 : decode cX6_atom 163 = .ok (.aload_n 0, 1) := dk_42 (dk_at dksX6_atom_7 1 rfl rfl)
theorem dX6_atom_164 : decode cX6_atom 164 = .ok (.invokevirtual 394, 3) := dk_182 1 138 (dk_at dksX6_atom_7 2 rfl rfl)
theorem dX6_atom_167 : decode cX6_atom 167 = .ok (.istore 4, 2) := dk_54 4 (dk_at dksX6_atom_7 5 rfl rfl)
theorem dX6_atom_169 : decode cX6_atom 169 = .ok (.aload_n 0, 1) := dk_42 (dk_at dksX6_atom_7 7 rfl rfl)
theorem dX6_atom_170 : decode cX6_atom 170 = .ok (.invokevirtual 305, 3) := dk_182 1 49 (dk_at dksX6_atom_7 8 rfl rfl)
theorem dX6_atom_173 : decode cX6_atom 173 = .ok (.aload_n 0, 1) := dk_42 (dk_at dksX6_atom_7 11 rfl rfl)
theorem dX6_atom_174 : decode cX6_atom 174 = .ok (.invokevirtual 292, 3) := dk_182 1 36 (dk_at dksX6_atom_7 12 rfl rfl)
theorem dX6_atom_177 : decode cX6_atom 177 = .ok (.bipush 40, 2) := dk_16 40 (dk_at dksX6_atom_7 15 rfl rfl)
theorem dX6_atom_179 : decode cX6_atom 179 = .ok (.if_icmp .ne 26, 3) := dk_160 0 26 (dk_at dksX6_atom_7 17 rfl rfl)
theorem dX6_atom_182 : decode cX6_atom 182 = .ok (.iload 4, 2) := dk_21 4 (dk_at dksX6_atom_7 20 rfl rfl)
theorem dX6_atom_184 : decode cX6_atom 184 = .ok (.ifCond .ge 13, 3) := dk_156 0 13 (dk_at dksX6_atom_8 0 rfl rfl)
theorem dX6_atom_187 : decode cX6_atom 187 = .ok (.new 296, 3) := dk_187 1 40 (dk_at dksX6_atom_8 3 rfl rfl)
theorem dX6_atom_190 : decode cX6_atom 190 = .ok (.dup, 1) := dk_89 (dk_at dksX6_atom_8 6 rfl rfl)
theorem dX6_atom_191 : decode cX6_atom 191 = .ok (.iconst 2, 1) := dk_5 (dk_at dksX6_atom_8 7 rfl rfl)
theorem dX6_atom_192 : decode cX6_atom 192 = .ok (.iload_n 2, 1) := dk_28 (dk_at dksX6_atom_8 8 rfl rfl)
theorem dX6_atom_193 : decode cX6_atom 193 = .ok (.invokespecial 298, 3) := dk_183 1 42 (dk_at dksX6_atom_8 9 rfl rfl)
theorem dX6_atom_196 : decode cX6_atom 196 = .ok (.athrow, 1) := dk_191 (dk_at dksX6_atom_8 12 rfl rfl)
theorem dX6_atom_197 : decode cX6_atom 197 = .ok (.aload_n 0, 1) := dk_42 (dk_at dksX6_atom_8 13 rfl rfl)
theorem dX6_atom_198 : decode cX6_atom 198 = .ok (.iload 4, 2) := dk_21 4 (dk_at dksX6_atom_8 14 rfl rfl)
theorem dX6_atom_200 : decode cX6_atom 200 = .ok (.iload_n 1, 1) := dk_27 (dk_at dksX6_atom_8 16 rfl rfl)
theorem dX6_atom_201 : decode cX6_atom 201 = .ok (.invokevirtual 412, 3) := dk_182 1 156 (dk_at dksX6_atom_8 17 rfl rfl)
theorem dX6_atom_204 : decode cX6_atom 204 = .ok (.ireturn, 1) := dk_172 (dk_at dksX6_atom_8 20 rfl rfl)
theorem dX6_atom_205 : decode cX6_atom 205 = .ok (.iload_n 3, 1) := dk_29 (dk_at dksX6_atom_8 21 rfl rfl)
theorem dX6_atom_206 : decode cX6_atom 206 = .ok (.ifCond .ge 13, 3) := dk_156 0 13 (dk_at dksX6_atom_9 0 rfl rfl)
theorem dX6_atom_209 : decode cX6_atom 209 = .ok (.new 296, 3) := dk_187 1 40 (dk_at dksX6_atom_9 3 rfl rfl)
theorem dX6_atom_212 : decode cX6_atom 212 = .ok (.dup, 1) := dk_89 (dk_at dksX6_atom_9 6 rfl rfl)
theorem dX6_atom_213 : decode cX6_atom 213 = .ok (.iconst 2, 1) := dk_5 (dk_at dksX6_atom_9 7 rfl rfl)
theorem dX6_atom_214 : decode cX6_atom 214 = .ok (.iload_n 2, 1) := dk_28 (dk_at dksX6_atom_9 8 rfl rfl)
theorem dX6_atom_215 : decode cX6_atom 215 = .ok (.invokespecial 298, 3) := dk_183 1 42 (dk_at dksX6_atom_9 9 rfl rfl)
theorem dX6_atom_218 : decode cX6_atom 218 = .ok (.athrow, 1) := dk_191 (dk_at dksX6_atom_9 12 rfl rfl)
theorem dX6_atom_219 : decode cX6_atom 219 = .ok (.aload_n 0, 1) := dk_42 (dk_at dksX6_atom_9 13 rfl rfl)
theorem dX6_atom_220 : decode cX6_atom 220 = .ok (.iconst 2, 1) := dk_5 (dk_at dksX6_atom_9 14 rfl rfl)
theorem dX6_atom_221 : decode cX6_atom 221 = .ok (.iload_n 3, 1) := dk_29 (dk_at dksX6_atom_9 15 rfl rfl)
theorem dX6_atom_222 : decode cX6_atom 222 = .ok (.aload_n 0, 1) := dk_42 (dk_at dksX6_atom_9 16 rfl rfl)
theorem dX6_atom_223 : decode cX6_atom 223 = .ok (.getfield 50, 3) := dk_180 0 50 (dk_at dksX6_atom_9 17 rfl rfl)
theorem dX6_atom_226 : decode cX6_atom 226 = .ok (.aload_n 0, 1) := dk_42 (dk_at dksX6_atom_9 20 rfl rfl)
theorem dX6_atom_227 : decode cX6_atom 227 = .ok (.getfield 68, 3) := dk_180 0 68 (dk_at dksX6_atom_9 21 rfl rfl)
theorem dX6_atom_230 : decode cX6_atom 230 = .ok (.iaload, 1) := dk_46 (dk_at dksX6_atom_10 0 rfl rfl)
theorem dX6_atom_231 : decode cX6_atom 231 = .ok (.isub, 1) := dk_100 (dk_at dksX6_atom_10 1 rfl rfl)
theorem dX6_atom_232 : decode cX6_atom 232 = .ok (.iconst (-1), 1) := dk_2 (dk_at dksX6_atom_10 2 rfl rfl)
theorem dX6_atom_233 : decode cX6_atom 233 = .ok (.iconst 1, 1) := dk_4 (dk_at dksX6_atom_10 3 rfl rfl)
theorem dX6_atom_234 : decode cX6_atom 234 = .ok (.invokevirtual 420, 3) := dk_182 1 164 (dk_at dksX6_atom_10 4 rfl rfl)
theorem dX6_atom_237 : decode cX6_atom 237 = .ok (.ireturn, 1) := dk_172 (dk_at dksX6_atom_10 7 rfl rfl)
abbrev cX6_call : ByteArray := prog_26_method_31_code
def yX6_call : MethodName := ⟨RX6, "call", "(II)I"⟩
def dkwX6_call_4 : List UInt8 := [79, 79, 21, 5, 172]
abbrev dktX6_call_4 : List UInt8 := dkwX6_call_4 ++ []
def dkwX6_call_3 : List UInt8 := [182, 1, 164, 54, 5, 42, 180, 0, 127, 21, 5, 42, 180, 0, 62, 42, 180, 0, 68, 92, 46, 91, 4, 96]
abbrev dktX6_call_3 : List UInt8 := dkwX6_call_3 ++ dktX6_call_4
def dkwX6_call_2 : List UInt8 := [79, 42, 180, 0, 121, 21, 4, 46, 54, 4, 167, 255, 218, 42, 16, 41, 182, 1, 123, 42, 6, 27, 29, 4]
abbrev dktX6_call_2 : List UInt8 := dkwX6_call_2 ++ dktX6_call_3
def dkwX6_call_1 : List UInt8 := [16, 44, 160, 0, 35, 42, 182, 1, 49, 42, 180, 0, 121, 21, 4, 42, 42, 28, 182, 1, 168, 182, 1, 153]
abbrev dktX6_call_1 : List UInt8 := dkwX6_call_1 ++ dktX6_call_2
def dkwX6_call_0 : List UInt8 := [42, 16, 40, 182, 1, 123, 42, 42, 28, 182, 1, 168, 182, 1, 153, 62, 29, 54, 4, 42, 182, 1, 36]
abbrev dktX6_call_0 : List UInt8 := dkwX6_call_0 ++ dktX6_call_1
theorem dksX6_call_0 : cX6_call.data.toList.drop 0 = dktX6_call_0 := by decide +kernel
theorem dksX6_call_1 : cX6_call.data.toList.drop 23 = dktX6_call_1 := dk_seg dksX6_call_0 23 rfl rfl
theorem dksX6_call_2 : cX6_call.data.toList.drop 47 = dktX6_call_2 := dk_seg dksX6_call_1 24 rfl rfl
theorem dksX6_call_3 : cX6_call.data.toList.drop 71 = dktX6_call_3 := dk_seg dksX6_call_2 24 rfl rfl
theorem dksX6_call_4 : cX6_call.data.toList.drop 95 = dktX6_call_4 := dk_seg dksX6_call_3 24 rfl rfl
theorem dX6_call_0 : decode cX6_call 0 = .ok (.aload_n 0, 1) := dk_42 (dk_at dksX6_call_0 0 rfl rfl)
theorem dX6_call_1 : decode cX6_call 1 = .ok (.bipush 40, 2) := dk_16 40 (dk_at dksX6_call_0 1 rfl rfl)
theorem dX6_call_3 : decode cX6_call 3 = .ok (.invokevirtual 379, 3) := dk_182 1 123 (dk_at dksX6_call_0 3 rfl rfl)
theorem dX6_call_6 : decode cX6_call 6 = .ok (.aload_n 0, 1) := dk_42 (dk_at dksX6_call_0 6 rfl rfl)
theorem dX6_call_7 : decode cX6_call 7 = .ok (.aload_n 0, 1) := dk_42 (dk_at dksX6_call_0 7 rfl rfl)
theorem dX6_call_8 : decode cX6_call 8 = .ok (.iload_n 2, 1) := dk_28 (dk_at dksX6_call_0 8 rfl rfl)
theorem dX6_call_9 : decode cX6_call 9 = .ok (.invokevirtual 424, 3) := dk_182 1 168 (dk_at dksX6_call_0 9 rfl rfl)
theorem dX6_call_12 : decode cX6_call 12 = .ok (.invokevirtual 409, 3) := dk_182 1 153 (dk_at dksX6_call_0 12 rfl rfl)
theorem dX6_call_15 : decode cX6_call 15 = .ok (.istore_n 3, 1) := dk_62 (dk_at dksX6_call_0 15 rfl rfl)
theorem dX6_call_16 : decode cX6_call 16 = .ok (.iload_n 3, 1) := dk_29 (dk_at dksX6_call_0 16 rfl rfl)
theorem dX6_call_17 : decode cX6_call 17 = .ok (.istore 4, 2) := dk_54 4 (dk_at dksX6_call_0 17 rfl rfl)
theorem dX6_call_19 : decode cX6_call 19 = .ok (.aload_n 0, 1) := dk_42 (dk_at dksX6_call_0 19 rfl rfl)
theorem dX6_call_20 : decode cX6_call 20 = .ok (.invokevirtual 292, 3) := dk_182 1 36 (dk_at dksX6_call_0 20 rfl rfl)
theorem dX6_call_23 : decode cX6_call 23 = .ok (.bipush 44, 2) := dk_16 44 (dk_at dksX6_call_1 0 rfl rfl)
theorem dX6_call_25 : decode cX6_call 25 = .ok (.if_icmp .ne 35, 3) := dk_160 0 35 (dk_at dksX6_call_1 2 rfl rfl)
theorem dX6_call_28 : decode cX6_call 28 = .ok (.aload_n 0, 1) := dk_42 (dk_at dksX6_call_1 5 rfl rfl)
theorem dX6_call_29 : decode cX6_call 29 = .ok (.invokevirtual 305, 3) := dk_182 1 49 (dk_at dksX6_call_1 6 rfl rfl)
theorem dX6_call_32 : decode cX6_call 32 = .ok (.aload_n 0, 1) := dk_42 (dk_at dksX6_call_1 9 rfl rfl)
theorem dX6_call_33 : decode cX6_call 33 = .ok (.getfield 121, 3) := dk_180 0 121 (dk_at dksX6_call_1 10 rfl rfl)
theorem dX6_call_36 : decode cX6_call 36 = .ok (.iload 4, 2) := dk_21 4 (dk_at dksX6_call_1 13 rfl rfl)
theorem dX6_call_38 : decode cX6_call 38 = .ok (.aload_n 0, 1) := dk_42 (dk_at dksX6_call_1 15 rfl rfl)
theorem dX6_call_39 : decode cX6_call 39 = .ok (.aload_n 0, 1) := dk_42 (dk_at dksX6_call_1 16 rfl rfl)
theorem dX6_call_40 : decode cX6_call 40 = .ok (.iload_n 2, 1) := dk_28 (dk_at dksX6_call_1 17 rfl rfl)
theorem dX6_call_41 : decode cX6_call 41 = .ok (.invokevirtual 424, 3) := dk_182 1 168 (dk_at dksX6_call_1 18 rfl rfl)
theorem dX6_call_44 : decode cX6_call 44 = .ok (.invokevirtual 409, 3) := dk_182 1 153 (dk_at dksX6_call_1 21 rfl rfl)
theorem dX6_call_47 : decode cX6_call 47 = .ok (.iastore, 1) := dk_79 (dk_at dksX6_call_2 0 rfl rfl)
theorem dX6_call_48 : decode cX6_call 48 = .ok (.aload_n 0, 1) := dk_42 (dk_at dksX6_call_2 1 rfl rfl)
theorem dX6_call_49 : decode cX6_call 49 = .ok (.getfield 121, 3) := dk_180 0 121 (dk_at dksX6_call_2 2 rfl rfl)
theorem dX6_call_52 : decode cX6_call 52 = .ok (.iload 4, 2) := dk_21 4 (dk_at dksX6_call_2 5 rfl rfl)
theorem dX6_call_54 : decode cX6_call 54 = .ok (.iaload, 1) := dk_46 (dk_at dksX6_call_2 7 rfl rfl)
theorem dX6_call_55 : decode cX6_call 55 = .ok (.istore 4, 2) := dk_54 4 (dk_at dksX6_call_2 8 rfl rfl)
theorem dX6_call_57 : decode cX6_call 57 = .ok (.goto (-38), 3) := dk_167 255 218 (dk_at dksX6_call_2 10 rfl rfl)
theorem dX6_call_60 : decode cX6_call 60 = .ok (.aload_n 0, 1) := dk_42 (dk_at dksX6_call_2 13 rfl rfl)
theorem dX6_call_61 : decode cX6_call 61 = .ok (.bipush 41, 2) := dk_16 41 (dk_at dksX6_call_2 14 rfl rfl)
theorem dX6_call_63 : decode cX6_call 63 = .ok (.invokevirtual 379, 3) := dk_182 1 123 (dk_at dksX6_call_2 16 rfl rfl)
theorem dX6_call_66 : decode cX6_call 66 = .ok (.aload_n 0, 1) := dk_42 (dk_at dksX6_call_2 19 rfl rfl)
theorem dX6_call_67 : decode cX6_call 67 = .ok (.iconst 3, 1) := dk_6 (dk_at dksX6_call_2 20 rfl rfl)
theorem dX6_call_68 : decode cX6_call 68 = .ok (.iload_n 1, 1) := dk_27 (dk_at dksX6_call_2 21 rfl rfl)
theorem dX6_call_69 : decode cX6_call 69 = .ok (.iload_n 3, 1) := dk_29 (dk_at dksX6_call_2 22 rfl rfl)
theorem dX6_call_70 : decode cX6_call 70 = .ok (.iconst 1, 1) := dk_4 (dk_at dksX6_call_2 23 rfl rfl)
theorem dX6_call_71 : decode cX6_call 71 = .ok (.invokevirtual 420, 3) := dk_182 1 164 (dk_at dksX6_call_3 0 rfl rfl)
theorem dX6_call_74 : decode cX6_call 74 = .ok (.istore 5, 2) := dk_54 5 (dk_at dksX6_call_3 3 rfl rfl)
theorem dX6_call_76 : decode cX6_call 76 = .ok (.aload_n 0, 1) := dk_42 (dk_at dksX6_call_3 5 rfl rfl)
theorem dX6_call_77 : decode cX6_call 77 = .ok (.getfield 127, 3) := dk_180 0 127 (dk_at dksX6_call_3 6 rfl rfl)
theorem dX6_call_80 : decode cX6_call 80 = .ok (.iload 5, 2) := dk_21 5 (dk_at dksX6_call_3 9 rfl rfl)
theorem dX6_call_82 : decode cX6_call 82 = .ok (.aload_n 0, 1) := dk_42 (dk_at dksX6_call_3 11 rfl rfl)
theorem dX6_call_83 : decode cX6_call 83 = .ok (.getfield 62, 3) := dk_180 0 62 (dk_at dksX6_call_3 12 rfl rfl)
theorem dX6_call_86 : decode cX6_call 86 = .ok (.aload_n 0, 1) := dk_42 (dk_at dksX6_call_3 15 rfl rfl)
theorem dX6_call_87 : decode cX6_call 87 = .ok (.getfield 68, 3) := dk_180 0 68 (dk_at dksX6_call_3 16 rfl rfl)
theorem dX6_call_90 : decode cX6_call 90 = .ok (.dup2, 1) := dk_92 (dk_at dksX6_call_3 19 rfl rfl)
theorem dX6_call_91 : decode cX6_call 91 = .ok (.iaload, 1) := dk_46 (dk_at dksX6_call_3 20 rfl rfl)
theorem dX6_call_92 : decode cX6_call 92 = .ok (.dup_x2, 1) := dk_91 (dk_at dksX6_call_3 21 rfl rfl)
theorem dX6_call_93 : decode cX6_call 93 = .ok (.iconst 1, 1) := dk_4 (dk_at dksX6_call_3 22 rfl rfl)
theorem dX6_call_94 : decode cX6_call 94 = .ok (.iadd, 1) := dk_96 (dk_at dksX6_call_3 23 rfl rfl)
theorem dX6_call_95 : decode cX6_call 95 = .ok (.iastore, 1) := dk_79 (dk_at dksX6_call_4 0 rfl rfl)
theorem dX6_call_96 : decode cX6_call 96 = .ok (.iastore, 1) := dk_79 (dk_at dksX6_call_4 1 rfl rfl)
theorem dX6_call_97 : decode cX6_call 97 = .ok (.iload 5, 2) := dk_21 5 (dk_at dksX6_call_4 2 rfl rfl)
theorem dX6_call_99 : decode cX6_call 99 = .ok (.ireturn, 1) := dk_172 (dk_at dksX6_call_4 4 rfl rfl)
abbrev cX6_two : ByteArray := prog_26_method_30_code
def yX6_two : MethodName := ⟨RX6, "two", "(III)I"⟩
def dkwX6_two_0 : List UInt8 := [42, 180, 0, 121, 28, 29, 79, 42, 27, 3, 28, 4, 182, 1, 164, 172]
abbrev dktX6_two_0 : List UInt8 := dkwX6_two_0 ++ []
theorem dksX6_two_0 : cX6_two.data.toList.drop 0 = dktX6_two_0 := by decide +kernel
theorem dX6_two_0 : decode cX6_two 0 = .ok (.aload_n 0, 1) := dk_42 (dk_at dksX6_two_0 0 rfl rfl)
theorem dX6_two_1 : decode cX6_two 1 = .ok (.getfield 121, 3) := dk_180 0 121 (dk_at dksX6_two_0 1 rfl rfl)
theorem dX6_two_4 : decode cX6_two 4 = .ok (.iload_n 2, 1) := dk_28 (dk_at dksX6_two_0 4 rfl rfl)
theorem dX6_two_5 : decode cX6_two 5 = .ok (.iload_n 3, 1) := dk_29 (dk_at dksX6_two_0 5 rfl rfl)
theorem dX6_two_6 : decode cX6_two 6 = .ok (.iastore, 1) := dk_79 (dk_at dksX6_two_0 6 rfl rfl)
theorem dX6_two_7 : decode cX6_two 7 = .ok (.aload_n 0, 1) := dk_42 (dk_at dksX6_two_0 7 rfl rfl)
theorem dX6_two_8 : decode cX6_two 8 = .ok (.iload_n 1, 1) := dk_27 (dk_at dksX6_two_0 8 rfl rfl)
theorem dX6_two_9 : decode cX6_two 9 = .ok (.iconst 0, 1) := dk_3 (dk_at dksX6_two_0 9 rfl rfl)
theorem dX6_two_10 : decode cX6_two 10 = .ok (.iload_n 2, 1) := dk_28 (dk_at dksX6_two_0 10 rfl rfl)
theorem dX6_two_11 : decode cX6_two 11 = .ok (.iconst 1, 1) := dk_4 (dk_at dksX6_two_0 11 rfl rfl)
theorem dX6_two_12 : decode cX6_two 12 = .ok (.invokevirtual 420, 3) := dk_182 1 164 (dk_at dksX6_two_0 12 rfl rfl)
theorem dX6_two_15 : decode cX6_two 15 = .ok (.ireturn, 1) := dk_172 (dk_at dksX6_two_0 15 rfl rfl)
abbrev cX6_judge : ByteArray := prog_26_method_44_code
def yX6_judge : MethodName := ⟨RX6, "judge", "(I)V"⟩
def dkwX6_judge_11 : List UInt8 := [96, 46, 182, 1, 208, 182, 1, 211, 54, 5, 132, 6, 1, 167, 255, 221, 177]
abbrev dktX6_judge_11 : List UInt8 := dkwX6_judge_11 ++ []
def dkwX6_judge_10 : List UInt8 := [54, 6, 21, 6, 29, 162, 0, 35, 42, 21, 5, 42, 42, 180, 0, 100, 42, 180, 0, 93, 27, 46, 21, 6]
abbrev dktX6_judge_10 : List UInt8 := dkwX6_judge_10 ++ dktX6_judge_11
def dkwX6_judge_9 : List UInt8 := [163, 0, 15, 42, 21, 5, 182, 1, 205, 132, 5, 1, 167, 255, 241, 42, 180, 0, 124, 28, 46, 54, 5, 3]
abbrev dktX6_judge_9 : List UInt8 := dkwX6_judge_9 ++ dktX6_judge_10
def dkwX6_judge_8 : List UInt8 := [167, 0, 4, 3, 182, 1, 202, 132, 5, 1, 167, 255, 161, 42, 180, 0, 103, 27, 46, 54, 5, 21, 5, 28]
abbrev dktX6_judge_8 : List UInt8 := dkwX6_judge_8 ++ dktX6_judge_9
def dkwX6_judge_7 : List UInt8 := [180, 0, 115, 28, 46, 46, 96, 21, 5, 96, 51, 167, 0, 9, 42, 180, 0, 139, 28, 51, 160, 0, 7, 4]
abbrev dktX6_judge_7 : List UInt8 := dkwX6_judge_7 ++ dktX6_judge_8
def dkwX6_judge_6 : List UInt8 := [153, 0, 37, 42, 180, 0, 86, 42, 180, 0, 50, 42, 180, 0, 115, 28, 46, 46, 42, 180, 0, 53, 42]
abbrev dktX6_judge_6 : List UInt8 := dkwX6_judge_6 ++ dktX6_judge_7
def dkwX6_judge_5 : List UInt8 := [180, 0, 68, 46, 42, 180, 0, 100, 42, 180, 0, 93, 27, 46, 21, 5, 96, 46, 96, 51, 21, 4]
abbrev dktX6_judge_5 : List UInt8 := dkwX6_judge_5 ++ dktX6_judge_6
def dkwX6_judge_4 : List UInt8 := [167, 255, 225, 3, 54, 5, 21, 5, 29, 162, 0, 95, 42, 42, 180, 0, 86, 42, 180, 0, 50, 42]
abbrev dktX6_judge_4 : List UInt8 := dkwX6_judge_4 ++ dktX6_judge_5
def dkwX6_judge_3 : List UInt8 := [21, 5, 28, 160, 0, 12, 21, 4, 153, 0, 7, 29, 167, 0, 4, 4, 182, 1, 199, 132, 5, 1]
abbrev dktX6_judge_3 : List UInt8 := dkwX6_judge_3 ++ dktX6_judge_4
def dkwX6_judge_2 : List UInt8 := [167, 0, 4, 3, 54, 4, 42, 180, 0, 103, 27, 46, 54, 5, 21, 5, 28, 163, 0, 31, 42, 21, 5]
abbrev dktX6_judge_2 : List UInt8 := dkwX6_judge_2 ++ dktX6_judge_3
def dkwX6_judge_1 : List UInt8 := [46, 42, 180, 0, 93, 27, 46, 100, 62, 42, 180, 0, 8, 42, 180, 0, 142, 51, 16, 40, 160, 0, 7, 4]
abbrev dktX6_judge_1 : List UInt8 := dkwX6_judge_1 ++ dktX6_judge_2
def dkwX6_judge_0 : List UInt8 := [42, 42, 180, 0, 90, 27, 46, 181, 0, 142, 42, 180, 0, 96, 27, 46, 61, 42, 180, 0, 93, 27, 4, 96]
abbrev dktX6_judge_0 : List UInt8 := dkwX6_judge_0 ++ dktX6_judge_1
theorem dksX6_judge_0 : cX6_judge.data.toList.drop 0 = dktX6_judge_0 := by decide +kernel
theorem dksX6_judge_1 : cX6_judge.data.toList.drop 24 = dktX6_judge_1 := dk_seg dksX6_judge_0 24 rfl rfl
theorem dksX6_judge_2 : cX6_judge.data.toList.drop 48 = dktX6_judge_2 := dk_seg dksX6_judge_1 24 rfl rfl
theorem dksX6_judge_3 : cX6_judge.data.toList.drop 71 = dktX6_judge_3 := dk_seg dksX6_judge_2 23 rfl rfl
theorem dksX6_judge_4 : cX6_judge.data.toList.drop 93 = dktX6_judge_4 := dk_seg dksX6_judge_3 22 rfl rfl
theorem dksX6_judge_5 : cX6_judge.data.toList.drop 115 = dktX6_judge_5 := dk_seg dksX6_judge_4 22 rfl rfl
theorem dksX6_judge_6 : cX6_judge.data.toList.drop 137 = dktX6_judge_6 := dk_seg dksX6_judge_5 22 rfl rfl
theorem dksX6_judge_7 : cX6_judge.data.toList.drop 160 = dktX6_judge_7 := dk_seg dksX6_judge_6 23 rfl rfl
theorem dksX6_judge_8 : cX6_judge.data.toList.drop 184 = dktX6_judge_8 := dk_seg dksX6_judge_7 24 rfl rfl
theorem dksX6_judge_9 : cX6_judge.data.toList.drop 208 = dktX6_judge_9 := dk_seg dksX6_judge_8 24 rfl rfl
theorem dksX6_judge_10 : cX6_judge.data.toList.drop 232 = dktX6_judge_10 := dk_seg dksX6_judge_9 24 rfl rfl
theorem dksX6_judge_11 : cX6_judge.data.toList.drop 256 = dktX6_judge_11 := dk_seg dksX6_judge_10 24 rfl rfl
theorem dX6_judge_0 : decode cX6_judge 0 = .ok (.aload_n 0, 1) := dk_42 (dk_at dksX6_judge_0 0 rfl rfl)
theorem dX6_judge_1 : decode cX6_judge 1 = .ok (.aload_n 0, 1) := dk_42 (dk_at dksX6_judge_0 1 rfl rfl)
theorem dX6_judge_2 : decode cX6_judge 2 = .ok (.getfield 90, 3) := dk_180 0 90 (dk_at dksX6_judge_0 2 rfl rfl)
theorem dX6_judge_5 : decode cX6_judge 5 = .ok (.iload_n 1, 1) := dk_27 (dk_at dksX6_judge_0 5 rfl rfl)
theorem dX6_judge_6 : decode cX6_judge 6 = .ok (.iaload, 1) := dk_46 (dk_at dksX6_judge_0 6 rfl rfl)
theorem dX6_judge_7 : decode cX6_judge 7 = .ok (.putfield 142, 3) := dk_181 0 142 (dk_at dksX6_judge_0 7 rfl rfl)
theorem dX6_judge_10 : decode cX6_judge 10 = .ok (.aload_n 0, 1) := dk_42 (dk_at dksX6_judge_0 10 rfl rfl)
theorem dX6_judge_11 : decode cX6_judge 11 = .ok (.getfield 96, 3) := dk_180 0 96 (dk_at dksX6_judge_0 11 rfl rfl)
theorem dX6_judge_14 : decode cX6_judge 14 = .ok (.iload_n 1, 1) := dk_27 (dk_at dksX6_judge_0 14 rfl rfl)
theorem dX6_judge_15 : decode cX6_judge 15 = .ok (.iaload, 1) := dk_46 (dk_at dksX6_judge_0 15 rfl rfl)
theorem dX6_judge_16 : decode cX6_judge 16 = .ok (.istore_n 2, 1) := dk_61 (dk_at dksX6_judge_0 16 rfl rfl)
theorem dX6_judge_17 : decode cX6_judge 17 = .ok (.aload_n 0, 1) := dk_42 (dk_at dksX6_judge_0 17 rfl rfl)
theorem dX6_judge_18 : decode cX6_judge 18 = .ok (.getfield 93, 3) := dk_180 0 93 (dk_at dksX6_judge_0 18 rfl rfl)
theorem dX6_judge_21 : decode cX6_judge 21 = .ok (.iload_n 1, 1) := dk_27 (dk_at dksX6_judge_0 21 rfl rfl)
theorem dX6_judge_22 : decode cX6_judge 22 = .ok (.iconst 1, 1) := dk_4 (dk_at dksX6_judge_0 22 rfl rfl)
theorem dX6_judge_23 : decode cX6_judge 23 = .ok (.iadd, 1) := dk_96 (dk_at dksX6_judge_0 23 rfl rfl)
theorem dX6_judge_24 : decode cX6_judge 24 = .ok (.iaload, 1) := dk_46 (dk_at dksX6_judge_1 0 rfl rfl)
theorem dX6_judge_25 : decode cX6_judge 25 = .ok (.aload_n 0, 1) := dk_42 (dk_at dksX6_judge_1 1 rfl rfl)
theorem dX6_judge_26 : decode cX6_judge 26 = .ok (.getfield 93, 3) := dk_180 0 93 (dk_at dksX6_judge_1 2 rfl rfl)
theorem dX6_judge_29 : decode cX6_judge 29 = .ok (.iload_n 1, 1) := dk_27 (dk_at dksX6_judge_1 5 rfl rfl)
theorem dX6_judge_30 : decode cX6_judge 30 = .ok (.iaload, 1) := dk_46 (dk_at dksX6_judge_1 6 rfl rfl)
theorem dX6_judge_31 : decode cX6_judge 31 = .ok (.isub, 1) := dk_100 (dk_at dksX6_judge_1 7 rfl rfl)
theorem dX6_judge_32 : decode cX6_judge 32 = .ok (.istore_n 3, 1) := dk_62 (dk_at dksX6_judge_1 8 rfl rfl)
theorem dX6_judge_33 : decode cX6_judge 33 = .ok (.aload_n 0, 1) := dk_42 (dk_at dksX6_judge_1 9 rfl rfl)
theorem dX6_judge_34 : decode cX6_judge 34 = .ok (.getfield 8, 3) := dk_180 0 8 (dk_at dksX6_judge_1 10 rfl rfl)
theorem dX6_judge_37 : decode cX6_judge 37 = .ok (.aload_n 0, 1) := dk_42 (dk_at dksX6_judge_1 13 rfl rfl)
theorem dX6_judge_38 : decode cX6_judge 38 = .ok (.getfield 142, 3) := dk_180 0 142 (dk_at dksX6_judge_1 14 rfl rfl)
theorem dX6_judge_41 : decode cX6_judge 41 = .ok (.baload, 1) := dk_51 (dk_at dksX6_judge_1 17 rfl rfl)
theorem dX6_judge_42 : decode cX6_judge 42 = .ok (.bipush 40, 2) := dk_16 40 (dk_at dksX6_judge_1 18 rfl rfl)
theorem dX6_judge_44 : decode cX6_judge 44 = .ok (.if_icmp .ne 7, 3) := dk_160 0 7 (dk_at dksX6_judge_1 20 rfl rfl)
theorem dX6_judge_47 : decode cX6_judge 47 = .ok (.iconst 1, 1) := dk_4 (dk_at dksX6_judge_1 23 rfl rfl)
theorem dX6_judge_48 : decode cX6_judge 48 = .ok (.goto 4, 3) := dk_167 0 4 (dk_at dksX6_judge_2 0 rfl rfl)
theorem dX6_judge_51 : decode cX6_judge 51 = .ok (.iconst 0, 1) := dk_3 (dk_at dksX6_judge_2 3 rfl rfl)
theorem dX6_judge_52 : decode cX6_judge 52 = .ok (.istore 4, 2) := dk_54 4 (dk_at dksX6_judge_2 4 rfl rfl)
theorem dX6_judge_54 : decode cX6_judge 54 = .ok (.aload_n 0, 1) := dk_42 (dk_at dksX6_judge_2 6 rfl rfl)
theorem dX6_judge_55 : decode cX6_judge 55 = .ok (.getfield 103, 3) := dk_180 0 103 (dk_at dksX6_judge_2 7 rfl rfl)
theorem dX6_judge_58 : decode cX6_judge 58 = .ok (.iload_n 1, 1) := dk_27 (dk_at dksX6_judge_2 10 rfl rfl)
theorem dX6_judge_59 : decode cX6_judge 59 = .ok (.iaload, 1) := dk_46 (dk_at dksX6_judge_2 11 rfl rfl)
theorem dX6_judge_60 : decode cX6_judge 60 = .ok (.istore 5, 2) := dk_54 5 (dk_at dksX6_judge_2 12 rfl rfl)
theorem dX6_judge_62 : decode cX6_judge 62 = .ok (.iload 5, 2) := dk_21 5 (dk_at dksX6_judge_2 14 rfl rfl)
theorem dX6_judge_64 : decode cX6_judge 64 = .ok (.iload_n 2, 1) := dk_28 (dk_at dksX6_judge_2 16 rfl rfl)
theorem dX6_judge_65 : decode cX6_judge 65 = .ok (.if_icmp .gt 31, 3) := dk_163 0 31 (dk_at dksX6_judge_2 17 rfl rfl)
theorem dX6_judge_68 : decode cX6_judge 68 = .ok (.aload_n 0, 1) := dk_42 (dk_at dksX6_judge_2 20 rfl rfl)
theorem dX6_judge_69 : decode cX6_judge 69 = .ok (.iload 5, 2) := dk_21 5 (dk_at dksX6_judge_2 21 rfl rfl)
theorem dX6_judge_71 : decode cX6_judge 71 = .ok (.iload 5, 2) := dk_21 5 (dk_at dksX6_judge_3 0 rfl rfl)
theorem dX6_judge_73 : decode cX6_judge 73 = .ok (.iload_n 2, 1) := dk_28 (dk_at dksX6_judge_3 2 rfl rfl)
theorem dX6_judge_74 : decode cX6_judge 74 = .ok (.if_icmp .ne 12, 3) := dk_160 0 12 (dk_at dksX6_judge_3 3 rfl rfl)
theorem dX6_judge_77 : decode cX6_judge 77 = .ok (.iload 4, 2) := dk_21 4 (dk_at dksX6_judge_3 6 rfl rfl)
theorem dX6_judge_79 : decode cX6_judge 79 = .ok (.ifCond .eq 7, 3) := dk_153 0 7 (dk_at dksX6_judge_3 8 rfl rfl)
theorem dX6_judge_82 : decode cX6_judge 82 = .ok (.iload_n 3, 1) := dk_29 (dk_at dksX6_judge_3 11 rfl rfl)
theorem dX6_judge_83 : decode cX6_judge 83 = .ok (.goto 4, 3) := dk_167 0 4 (dk_at dksX6_judge_3 12 rfl rfl)
theorem dX6_judge_86 : decode cX6_judge 86 = .ok (.iconst 1, 1) := dk_4 (dk_at dksX6_judge_3 15 rfl rfl)
theorem dX6_judge_87 : decode cX6_judge 87 = .ok (.invokevirtual 455, 3) := dk_182 1 199 (dk_at dksX6_judge_3 16 rfl rfl)
theorem dX6_judge_90 : decode cX6_judge 90 = .ok (.iinc 5 1, 3) := dk_132 5 1 (dk_at dksX6_judge_3 19 rfl rfl)
theorem dX6_judge_93 : decode cX6_judge 93 = .ok (.goto (-31), 3) := dk_167 255 225 (dk_at dksX6_judge_4 0 rfl rfl)
theorem dX6_judge_96 : decode cX6_judge 96 = .ok (.iconst 0, 1) := dk_3 (dk_at dksX6_judge_4 3 rfl rfl)
theorem dX6_judge_97 : decode cX6_judge 97 = .ok (.istore 5, 2) := dk_54 5 (dk_at dksX6_judge_4 4 rfl rfl)
theorem dX6_judge_99 : decode cX6_judge 99 = .ok (.iload 5, 2) := dk_21 5 (dk_at dksX6_judge_4 6 rfl rfl)
theorem dX6_judge_101 : decode cX6_judge 101 = .ok (.iload_n 3, 1) := dk_29 (dk_at dksX6_judge_4 8 rfl rfl)
theorem dX6_judge_102 : decode cX6_judge 102 = .ok (.if_icmp .ge 95, 3) := dk_162 0 95 (dk_at dksX6_judge_4 9 rfl rfl)
theorem dX6_judge_105 : decode cX6_judge 105 = .ok (.aload_n 0, 1) := dk_42 (dk_at dksX6_judge_4 12 rfl rfl)
theorem dX6_judge_106 : decode cX6_judge 106 = .ok (.aload_n 0, 1) := dk_42 (dk_at dksX6_judge_4 13 rfl rfl)
theorem dX6_judge_107 : decode cX6_judge 107 = .ok (.getfield 86, 3) := dk_180 0 86 (dk_at dksX6_judge_4 14 rfl rfl)
theorem dX6_judge_110 : decode cX6_judge 110 = .ok (.aload_n 0, 1) := dk_42 (dk_at dksX6_judge_4 17 rfl rfl)
theorem dX6_judge_111 : decode cX6_judge 111 = .ok (.getfield 50, 3) := dk_180 0 50 (dk_at dksX6_judge_4 18 rfl rfl)
theorem dX6_judge_114 : decode cX6_judge 114 = .ok (.aload_n 0, 1) := dk_42 (dk_at dksX6_judge_4 21 rfl rfl)
theorem dX6_judge_115 : decode cX6_judge 115 = .ok (.getfield 68, 3) := dk_180 0 68 (dk_at dksX6_judge_5 0 rfl rfl)
theorem dX6_judge_118 : decode cX6_judge 118 = .ok (.iaload, 1) := dk_46 (dk_at dksX6_judge_5 3 rfl rfl)
theorem dX6_judge_119 : decode cX6_judge 119 = .ok (.aload_n 0, 1) := dk_42 (dk_at dksX6_judge_5 4 rfl rfl)
theorem dX6_judge_120 : decode cX6_judge 120 = .ok (.getfield 100, 3) := dk_180 0 100 (dk_at dksX6_judge_5 5 rfl rfl)
theorem dX6_judge_123 : decode cX6_judge 123 = .ok (.aload_n 0, 1) := dk_42 (dk_at dksX6_judge_5 8 rfl rfl)
theorem dX6_judge_124 : decode cX6_judge 124 = .ok (.getfield 93, 3) := dk_180 0 93 (dk_at dksX6_judge_5 9 rfl rfl)
theorem dX6_judge_127 : decode cX6_judge 127 = .ok (.iload_n 1, 1) := dk_27 (dk_at dksX6_judge_5 12 rfl rfl)
theorem dX6_judge_128 : decode cX6_judge 128 = .ok (.iaload, 1) := dk_46 (dk_at dksX6_judge_5 13 rfl rfl)
theorem dX6_judge_129 : decode cX6_judge 129 = .ok (.iload 5, 2) := dk_21 5 (dk_at dksX6_judge_5 14 rfl rfl)
theorem dX6_judge_131 : decode cX6_judge 131 = .ok (.iadd, 1) := dk_96 (dk_at dksX6_judge_5 16 rfl rfl)
theorem dX6_judge_132 : decode cX6_judge 132 = .ok (.iaload, 1) := dk_46 (dk_at dksX6_judge_5 17 rfl rfl)
theorem dX6_judge_133 : decode cX6_judge 133 = .ok (.iadd, 1) := dk_96 (dk_at dksX6_judge_5 18 rfl rfl)
theorem dX6_judge_134 : decode cX6_judge 134 = .ok (.baload, 1) := dk_51 (dk_at dksX6_judge_5 19 rfl rfl)
theorem dX6_judge_135 : decode cX6_judge 135 = .ok (.iload 4, 2) := dk_21 4 (dk_at dksX6_judge_5 20 rfl rfl)
theorem dX6_judge_137 : decode cX6_judge 137 = .ok (.ifCond .eq 37, 3) := dk_153 0 37 (dk_at dksX6_judge_6 0 rfl rfl)
theorem dX6_judge_140 : decode cX6_judge 140 = .ok (.aload_n 0, 1) := dk_42 (dk_at dksX6_judge_6 3 rfl rfl)
theorem dX6_judge_141 : decode cX6_judge 141 = .ok (.getfield 86, 3) := dk_180 0 86 (dk_at dksX6_judge_6 4 rfl rfl)
theorem dX6_judge_144 : decode cX6_judge 144 = .ok (.aload_n 0, 1) := dk_42 (dk_at dksX6_judge_6 7 rfl rfl)
theorem dX6_judge_145 : decode cX6_judge 145 = .ok (.getfield 50, 3) := dk_180 0 50 (dk_at dksX6_judge_6 8 rfl rfl)
theorem dX6_judge_148 : decode cX6_judge 148 = .ok (.aload_n 0, 1) := dk_42 (dk_at dksX6_judge_6 11 rfl rfl)
theorem dX6_judge_149 : decode cX6_judge 149 = .ok (.getfield 115, 3) := dk_180 0 115 (dk_at dksX6_judge_6 12 rfl rfl)
theorem dX6_judge_152 : decode cX6_judge 152 = .ok (.iload_n 2, 1) := dk_28 (dk_at dksX6_judge_6 15 rfl rfl)
theorem dX6_judge_153 : decode cX6_judge 153 = .ok (.iaload, 1) := dk_46 (dk_at dksX6_judge_6 16 rfl rfl)
theorem dX6_judge_154 : decode cX6_judge 154 = .ok (.iaload, 1) := dk_46 (dk_at dksX6_judge_6 17 rfl rfl)
theorem dX6_judge_155 : decode cX6_judge 155 = .ok (.aload_n 0, 1) := dk_42 (dk_at dksX6_judge_6 18 rfl rfl)
theorem dX6_judge_156 : decode cX6_judge 156 = .ok (.getfield 53, 3) := dk_180 0 53 (dk_at dksX6_judge_6 19 rfl rfl)
theorem dX6_judge_159 : decode cX6_judge 159 = .ok (.aload_n 0, 1) := dk_42 (dk_at dksX6_judge_6 22 rfl rfl)
theorem dX6_judge_160 : decode cX6_judge 160 = .ok (.getfield 115, 3) := dk_180 0 115 (dk_at dksX6_judge_7 0 rfl rfl)
theorem dX6_judge_163 : decode cX6_judge 163 = .ok (.iload_n 2, 1) := dk_28 (dk_at dksX6_judge_7 3 rfl rfl)
theorem dX6_judge_164 : decode cX6_judge 164 = .ok (.iaload, 1) := dk_46 (dk_at dksX6_judge_7 4 rfl rfl)
theorem dX6_judge_165 : decode cX6_judge 165 = .ok (.iaload, 1) := dk_46 (dk_at dksX6_judge_7 5 rfl rfl)
theorem dX6_judge_166 : decode cX6_judge 166 = .ok (.iadd, 1) := dk_96 (dk_at dksX6_judge_7 6 rfl rfl)
theorem dX6_judge_167 : decode cX6_judge 167 = .ok (.iload 5, 2) := dk_21 5 (dk_at dksX6_judge_7 7 rfl rfl)
theorem dX6_judge_169 : decode cX6_judge 169 = .ok (.iadd, 1) := dk_96 (dk_at dksX6_judge_7 9 rfl rfl)
theorem dX6_judge_170 : decode cX6_judge 170 = .ok (.baload, 1) := dk_51 (dk_at dksX6_judge_7 10 rfl rfl)
theorem dX6_judge_171 : decode cX6_judge 171 = .ok (.goto 9, 3) := dk_167 0 9 (dk_at dksX6_judge_7 11 rfl rfl)
theorem dX6_judge_174 : decode cX6_judge 174 = .ok (.aload_n 0, 1) := dk_42 (dk_at dksX6_judge_7 14 rfl rfl)
theorem dX6_judge_175 : decode cX6_judge 175 = .ok (.getfield 139, 3) := dk_180 0 139 (dk_at dksX6_judge_7 15 rfl rfl)
theorem dX6_judge_178 : decode cX6_judge 178 = .ok (.iload_n 2, 1) := dk_28 (dk_at dksX6_judge_7 18 rfl rfl)
theorem dX6_judge_179 : decode cX6_judge 179 = .ok (.baload, 1) := dk_51 (dk_at dksX6_judge_7 19 rfl rfl)
theorem dX6_judge_180 : decode cX6_judge 180 = .ok (.if_icmp .ne 7, 3) := dk_160 0 7 (dk_at dksX6_judge_7 20 rfl rfl)
theorem dX6_judge_183 : decode cX6_judge 183 = .ok (.iconst 1, 1) := dk_4 (dk_at dksX6_judge_7 23 rfl rfl)
theorem dX6_judge_184 : decode cX6_judge 184 = .ok (.goto 4, 3) := dk_167 0 4 (dk_at dksX6_judge_8 0 rfl rfl)
theorem dX6_judge_187 : decode cX6_judge 187 = .ok (.iconst 0, 1) := dk_3 (dk_at dksX6_judge_8 3 rfl rfl)
theorem dX6_judge_188 : decode cX6_judge 188 = .ok (.invokevirtual 458, 3) := dk_182 1 202 (dk_at dksX6_judge_8 4 rfl rfl)
theorem dX6_judge_191 : decode cX6_judge 191 = .ok (.iinc 5 1, 3) := dk_132 5 1 (dk_at dksX6_judge_8 7 rfl rfl)
theorem dX6_judge_194 : decode cX6_judge 194 = .ok (.goto (-95), 3) := dk_167 255 161 (dk_at dksX6_judge_8 10 rfl rfl)
theorem dX6_judge_197 : decode cX6_judge 197 = .ok (.aload_n 0, 1) := dk_42 (dk_at dksX6_judge_8 13 rfl rfl)
theorem dX6_judge_198 : decode cX6_judge 198 = .ok (.getfield 103, 3) := dk_180 0 103 (dk_at dksX6_judge_8 14 rfl rfl)
theorem dX6_judge_201 : decode cX6_judge 201 = .ok (.iload_n 1, 1) := dk_27 (dk_at dksX6_judge_8 17 rfl rfl)
theorem dX6_judge_202 : decode cX6_judge 202 = .ok (.iaload, 1) := dk_46 (dk_at dksX6_judge_8 18 rfl rfl)
theorem dX6_judge_203 : decode cX6_judge 203 = .ok (.istore 5, 2) := dk_54 5 (dk_at dksX6_judge_8 19 rfl rfl)
theorem dX6_judge_205 : decode cX6_judge 205 = .ok (.iload 5, 2) := dk_21 5 (dk_at dksX6_judge_8 21 rfl rfl)
theorem dX6_judge_207 : decode cX6_judge 207 = .ok (.iload_n 2, 1) := dk_28 (dk_at dksX6_judge_8 23 rfl rfl)
theorem dX6_judge_208 : decode cX6_judge 208 = .ok (.if_icmp .gt 15, 3) := dk_163 0 15 (dk_at dksX6_judge_9 0 rfl rfl)
theorem dX6_judge_211 : decode cX6_judge 211 = .ok (.aload_n 0, 1) := dk_42 (dk_at dksX6_judge_9 3 rfl rfl)
theorem dX6_judge_212 : decode cX6_judge 212 = .ok (.iload 5, 2) := dk_21 5 (dk_at dksX6_judge_9 4 rfl rfl)
theorem dX6_judge_214 : decode cX6_judge 214 = .ok (.invokevirtual 461, 3) := dk_182 1 205 (dk_at dksX6_judge_9 6 rfl rfl)
theorem dX6_judge_217 : decode cX6_judge 217 = .ok (.iinc 5 1, 3) := dk_132 5 1 (dk_at dksX6_judge_9 9 rfl rfl)
theorem dX6_judge_220 : decode cX6_judge 220 = .ok (.goto (-15), 3) := dk_167 255 241 (dk_at dksX6_judge_9 12 rfl rfl)
theorem dX6_judge_223 : decode cX6_judge 223 = .ok (.aload_n 0, 1) := dk_42 (dk_at dksX6_judge_9 15 rfl rfl)
theorem dX6_judge_224 : decode cX6_judge 224 = .ok (.getfield 124, 3) := dk_180 0 124 (dk_at dksX6_judge_9 16 rfl rfl)
theorem dX6_judge_227 : decode cX6_judge 227 = .ok (.iload_n 2, 1) := dk_28 (dk_at dksX6_judge_9 19 rfl rfl)
theorem dX6_judge_228 : decode cX6_judge 228 = .ok (.iaload, 1) := dk_46 (dk_at dksX6_judge_9 20 rfl rfl)
theorem dX6_judge_229 : decode cX6_judge 229 = .ok (.istore 5, 2) := dk_54 5 (dk_at dksX6_judge_9 21 rfl rfl)
theorem dX6_judge_231 : decode cX6_judge 231 = .ok (.iconst 0, 1) := dk_3 (dk_at dksX6_judge_9 23 rfl rfl)
theorem dX6_judge_232 : decode cX6_judge 232 = .ok (.istore 6, 2) := dk_54 6 (dk_at dksX6_judge_10 0 rfl rfl)
theorem dX6_judge_234 : decode cX6_judge 234 = .ok (.iload 6, 2) := dk_21 6 (dk_at dksX6_judge_10 2 rfl rfl)
theorem dX6_judge_236 : decode cX6_judge 236 = .ok (.iload_n 3, 1) := dk_29 (dk_at dksX6_judge_10 4 rfl rfl)
theorem dX6_judge_237 : decode cX6_judge 237 = .ok (.if_icmp .ge 35, 3) := dk_162 0 35 (dk_at dksX6_judge_10 5 rfl rfl)
theorem dX6_judge_240 : decode cX6_judge 240 = .ok (.aload_n 0, 1) := dk_42 (dk_at dksX6_judge_10 8 rfl rfl)
theorem dX6_judge_241 : decode cX6_judge 241 = .ok (.iload 5, 2) := dk_21 5 (dk_at dksX6_judge_10 9 rfl rfl)
theorem dX6_judge_243 : decode cX6_judge 243 = .ok (.aload_n 0, 1) := dk_42 (dk_at dksX6_judge_10 11 rfl rfl)
theorem dX6_judge_244 : decode cX6_judge 244 = .ok (.aload_n 0, 1) := dk_42 (dk_at dksX6_judge_10 12 rfl rfl)
theorem dX6_judge_245 : decode cX6_judge 245 = .ok (.getfield 100, 3) := dk_180 0 100 (dk_at dksX6_judge_10 13 rfl rfl)
theorem dX6_judge_248 : decode cX6_judge 248 = .ok (.aload_n 0, 1) := dk_42 (dk_at dksX6_judge_10 16 rfl rfl)
theorem dX6_judge_249 : decode cX6_judge 249 = .ok (.getfield 93, 3) := dk_180 0 93 (dk_at dksX6_judge_10 17 rfl rfl)
theorem dX6_judge_252 : decode cX6_judge 252 = .ok (.iload_n 1, 1) := dk_27 (dk_at dksX6_judge_10 20 rfl rfl)
theorem dX6_judge_253 : decode cX6_judge 253 = .ok (.iaload, 1) := dk_46 (dk_at dksX6_judge_10 21 rfl rfl)
theorem dX6_judge_254 : decode cX6_judge 254 = .ok (.iload 6, 2) := dk_21 6 (dk_at dksX6_judge_10 22 rfl rfl)
theorem dX6_judge_256 : decode cX6_judge 256 = .ok (.iadd, 1) := dk_96 (dk_at dksX6_judge_11 0 rfl rfl)
theorem dX6_judge_257 : decode cX6_judge 257 = .ok (.iaload, 1) := dk_46 (dk_at dksX6_judge_11 1 rfl rfl)
theorem dX6_judge_258 : decode cX6_judge 258 = .ok (.invokevirtual 464, 3) := dk_182 1 208 (dk_at dksX6_judge_11 2 rfl rfl)
theorem dX6_judge_261 : decode cX6_judge 261 = .ok (.invokevirtual 467, 3) := dk_182 1 211 (dk_at dksX6_judge_11 5 rfl rfl)
theorem dX6_judge_264 : decode cX6_judge 264 = .ok (.istore 5, 2) := dk_54 5 (dk_at dksX6_judge_11 8 rfl rfl)
theorem dX6_judge_266 : decode cX6_judge 266 = .ok (.iinc 6 1, 3) := dk_132 6 1 (dk_at dksX6_judge_11 10 rfl rfl)
theorem dX6_judge_269 : decode cX6_judge 269 = .ok (.goto (-35), 3) := dk_167 255 221 (dk_at dksX6_judge_11 13 rfl rfl)
theorem dX6_judge_272 : decode cX6_judge 272 = .ok (.return_, 1) := dk_177 (dk_at dksX6_judge_11 16 rfl rfl)
abbrev cX6_look : ByteArray := prog_26_method_45_code
def yX6_look : MethodName := ⟨RX6, "look", "(II)V"⟩
def dkwX6_look_25 : List UInt8 := [167, 0, 16, 42, 180, 0, 139, 27, 42, 180, 0, 139, 21, 4, 51, 84, 177]
abbrev dktX6_look_25 : List UInt8 := dkwX6_look_25 ++ []
def dkwX6_look_24 : List UInt8 := [3, 84, 167, 0, 37, 42, 42, 180, 0, 139, 21, 4, 51, 182, 1, 202, 42, 180, 0, 139, 27, 4, 84]
abbrev dktX6_look_24 : List UInt8 := dkwX6_look_24 ++ dktX6_look_25
def dkwX6_look_23 : List UInt8 := [42, 42, 180, 0, 139, 21, 4, 51, 154, 0, 7, 4, 167, 0, 4, 3, 182, 1, 202, 42, 180, 0, 139, 27]
abbrev dktX6_look_23 : List UInt8 := dkwX6_look_23 ++ dktX6_look_24
def dkwX6_look_22 : List UInt8 := [21, 5, 51, 154, 0, 7, 4, 167, 0, 4, 3, 182, 1, 202, 42, 180, 0, 139, 27, 3, 84, 167, 0, 66]
abbrev dktX6_look_22 : List UInt8 := dkwX6_look_22 ++ dktX6_look_23
def dkwX6_look_21 : List UInt8 := [180, 0, 139, 27, 4, 84, 167, 0, 105, 42, 42, 180, 0, 139, 21, 4, 51, 154, 0, 17, 42, 180, 0, 139]
abbrev dktX6_look_21 : List UInt8 := dkwX6_look_21 ++ dktX6_look_22
def dkwX6_look_20 : List UInt8 := [51, 154, 0, 17, 42, 180, 0, 139, 21, 5, 51, 154, 0, 7, 4, 167, 0, 4, 3, 182, 1, 202, 42]
abbrev dktX6_look_20 : List UInt8 := dkwX6_look_20 ++ dktX6_look_21
def dkwX6_look_19 : List UInt8 := [167, 0, 4, 3, 182, 1, 202, 42, 180, 0, 139, 27, 4, 84, 167, 0, 144, 42, 42, 180, 0, 139, 21, 4]
abbrev dktX6_look_19 : List UInt8 := dkwX6_look_19 ++ dktX6_look_20
def dkwX6_look_18 : List UInt8 := [167, 0, 180, 42, 42, 180, 0, 139, 21, 4, 51, 42, 180, 0, 139, 21, 5, 51, 160, 0, 7, 4]
abbrev dktX6_look_18 : List UInt8 := dkwX6_look_18 ++ dktX6_look_19
def dkwX6_look_17 : List UInt8 := [180, 0, 139, 21, 5, 51, 153, 0, 7, 4, 167, 0, 4, 3, 182, 1, 202, 42, 180, 0, 139, 27, 4, 84]
abbrev dktX6_look_17 : List UInt8 := dkwX6_look_17 ++ dktX6_look_18
def dkwX6_look_16 : List UInt8 := [180, 0, 139, 21, 4, 51, 84, 167, 0, 219, 42, 42, 180, 0, 139, 21, 4, 51, 153, 0, 17, 42]
abbrev dktX6_look_16 : List UInt8 := dkwX6_look_16 ++ dktX6_look_17
def dkwX6_look_15 : List UInt8 := [180, 0, 139, 21, 5, 51, 160, 0, 7, 4, 167, 0, 4, 3, 182, 1, 202, 42, 180, 0, 139, 27, 42]
abbrev dktX6_look_15 : List UInt8 := dkwX6_look_15 ++ dktX6_look_16
def dkwX6_look_14 : List UInt8 := [180, 0, 139, 27, 42, 180, 0, 139, 21, 5, 51, 84, 167, 1, 5, 42, 42, 180, 0, 139, 21, 4, 51, 42]
abbrev dktX6_look_14 : List UInt8 := dkwX6_look_14 ++ dktX6_look_15
def dkwX6_look_13 : List UInt8 := [180, 0, 139, 42, 180, 0, 121, 21, 5, 46, 51, 160, 0, 7, 4, 167, 0, 4, 3, 182, 1, 202, 42]
abbrev dktX6_look_13 : List UInt8 := dkwX6_look_13 ++ dktX6_look_14
def dkwX6_look_12 : List UInt8 := [167, 1, 62, 42, 42, 180, 0, 139, 21, 4, 51, 153, 0, 29, 42, 180, 0, 139, 21, 5, 51, 42]
abbrev dktX6_look_12 : List UInt8 := dkwX6_look_12 ++ dktX6_look_13
def dkwX6_look_11 : List UInt8 := [27, 42, 180, 0, 86, 42, 180, 0, 50, 42, 180, 0, 68, 46, 42, 180, 0, 115, 27, 46, 96, 51, 84]
abbrev dktX6_look_11 : List UInt8 := dkwX6_look_11 ++ dktX6_look_12
def dkwX6_look_10 : List UInt8 := [42, 180, 0, 139, 27, 3, 84, 167, 1, 102, 42, 180, 0, 139, 27, 4, 84, 167, 1, 92, 42, 180, 0, 139]
abbrev dktX6_look_10 : List UInt8 := dkwX6_look_10 ++ dktX6_look_11
def dkwX6_look_9 : List UInt8 := [170, 0, 0, 0, 0, 1, 207, 0, 0, 0, 0, 0, 0, 0, 23, 0, 0, 0, 111, 0, 0, 0, 121, 0, 0, 0, 131, 0, 0, 1, 207, 0, 0, 0, 161, 0, 0, 0, 218, 0, 0, 0, 218, 0, 0, 1, 4, 0, 0, 1, 4, 0, 0, 1, 4, 0, 0, 1, 4, 0, 0, 1, 43, 0, 0, 1, 43, 0, 0, 1, 79, 0, 0, 1, 79, 0, 0, 1, 79, 0, 0, 1, 79, 0, 0, 1, 118, 0, 0, 1, 118, 0, 0, 1, 118, 0, 0, 1, 118, 0, 0, 1, 118, 0, 0, 1, 157, 0, 0, 1, 186]
abbrev dktX6_look_9 : List UInt8 := dkwX6_look_9 ++ dktX6_look_10
def dkwX6_look_8 : List UInt8 := [51, 84, 177, 42, 180, 0, 112, 27, 46]
abbrev dktX6_look_8 : List UInt8 := dkwX6_look_8 ++ dktX6_look_9
def dkwX6_look_7 : List UInt8 := [42, 180, 0, 139, 27, 42, 180, 0, 86, 42, 180, 0, 50, 21, 6, 46, 42, 180, 0, 53, 21, 6, 46, 96]
abbrev dktX6_look_7 : List UInt8 := dkwX6_look_7 ++ dktX6_look_8
def dkwX6_look_6 : List UInt8 := [51, 160, 0, 7, 4, 167, 0, 4, 3, 182, 1, 202, 42, 180, 0, 121, 21, 8, 46, 54, 8, 167, 255, 213]
abbrev dktX6_look_6 : List UInt8 := dkwX6_look_6 ++ dktX6_look_7
def dkwX6_look_5 : List UInt8 := [54, 8, 21, 8, 155, 0, 44, 42, 42, 180, 0, 139, 21, 8, 51, 42, 180, 0, 86, 21, 7, 132, 7, 1]
abbrev dktX6_look_5 : List UInt8 := dkwX6_look_5 ++ dktX6_look_6
def dkwX6_look_4 : List UInt8 := [187, 1, 40, 89, 8, 42, 180, 0, 142, 183, 1, 42, 191, 42, 180, 0, 50, 21, 6, 46, 54, 7, 21, 4]
abbrev dktX6_look_4 : List UInt8 := dkwX6_look_4 ++ dktX6_look_5
def dkwX6_look_3 : List UInt8 := [54, 6, 29, 42, 180, 0, 53, 21, 6, 46, 160, 0, 14, 28, 42, 180, 0, 56, 21, 6, 46, 159, 0, 16]
abbrev dktX6_look_3 : List UInt8 := dkwX6_look_3 ++ dktX6_look_4
def dkwX6_look_2 : List UInt8 := [180, 0, 121, 21, 4, 46, 54, 5, 42, 180, 0, 112, 27, 46, 6, 160, 0, 132, 42, 180, 0, 115, 27, 46]
abbrev dktX6_look_2 : List UInt8 := dkwX6_look_2 ++ dktX6_look_3
def dkwX6_look_1 : List UInt8 := [46, 54, 4, 167, 255, 239, 42, 180, 0, 118, 27, 46, 54, 4, 21, 4, 156, 0, 7, 2, 167, 0, 10, 42]
abbrev dktX6_look_1 : List UInt8 := dkwX6_look_1 ++ dktX6_look_2
def dkwX6_look_0 : List UInt8 := [3, 62, 42, 180, 0, 118, 27, 46, 54, 4, 21, 4, 155, 0, 18, 132, 3, 1, 42, 180, 0, 121, 21, 4]
abbrev dktX6_look_0 : List UInt8 := dkwX6_look_0 ++ dktX6_look_1
theorem dksX6_look_0 : cX6_look.data.toList.drop 0 = dktX6_look_0 := by decide +kernel
theorem dksX6_look_1 : cX6_look.data.toList.drop 24 = dktX6_look_1 := dk_seg dksX6_look_0 24 rfl rfl
theorem dksX6_look_2 : cX6_look.data.toList.drop 48 = dktX6_look_2 := dk_seg dksX6_look_1 24 rfl rfl
theorem dksX6_look_3 : cX6_look.data.toList.drop 72 = dktX6_look_3 := dk_seg dksX6_look_2 24 rfl rfl
theorem dksX6_look_4 : cX6_look.data.toList.drop 96 = dktX6_look_4 := dk_seg dksX6_look_3 24 rfl rfl
theorem dksX6_look_5 : cX6_look.data.toList.drop 120 = dktX6_look_5 := dk_seg dksX6_look_4 24 rfl rfl
theorem dksX6_look_6 : cX6_look.data.toList.drop 144 = dktX6_look_6 := dk_seg dksX6_look_5 24 rfl rfl
theorem dksX6_look_7 : cX6_look.data.toList.drop 168 = dktX6_look_7 := dk_seg dksX6_look_6 24 rfl rfl
theorem dksX6_look_8 : cX6_look.data.toList.drop 192 = dktX6_look_8 := dk_seg dksX6_look_7 24 rfl rfl
theorem dksX6_look_9 : cX6_look.data.toList.drop 201 = dktX6_look_9 := dk_seg dksX6_look_8 9 rfl rfl
theorem dksX6_look_10 : cX6_look.data.toList.drop 312 = dktX6_look_10 := dk_seg dksX6_look_9 111 rfl rfl
theorem dksX6_look_11 : cX6_look.data.toList.drop 336 = dktX6_look_11 := dk_seg dksX6_look_10 24 rfl rfl
theorem dksX6_look_12 : cX6_look.data.toList.drop 359 = dktX6_look_12 := dk_seg dksX6_look_11 23 rfl rfl
theorem dksX6_look_13 : cX6_look.data.toList.drop 381 = dktX6_look_13 := dk_seg dksX6_look_12 22 rfl rfl
theorem dksX6_look_14 : cX6_look.data.toList.drop 404 = dktX6_look_14 := dk_seg dksX6_look_13 23 rfl rfl
theorem dksX6_look_15 : cX6_look.data.toList.drop 428 = dktX6_look_15 := dk_seg dksX6_look_14 24 rfl rfl
theorem dksX6_look_16 : cX6_look.data.toList.drop 451 = dktX6_look_16 := dk_seg dksX6_look_15 23 rfl rfl
theorem dksX6_look_17 : cX6_look.data.toList.drop 473 = dktX6_look_17 := dk_seg dksX6_look_16 22 rfl rfl
theorem dksX6_look_18 : cX6_look.data.toList.drop 497 = dktX6_look_18 := dk_seg dksX6_look_17 24 rfl rfl
theorem dksX6_look_19 : cX6_look.data.toList.drop 519 = dktX6_look_19 := dk_seg dksX6_look_18 22 rfl rfl
theorem dksX6_look_20 : cX6_look.data.toList.drop 543 = dktX6_look_20 := dk_seg dksX6_look_19 24 rfl rfl
theorem dksX6_look_21 : cX6_look.data.toList.drop 566 = dktX6_look_21 := dk_seg dksX6_look_20 23 rfl rfl
theorem dksX6_look_22 : cX6_look.data.toList.drop 590 = dktX6_look_22 := dk_seg dksX6_look_21 24 rfl rfl
theorem dksX6_look_23 : cX6_look.data.toList.drop 614 = dktX6_look_23 := dk_seg dksX6_look_22 24 rfl rfl
theorem dksX6_look_24 : cX6_look.data.toList.drop 638 = dktX6_look_24 := dk_seg dksX6_look_23 24 rfl rfl
theorem dksX6_look_25 : cX6_look.data.toList.drop 661 = dktX6_look_25 := dk_seg dksX6_look_24 23 rfl rfl
theorem dX6_look_0 : decode cX6_look 0 = .ok (.iconst 0, 1) := dk_3 (dk_at dksX6_look_0 0 rfl rfl)
theorem dX6_look_1 : decode cX6_look 1 = .ok (.istore_n 3, 1) := dk_62 (dk_at dksX6_look_0 1 rfl rfl)
theorem dX6_look_2 : decode cX6_look 2 = .ok (.aload_n 0, 1) := dk_42 (dk_at dksX6_look_0 2 rfl rfl)
theorem dX6_look_3 : decode cX6_look 3 = .ok (.getfield 118, 3) := dk_180 0 118 (dk_at dksX6_look_0 3 rfl rfl)
theorem dX6_look_6 : decode cX6_look 6 = .ok (.iload_n 1, 1) := dk_27 (dk_at dksX6_look_0 6 rfl rfl)
theorem dX6_look_7 : decode cX6_look 7 = .ok (.iaload, 1) := dk_46 (dk_at dksX6_look_0 7 rfl rfl)
theorem dX6_look_8 : decode cX6_look 8 = .ok (.istore 4, 2) := dk_54 4 (dk_at dksX6_look_0 8 rfl rfl)
theorem dX6_look_10 : decode cX6_look 10 = .ok (.iload 4, 2) := dk_21 4 (dk_at dksX6_look_0 10 rfl rfl)
theorem dX6_look_12 : decode cX6_look 12 = .ok (.ifCond .lt 18, 3) := dk_155 0 18 (dk_at dksX6_look_0 12 rfl rfl)
theorem dX6_look_15 : decode cX6_look 15 = .ok (.iinc 3 1, 3) := dk_132 3 1 (dk_at dksX6_look_0 15 rfl rfl)
theorem dX6_look_18 : decode cX6_look 18 = .ok (.aload_n 0, 1) := dk_42 (dk_at dksX6_look_0 18 rfl rfl)
theorem dX6_look_19 : decode cX6_look 19 = .ok (.getfield 121, 3) := dk_180 0 121 (dk_at dksX6_look_0 19 rfl rfl)
theorem dX6_look_22 : decode cX6_look 22 = .ok (.iload 4, 2) := dk_21 4 (dk_at dksX6_look_0 22 rfl rfl)
theorem dX6_look_24 : decode cX6_look 24 = .ok (.iaload, 1) := dk_46 (dk_at dksX6_look_1 0 rfl rfl)
theorem dX6_look_25 : decode cX6_look 25 = .ok (.istore 4, 2) := dk_54 4 (dk_at dksX6_look_1 1 rfl rfl)
theorem dX6_look_27 : decode cX6_look 27 = .ok (.goto (-17), 3) := dk_167 255 239 (dk_at dksX6_look_1 3 rfl rfl)
theorem dX6_look_30 : decode cX6_look 30 = .ok (.aload_n 0, 1) := dk_42 (dk_at dksX6_look_1 6 rfl rfl)
theorem dX6_look_31 : decode cX6_look 31 = .ok (.getfield 118, 3) := dk_180 0 118 (dk_at dksX6_look_1 7 rfl rfl)
theorem dX6_look_34 : decode cX6_look 34 = .ok (.iload_n 1, 1) := dk_27 (dk_at dksX6_look_1 10 rfl rfl)
theorem dX6_look_35 : decode cX6_look 35 = .ok (.iaload, 1) := dk_46 (dk_at dksX6_look_1 11 rfl rfl)
theorem dX6_look_36 : decode cX6_look 36 = .ok (.istore 4, 2) := dk_54 4 (dk_at dksX6_look_1 12 rfl rfl)
theorem dX6_look_38 : decode cX6_look 38 = .ok (.iload 4, 2) := dk_21 4 (dk_at dksX6_look_1 14 rfl rfl)
theorem dX6_look_40 : decode cX6_look 40 = .ok (.ifCond .ge 7, 3) := dk_156 0 7 (dk_at dksX6_look_1 16 rfl rfl)
theorem dX6_look_43 : decode cX6_look 43 = .ok (.iconst (-1), 1) := dk_2 (dk_at dksX6_look_1 19 rfl rfl)
theorem dX6_look_44 : decode cX6_look 44 = .ok (.goto 10, 3) := dk_167 0 10 (dk_at dksX6_look_1 20 rfl rfl)
theorem dX6_look_47 : decode cX6_look 47 = .ok (.aload_n 0, 1) := dk_42 (dk_at dksX6_look_1 23 rfl rfl)
theorem dX6_look_48 : decode cX6_look 48 = .ok (.getfield 121, 3) := dk_180 0 121 (dk_at dksX6_look_2 0 rfl rfl)
theorem dX6_look_51 : decode cX6_look 51 = .ok (.iload 4, 2) := dk_21 4 (dk_at dksX6_look_2 3 rfl rfl)
theorem dX6_look_53 : decode cX6_look 53 = .ok (.iaload, 1) := dk_46 (dk_at dksX6_look_2 5 rfl rfl)
theorem dX6_look_54 : decode cX6_look 54 = .ok (.istore 5, 2) := dk_54 5 (dk_at dksX6_look_2 6 rfl rfl)
theorem dX6_look_56 : decode cX6_look 56 = .ok (.aload_n 0, 1) := dk_42 (dk_at dksX6_look_2 8 rfl rfl)
theorem dX6_look_57 : decode cX6_look 57 = .ok (.getfield 112, 3) := dk_180 0 112 (dk_at dksX6_look_2 9 rfl rfl)
theorem dX6_look_60 : decode cX6_look 60 = .ok (.iload_n 1, 1) := dk_27 (dk_at dksX6_look_2 12 rfl rfl)
theorem dX6_look_61 : decode cX6_look 61 = .ok (.iaload, 1) := dk_46 (dk_at dksX6_look_2 13 rfl rfl)
theorem dX6_look_62 : decode cX6_look 62 = .ok (.iconst 3, 1) := dk_6 (dk_at dksX6_look_2 14 rfl rfl)
theorem dX6_look_63 : decode cX6_look 63 = .ok (.if_icmp .ne 132, 3) := dk_160 0 132 (dk_at dksX6_look_2 15 rfl rfl)
theorem dX6_look_66 : decode cX6_look 66 = .ok (.aload_n 0, 1) := dk_42 (dk_at dksX6_look_2 18 rfl rfl)
theorem dX6_look_67 : decode cX6_look 67 = .ok (.getfield 115, 3) := dk_180 0 115 (dk_at dksX6_look_2 19 rfl rfl)
theorem dX6_look_70 : decode cX6_look 70 = .ok (.iload_n 1, 1) := dk_27 (dk_at dksX6_look_2 22 rfl rfl)
theorem dX6_look_71 : decode cX6_look 71 = .ok (.iaload, 1) := dk_46 (dk_at dksX6_look_2 23 rfl rfl)
theorem dX6_look_72 : decode cX6_look 72 = .ok (.istore 6, 2) := dk_54 6 (dk_at dksX6_look_3 0 rfl rfl)
theorem dX6_look_74 : decode cX6_look 74 = .ok (.iload_n 3, 1) := dk_29 (dk_at dksX6_look_3 2 rfl rfl)
theorem dX6_look_75 : decode cX6_look 75 = .ok (.aload_n 0, 1) := dk_42 (dk_at dksX6_look_3 3 rfl rfl)
theorem dX6_look_76 : decode cX6_look 76 = .ok (.getfield 53, 3) := dk_180 0 53 (dk_at dksX6_look_3 4 rfl rfl)
theorem dX6_look_79 : decode cX6_look 79 = .ok (.iload 6, 2) := dk_21 6 (dk_at dksX6_look_3 7 rfl rfl)
theorem dX6_look_81 : decode cX6_look 81 = .ok (.iaload, 1) := dk_46 (dk_at dksX6_look_3 9 rfl rfl)
theorem dX6_look_82 : decode cX6_look 82 = .ok (.if_icmp .ne 14, 3) := dk_160 0 14 (dk_at dksX6_look_3 10 rfl rfl)
theorem dX6_look_85 : decode cX6_look 85 = .ok (.iload_n 2, 1) := dk_28 (dk_at dksX6_look_3 13 rfl rfl)
theorem dX6_look_86 : decode cX6_look 86 = .ok (.aload_n 0, 1) := dk_42 (dk_at dksX6_look_3 14 rfl rfl)
theorem dX6_look_87 : decode cX6_look 87 = .ok (.getfield 56, 3) := dk_180 0 56 (dk_at dksX6_look_3 15 rfl rfl)
theorem dX6_look_90 : decode cX6_look 90 = .ok (.iload 6, 2) := dk_21 6 (dk_at dksX6_look_3 18 rfl rfl)
theorem dX6_look_92 : decode cX6_look 92 = .ok (.iaload, 1) := dk_46 (dk_at dksX6_look_3 20 rfl rfl)
theorem dX6_look_93 : decode cX6_look 93 = .ok (.if_icmp .eq 16, 3) := dk_159 0 16 (dk_at dksX6_look_3 21 rfl rfl)
theorem dX6_look_96 : decode cX6_look 96 = .ok (.new 296, 3) := dk_187 1 40 (dk_at dksX6_look_4 0 rfl rfl)
theorem dX6_look_99 : decode cX6_look 99 = .ok (.dup, 1) := dk_89 (dk_at dksX6_look_4 3 rfl rfl)
theorem dX6_look_100 : decode cX6_look 100 = .ok (.iconst 5, 1) := dk_8 (dk_at dksX6_look_4 4 rfl rfl)
theorem dX6_look_101 : decode cX6_look 101 = .ok (.aload_n 0, 1) := dk_42 (dk_at dksX6_look_4 5 rfl rfl)
theorem dX6_look_102 : decode cX6_look 102 = .ok (.getfield 142, 3) := dk_180 0 142 (dk_at dksX6_look_4 6 rfl rfl)
theorem dX6_look_105 : decode cX6_look 105 = .ok (.invokespecial 298, 3) := dk_183 1 42 (dk_at dksX6_look_4 9 rfl rfl)
theorem dX6_look_108 : decode cX6_look 108 = .ok (.athrow, 1) := dk_191 (dk_at dksX6_look_4 12 rfl rfl)
theorem dX6_look_109 : decode cX6_look 109 = .ok (.aload_n 0, 1) := dk_42 (dk_at dksX6_look_4 13 rfl rfl)
theorem dX6_look_110 : decode cX6_look 110 = .ok (.getfield 50, 3) := dk_180 0 50 (dk_at dksX6_look_4 14 rfl rfl)
theorem dX6_look_113 : decode cX6_look 113 = .ok (.iload 6, 2) := dk_21 6 (dk_at dksX6_look_4 17 rfl rfl)
theorem dX6_look_115 : decode cX6_look 115 = .ok (.iaload, 1) := dk_46 (dk_at dksX6_look_4 19 rfl rfl)
theorem dX6_look_116 : decode cX6_look 116 = .ok (.istore 7, 2) := dk_54 7 (dk_at dksX6_look_4 20 rfl rfl)
theorem dX6_look_118 : decode cX6_look 118 = .ok (.iload 4, 2) := dk_21 4 (dk_at dksX6_look_4 22 rfl rfl)
theorem dX6_look_120 : decode cX6_look 120 = .ok (.istore 8, 2) := dk_54 8 (dk_at dksX6_look_5 0 rfl rfl)
theorem dX6_look_122 : decode cX6_look 122 = .ok (.iload 8, 2) := dk_21 8 (dk_at dksX6_look_5 2 rfl rfl)
theorem dX6_look_124 : decode cX6_look 124 = .ok (.ifCond .lt 44, 3) := dk_155 0 44 (dk_at dksX6_look_5 4 rfl rfl)
theorem dX6_look_127 : decode cX6_look 127 = .ok (.aload_n 0, 1) := dk_42 (dk_at dksX6_look_5 7 rfl rfl)
theorem dX6_look_128 : decode cX6_look 128 = .ok (.aload_n 0, 1) := dk_42 (dk_at dksX6_look_5 8 rfl rfl)
theorem dX6_look_129 : decode cX6_look 129 = .ok (.getfield 139, 3) := dk_180 0 139 (dk_at dksX6_look_5 9 rfl rfl)
theorem dX6_look_132 : decode cX6_look 132 = .ok (.iload 8, 2) := dk_21 8 (dk_at dksX6_look_5 12 rfl rfl)
theorem dX6_look_134 : decode cX6_look 134 = .ok (.baload, 1) := dk_51 (dk_at dksX6_look_5 14 rfl rfl)
theorem dX6_look_135 : decode cX6_look 135 = .ok (.aload_n 0, 1) := dk_42 (dk_at dksX6_look_5 15 rfl rfl)
theorem dX6_look_136 : decode cX6_look 136 = .ok (.getfield 86, 3) := dk_180 0 86 (dk_at dksX6_look_5 16 rfl rfl)
theorem dX6_look_139 : decode cX6_look 139 = .ok (.iload 7, 2) := dk_21 7 (dk_at dksX6_look_5 19 rfl rfl)
theorem dX6_look_141 : decode cX6_look 141 = .ok (.iinc 7 1, 3) := dk_132 7 1 (dk_at dksX6_look_5 21 rfl rfl)
theorem dX6_look_144 : decode cX6_look 144 = .ok (.baload, 1) := dk_51 (dk_at dksX6_look_6 0 rfl rfl)
theorem dX6_look_145 : decode cX6_look 145 = .ok (.if_icmp .ne 7, 3) := dk_160 0 7 (dk_at dksX6_look_6 1 rfl rfl)
theorem dX6_look_148 : decode cX6_look 148 = .ok (.iconst 1, 1) := dk_4 (dk_at dksX6_look_6 4 rfl rfl)
theorem dX6_look_149 : decode cX6_look 149 = .ok (.goto 4, 3) := dk_167 0 4 (dk_at dksX6_look_6 5 rfl rfl)
theorem dX6_look_152 : decode cX6_look 152 = .ok (.iconst 0, 1) := dk_3 (dk_at dksX6_look_6 8 rfl rfl)
theorem dX6_look_153 : decode cX6_look 153 = .ok (.invokevirtual 458, 3) := dk_182 1 202 (dk_at dksX6_look_6 9 rfl rfl)
theorem dX6_look_156 : decode cX6_look 156 = .ok (.aload_n 0, 1) := dk_42 (dk_at dksX6_look_6 12 rfl rfl)
theorem dX6_look_157 : decode cX6_look 157 = .ok (.getfield 121, 3) := dk_180 0 121 (dk_at dksX6_look_6 13 rfl rfl)
theorem dX6_look_160 : decode cX6_look 160 = .ok (.iload 8, 2) := dk_21 8 (dk_at dksX6_look_6 16 rfl rfl)
theorem dX6_look_162 : decode cX6_look 162 = .ok (.iaload, 1) := dk_46 (dk_at dksX6_look_6 18 rfl rfl)
theorem dX6_look_163 : decode cX6_look 163 = .ok (.istore 8, 2) := dk_54 8 (dk_at dksX6_look_6 19 rfl rfl)
theorem dX6_look_165 : decode cX6_look 165 = .ok (.goto (-43), 3) := dk_167 255 213 (dk_at dksX6_look_6 21 rfl rfl)
theorem dX6_look_168 : decode cX6_look 168 = .ok (.aload_n 0, 1) := dk_42 (dk_at dksX6_look_7 0 rfl rfl)
theorem dX6_look_169 : decode cX6_look 169 = .ok (.getfield 139, 3) := dk_180 0 139 (dk_at dksX6_look_7 1 rfl rfl)
theorem dX6_look_172 : decode cX6_look 172 = .ok (.iload_n 1, 1) := dk_27 (dk_at dksX6_look_7 4 rfl rfl)
theorem dX6_look_173 : decode cX6_look 173 = .ok (.aload_n 0, 1) := dk_42 (dk_at dksX6_look_7 5 rfl rfl)
theorem dX6_look_174 : decode cX6_look 174 = .ok (.getfield 86, 3) := dk_180 0 86 (dk_at dksX6_look_7 6 rfl rfl)
theorem dX6_look_177 : decode cX6_look 177 = .ok (.aload_n 0, 1) := dk_42 (dk_at dksX6_look_7 9 rfl rfl)
theorem dX6_look_178 : decode cX6_look 178 = .ok (.getfield 50, 3) := dk_180 0 50 (dk_at dksX6_look_7 10 rfl rfl)
theorem dX6_look_181 : decode cX6_look 181 = .ok (.iload 6, 2) := dk_21 6 (dk_at dksX6_look_7 13 rfl rfl)
theorem dX6_look_183 : decode cX6_look 183 = .ok (.iaload, 1) := dk_46 (dk_at dksX6_look_7 15 rfl rfl)
theorem dX6_look_184 : decode cX6_look 184 = .ok (.aload_n 0, 1) := dk_42 (dk_at dksX6_look_7 16 rfl rfl)
theorem dX6_look_185 : decode cX6_look 185 = .ok (.getfield 53, 3) := dk_180 0 53 (dk_at dksX6_look_7 17 rfl rfl)
theorem dX6_look_188 : decode cX6_look 188 = .ok (.iload 6, 2) := dk_21 6 (dk_at dksX6_look_7 20 rfl rfl)
theorem dX6_look_190 : decode cX6_look 190 = .ok (.iaload, 1) := dk_46 (dk_at dksX6_look_7 22 rfl rfl)
theorem dX6_look_191 : decode cX6_look 191 = .ok (.iadd, 1) := dk_96 (dk_at dksX6_look_7 23 rfl rfl)
theorem dX6_look_192 : decode cX6_look 192 = .ok (.baload, 1) := dk_51 (dk_at dksX6_look_8 0 rfl rfl)
theorem dX6_look_193 : decode cX6_look 193 = .ok (.bastore, 1) := dk_84 (dk_at dksX6_look_8 1 rfl rfl)
theorem dX6_look_194 : decode cX6_look 194 = .ok (.return_, 1) := dk_177 (dk_at dksX6_look_8 2 rfl rfl)
theorem dX6_look_195 : decode cX6_look 195 = .ok (.aload_n 0, 1) := dk_42 (dk_at dksX6_look_8 3 rfl rfl)
theorem dX6_look_196 : decode cX6_look 196 = .ok (.getfield 112, 3) := dk_180 0 112 (dk_at dksX6_look_8 4 rfl rfl)
theorem dX6_look_199 : decode cX6_look 199 = .ok (.iload_n 1, 1) := dk_27 (dk_at dksX6_look_8 7 rfl rfl)
theorem dX6_look_200 : decode cX6_look 200 = .ok (.iaload, 1) := dk_46 (dk_at dksX6_look_8 8 rfl rfl)
theorem dX6_look_201 : decode cX6_look 201 = .ok (.tableswitch 463 0 23 #[111, 121, 131, 463, 161, 218, 218, 260, 260, 260, 260, 299, 299, 335, 335, 335, 335, 374, 374, 374, 374, 374, 413, 442], 111) := by decide +kernel
theorem dX6_look_312 : decode cX6_look 312 = .ok (.aload_n 0, 1) := dk_42 (dk_at dksX6_look_10 0 rfl rfl)
theorem dX6_look_313 : decode cX6_look 313 = .ok (.getfield 139, 3) := dk_180 0 139 (dk_at dksX6_look_10 1 rfl rfl)
theorem dX6_look_316 : decode cX6_look 316 = .ok (.iload_n 1, 1) := dk_27 (dk_at dksX6_look_10 4 rfl rfl)
theorem dX6_look_317 : decode cX6_look 317 = .ok (.iconst 0, 1) := dk_3 (dk_at dksX6_look_10 5 rfl rfl)
theorem dX6_look_318 : decode cX6_look 318 = .ok (.bastore, 1) := dk_84 (dk_at dksX6_look_10 6 rfl rfl)
theorem dX6_look_319 : decode cX6_look 319 = .ok (.goto 358, 3) := dk_167 1 102 (dk_at dksX6_look_10 7 rfl rfl)
theorem dX6_look_322 : decode cX6_look 322 = .ok (.aload_n 0, 1) := dk_42 (dk_at dksX6_look_10 10 rfl rfl)
theorem dX6_look_323 : decode cX6_look 323 = .ok (.getfield 139, 3) := dk_180 0 139 (dk_at dksX6_look_10 11 rfl rfl)
theorem dX6_look_326 : decode cX6_look 326 = .ok (.iload_n 1, 1) := dk_27 (dk_at dksX6_look_10 14 rfl rfl)
theorem dX6_look_327 : decode cX6_look 327 = .ok (.iconst 1, 1) := dk_4 (dk_at dksX6_look_10 15 rfl rfl)
theorem dX6_look_328 : decode cX6_look 328 = .ok (.bastore, 1) := dk_84 (dk_at dksX6_look_10 16 rfl rfl)
theorem dX6_look_329 : decode cX6_look 329 = .ok (.goto 348, 3) := dk_167 1 92 (dk_at dksX6_look_10 17 rfl rfl)
theorem dX6_look_332 : decode cX6_look 332 = .ok (.aload_n 0, 1) := dk_42 (dk_at dksX6_look_10 20 rfl rfl)
theorem dX6_look_333 : decode cX6_look 333 = .ok (.getfield 139, 3) := dk_180 0 139 (dk_at dksX6_look_10 21 rfl rfl)
theorem dX6_look_336 : decode cX6_look 336 = .ok (.iload_n 1, 1) := dk_27 (dk_at dksX6_look_11 0 rfl rfl)
theorem dX6_look_337 : decode cX6_look 337 = .ok (.aload_n 0, 1) := dk_42 (dk_at dksX6_look_11 1 rfl rfl)
theorem dX6_look_338 : decode cX6_look 338 = .ok (.getfield 86, 3) := dk_180 0 86 (dk_at dksX6_look_11 2 rfl rfl)
theorem dX6_look_341 : decode cX6_look 341 = .ok (.aload_n 0, 1) := dk_42 (dk_at dksX6_look_11 5 rfl rfl)
theorem dX6_look_342 : decode cX6_look 342 = .ok (.getfield 50, 3) := dk_180 0 50 (dk_at dksX6_look_11 6 rfl rfl)
theorem dX6_look_345 : decode cX6_look 345 = .ok (.aload_n 0, 1) := dk_42 (dk_at dksX6_look_11 9 rfl rfl)
theorem dX6_look_346 : decode cX6_look 346 = .ok (.getfield 68, 3) := dk_180 0 68 (dk_at dksX6_look_11 10 rfl rfl)
theorem dX6_look_349 : decode cX6_look 349 = .ok (.iaload, 1) := dk_46 (dk_at dksX6_look_11 13 rfl rfl)
theorem dX6_look_350 : decode cX6_look 350 = .ok (.aload_n 0, 1) := dk_42 (dk_at dksX6_look_11 14 rfl rfl)
theorem dX6_look_351 : decode cX6_look 351 = .ok (.getfield 115, 3) := dk_180 0 115 (dk_at dksX6_look_11 15 rfl rfl)
theorem dX6_look_354 : decode cX6_look 354 = .ok (.iload_n 1, 1) := dk_27 (dk_at dksX6_look_11 18 rfl rfl)
theorem dX6_look_355 : decode cX6_look 355 = .ok (.iaload, 1) := dk_46 (dk_at dksX6_look_11 19 rfl rfl)
theorem dX6_look_356 : decode cX6_look 356 = .ok (.iadd, 1) := dk_96 (dk_at dksX6_look_11 20 rfl rfl)
theorem dX6_look_357 : decode cX6_look 357 = .ok (.baload, 1) := dk_51 (dk_at dksX6_look_11 21 rfl rfl)
theorem dX6_look_358 : decode cX6_look 358 = .ok (.bastore, 1) := dk_84 (dk_at dksX6_look_11 22 rfl rfl)
theorem dX6_look_359 : decode cX6_look 359 = .ok (.goto 318, 3) := dk_167 1 62 (dk_at dksX6_look_12 0 rfl rfl)
theorem dX6_look_362 : decode cX6_look 362 = .ok (.aload_n 0, 1) := dk_42 (dk_at dksX6_look_12 3 rfl rfl)
theorem dX6_look_363 : decode cX6_look 363 = .ok (.aload_n 0, 1) := dk_42 (dk_at dksX6_look_12 4 rfl rfl)
theorem dX6_look_364 : decode cX6_look 364 = .ok (.getfield 139, 3) := dk_180 0 139 (dk_at dksX6_look_12 5 rfl rfl)
theorem dX6_look_367 : decode cX6_look 367 = .ok (.iload 4, 2) := dk_21 4 (dk_at dksX6_look_12 8 rfl rfl)
theorem dX6_look_369 : decode cX6_look 369 = .ok (.baload, 1) := dk_51 (dk_at dksX6_look_12 10 rfl rfl)
theorem dX6_look_370 : decode cX6_look 370 = .ok (.ifCond .eq 29, 3) := dk_153 0 29 (dk_at dksX6_look_12 11 rfl rfl)
theorem dX6_look_373 : decode cX6_look 373 = .ok (.aload_n 0, 1) := dk_42 (dk_at dksX6_look_12 14 rfl rfl)
theorem dX6_look_374 : decode cX6_look 374 = .ok (.getfield 139, 3) := dk_180 0 139 (dk_at dksX6_look_12 15 rfl rfl)
theorem dX6_look_377 : decode cX6_look 377 = .ok (.iload 5, 2) := dk_21 5 (dk_at dksX6_look_12 18 rfl rfl)
theorem dX6_look_379 : decode cX6_look 379 = .ok (.baload, 1) := dk_51 (dk_at dksX6_look_12 20 rfl rfl)
theorem dX6_look_380 : decode cX6_look 380 = .ok (.aload_n 0, 1) := dk_42 (dk_at dksX6_look_12 21 rfl rfl)
theorem dX6_look_381 : decode cX6_look 381 = .ok (.getfield 139, 3) := dk_180 0 139 (dk_at dksX6_look_13 0 rfl rfl)
theorem dX6_look_384 : decode cX6_look 384 = .ok (.aload_n 0, 1) := dk_42 (dk_at dksX6_look_13 3 rfl rfl)
theorem dX6_look_385 : decode cX6_look 385 = .ok (.getfield 121, 3) := dk_180 0 121 (dk_at dksX6_look_13 4 rfl rfl)
theorem dX6_look_388 : decode cX6_look 388 = .ok (.iload 5, 2) := dk_21 5 (dk_at dksX6_look_13 7 rfl rfl)
theorem dX6_look_390 : decode cX6_look 390 = .ok (.iaload, 1) := dk_46 (dk_at dksX6_look_13 9 rfl rfl)
theorem dX6_look_391 : decode cX6_look 391 = .ok (.baload, 1) := dk_51 (dk_at dksX6_look_13 10 rfl rfl)
theorem dX6_look_392 : decode cX6_look 392 = .ok (.if_icmp .ne 7, 3) := dk_160 0 7 (dk_at dksX6_look_13 11 rfl rfl)
theorem dX6_look_395 : decode cX6_look 395 = .ok (.iconst 1, 1) := dk_4 (dk_at dksX6_look_13 14 rfl rfl)
theorem dX6_look_396 : decode cX6_look 396 = .ok (.goto 4, 3) := dk_167 0 4 (dk_at dksX6_look_13 15 rfl rfl)
theorem dX6_look_399 : decode cX6_look 399 = .ok (.iconst 0, 1) := dk_3 (dk_at dksX6_look_13 18 rfl rfl)
theorem dX6_look_400 : decode cX6_look 400 = .ok (.invokevirtual 458, 3) := dk_182 1 202 (dk_at dksX6_look_13 19 rfl rfl)
theorem dX6_look_403 : decode cX6_look 403 = .ok (.aload_n 0, 1) := dk_42 (dk_at dksX6_look_13 22 rfl rfl)
theorem dX6_look_404 : decode cX6_look 404 = .ok (.getfield 139, 3) := dk_180 0 139 (dk_at dksX6_look_14 0 rfl rfl)
theorem dX6_look_407 : decode cX6_look 407 = .ok (.iload_n 1, 1) := dk_27 (dk_at dksX6_look_14 3 rfl rfl)
theorem dX6_look_408 : decode cX6_look 408 = .ok (.aload_n 0, 1) := dk_42 (dk_at dksX6_look_14 4 rfl rfl)
theorem dX6_look_409 : decode cX6_look 409 = .ok (.getfield 139, 3) := dk_180 0 139 (dk_at dksX6_look_14 5 rfl rfl)
theorem dX6_look_412 : decode cX6_look 412 = .ok (.iload 5, 2) := dk_21 5 (dk_at dksX6_look_14 8 rfl rfl)
theorem dX6_look_414 : decode cX6_look 414 = .ok (.baload, 1) := dk_51 (dk_at dksX6_look_14 10 rfl rfl)
theorem dX6_look_415 : decode cX6_look 415 = .ok (.bastore, 1) := dk_84 (dk_at dksX6_look_14 11 rfl rfl)
theorem dX6_look_416 : decode cX6_look 416 = .ok (.goto 261, 3) := dk_167 1 5 (dk_at dksX6_look_14 12 rfl rfl)
theorem dX6_look_419 : decode cX6_look 419 = .ok (.aload_n 0, 1) := dk_42 (dk_at dksX6_look_14 15 rfl rfl)
theorem dX6_look_420 : decode cX6_look 420 = .ok (.aload_n 0, 1) := dk_42 (dk_at dksX6_look_14 16 rfl rfl)
theorem dX6_look_421 : decode cX6_look 421 = .ok (.getfield 139, 3) := dk_180 0 139 (dk_at dksX6_look_14 17 rfl rfl)
theorem dX6_look_424 : decode cX6_look 424 = .ok (.iload 4, 2) := dk_21 4 (dk_at dksX6_look_14 20 rfl rfl)
theorem dX6_look_426 : decode cX6_look 426 = .ok (.baload, 1) := dk_51 (dk_at dksX6_look_14 22 rfl rfl)
theorem dX6_look_427 : decode cX6_look 427 = .ok (.aload_n 0, 1) := dk_42 (dk_at dksX6_look_14 23 rfl rfl)
theorem dX6_look_428 : decode cX6_look 428 = .ok (.getfield 139, 3) := dk_180 0 139 (dk_at dksX6_look_15 0 rfl rfl)
theorem dX6_look_431 : decode cX6_look 431 = .ok (.iload 5, 2) := dk_21 5 (dk_at dksX6_look_15 3 rfl rfl)
theorem dX6_look_433 : decode cX6_look 433 = .ok (.baload, 1) := dk_51 (dk_at dksX6_look_15 5 rfl rfl)
theorem dX6_look_434 : decode cX6_look 434 = .ok (.if_icmp .ne 7, 3) := dk_160 0 7 (dk_at dksX6_look_15 6 rfl rfl)
theorem dX6_look_437 : decode cX6_look 437 = .ok (.iconst 1, 1) := dk_4 (dk_at dksX6_look_15 9 rfl rfl)
theorem dX6_look_438 : decode cX6_look 438 = .ok (.goto 4, 3) := dk_167 0 4 (dk_at dksX6_look_15 10 rfl rfl)
theorem dX6_look_441 : decode cX6_look 441 = .ok (.iconst 0, 1) := dk_3 (dk_at dksX6_look_15 13 rfl rfl)
theorem dX6_look_442 : decode cX6_look 442 = .ok (.invokevirtual 458, 3) := dk_182 1 202 (dk_at dksX6_look_15 14 rfl rfl)
theorem dX6_look_445 : decode cX6_look 445 = .ok (.aload_n 0, 1) := dk_42 (dk_at dksX6_look_15 17 rfl rfl)
theorem dX6_look_446 : decode cX6_look 446 = .ok (.getfield 139, 3) := dk_180 0 139 (dk_at dksX6_look_15 18 rfl rfl)
theorem dX6_look_449 : decode cX6_look 449 = .ok (.iload_n 1, 1) := dk_27 (dk_at dksX6_look_15 21 rfl rfl)
theorem dX6_look_450 : decode cX6_look 450 = .ok (.aload_n 0, 1) := dk_42 (dk_at dksX6_look_15 22 rfl rfl)
theorem dX6_look_451 : decode cX6_look 451 = .ok (.getfield 139, 3) := dk_180 0 139 (dk_at dksX6_look_16 0 rfl rfl)
theorem dX6_look_454 : decode cX6_look 454 = .ok (.iload 4, 2) := dk_21 4 (dk_at dksX6_look_16 3 rfl rfl)
theorem dX6_look_456 : decode cX6_look 456 = .ok (.baload, 1) := dk_51 (dk_at dksX6_look_16 5 rfl rfl)
theorem dX6_look_457 : decode cX6_look 457 = .ok (.bastore, 1) := dk_84 (dk_at dksX6_look_16 6 rfl rfl)
theorem dX6_look_458 : decode cX6_look 458 = .ok (.goto 219, 3) := dk_167 0 219 (dk_at dksX6_look_16 7 rfl rfl)
theorem dX6_look_461 : decode cX6_look 461 = .ok (.aload_n 0, 1) := dk_42 (dk_at dksX6_look_16 10 rfl rfl)
theorem dX6_look_462 : decode cX6_look 462 = .ok (.aload_n 0, 1) := dk_42 (dk_at dksX6_look_16 11 rfl rfl)
theorem dX6_look_463 : decode cX6_look 463 = .ok (.getfield 139, 3) := dk_180 0 139 (dk_at dksX6_look_16 12 rfl rfl)
theorem dX6_look_466 : decode cX6_look 466 = .ok (.iload 4, 2) := dk_21 4 (dk_at dksX6_look_16 15 rfl rfl)
theorem dX6_look_468 : decode cX6_look 468 = .ok (.baload, 1) := dk_51 (dk_at dksX6_look_16 17 rfl rfl)
theorem dX6_look_469 : decode cX6_look 469 = .ok (.ifCond .eq 17, 3) := dk_153 0 17 (dk_at dksX6_look_16 18 rfl rfl)
theorem dX6_look_472 : decode cX6_look 472 = .ok (.aload_n 0, 1) := dk_42 (dk_at dksX6_look_16 21 rfl rfl)
theorem dX6_look_473 : decode cX6_look 473 = .ok (.getfield 139, 3) := dk_180 0 139 (dk_at dksX6_look_17 0 rfl rfl)
theorem dX6_look_476 : decode cX6_look 476 = .ok (.iload 5, 2) := dk_21 5 (dk_at dksX6_look_17 3 rfl rfl)
theorem dX6_look_478 : decode cX6_look 478 = .ok (.baload, 1) := dk_51 (dk_at dksX6_look_17 5 rfl rfl)
theorem dX6_look_479 : decode cX6_look 479 = .ok (.ifCond .eq 7, 3) := dk_153 0 7 (dk_at dksX6_look_17 6 rfl rfl)
theorem dX6_look_482 : decode cX6_look 482 = .ok (.iconst 1, 1) := dk_4 (dk_at dksX6_look_17 9 rfl rfl)
theorem dX6_look_483 : decode cX6_look 483 = .ok (.goto 4, 3) := dk_167 0 4 (dk_at dksX6_look_17 10 rfl rfl)
theorem dX6_look_486 : decode cX6_look 486 = .ok (.iconst 0, 1) := dk_3 (dk_at dksX6_look_17 13 rfl rfl)
theorem dX6_look_487 : decode cX6_look 487 = .ok (.invokevirtual 458, 3) := dk_182 1 202 (dk_at dksX6_look_17 14 rfl rfl)
theorem dX6_look_490 : decode cX6_look 490 = .ok (.aload_n 0, 1) := dk_42 (dk_at dksX6_look_17 17 rfl rfl)
theorem dX6_look_491 : decode cX6_look 491 = .ok (.getfield 139, 3) := dk_180 0 139 (dk_at dksX6_look_17 18 rfl rfl)
theorem dX6_look_494 : decode cX6_look 494 = .ok (.iload_n 1, 1) := dk_27 (dk_at dksX6_look_17 21 rfl rfl)
theorem dX6_look_495 : decode cX6_look 495 = .ok (.iconst 1, 1) := dk_4 (dk_at dksX6_look_17 22 rfl rfl)
theorem dX6_look_496 : decode cX6_look 496 = .ok (.bastore, 1) := dk_84 (dk_at dksX6_look_17 23 rfl rfl)
theorem dX6_look_497 : decode cX6_look 497 = .ok (.goto 180, 3) := dk_167 0 180 (dk_at dksX6_look_18 0 rfl rfl)
theorem dX6_look_500 : decode cX6_look 500 = .ok (.aload_n 0, 1) := dk_42 (dk_at dksX6_look_18 3 rfl rfl)
theorem dX6_look_501 : decode cX6_look 501 = .ok (.aload_n 0, 1) := dk_42 (dk_at dksX6_look_18 4 rfl rfl)
theorem dX6_look_502 : decode cX6_look 502 = .ok (.getfield 139, 3) := dk_180 0 139 (dk_at dksX6_look_18 5 rfl rfl)
theorem dX6_look_505 : decode cX6_look 505 = .ok (.iload 4, 2) := dk_21 4 (dk_at dksX6_look_18 8 rfl rfl)
theorem dX6_look_507 : decode cX6_look 507 = .ok (.baload, 1) := dk_51 (dk_at dksX6_look_18 10 rfl rfl)
theorem dX6_look_508 : decode cX6_look 508 = .ok (.aload_n 0, 1) := dk_42 (dk_at dksX6_look_18 11 rfl rfl)
theorem dX6_look_509 : decode cX6_look 509 = .ok (.getfield 139, 3) := dk_180 0 139 (dk_at dksX6_look_18 12 rfl rfl)
theorem dX6_look_512 : decode cX6_look 512 = .ok (.iload 5, 2) := dk_21 5 (dk_at dksX6_look_18 15 rfl rfl)
theorem dX6_look_514 : decode cX6_look 514 = .ok (.baload, 1) := dk_51 (dk_at dksX6_look_18 17 rfl rfl)
theorem dX6_look_515 : decode cX6_look 515 = .ok (.if_icmp .ne 7, 3) := dk_160 0 7 (dk_at dksX6_look_18 18 rfl rfl)
theorem dX6_look_518 : decode cX6_look 518 = .ok (.iconst 1, 1) := dk_4 (dk_at dksX6_look_18 21 rfl rfl)
theorem dX6_look_519 : decode cX6_look 519 = .ok (.goto 4, 3) := dk_167 0 4 (dk_at dksX6_look_19 0 rfl rfl)
theorem dX6_look_522 : decode cX6_look 522 = .ok (.iconst 0, 1) := dk_3 (dk_at dksX6_look_19 3 rfl rfl)
theorem dX6_look_523 : decode cX6_look 523 = .ok (.invokevirtual 458, 3) := dk_182 1 202 (dk_at dksX6_look_19 4 rfl rfl)
theorem dX6_look_526 : decode cX6_look 526 = .ok (.aload_n 0, 1) := dk_42 (dk_at dksX6_look_19 7 rfl rfl)
theorem dX6_look_527 : decode cX6_look 527 = .ok (.getfield 139, 3) := dk_180 0 139 (dk_at dksX6_look_19 8 rfl rfl)
theorem dX6_look_530 : decode cX6_look 530 = .ok (.iload_n 1, 1) := dk_27 (dk_at dksX6_look_19 11 rfl rfl)
theorem dX6_look_531 : decode cX6_look 531 = .ok (.iconst 1, 1) := dk_4 (dk_at dksX6_look_19 12 rfl rfl)
theorem dX6_look_532 : decode cX6_look 532 = .ok (.bastore, 1) := dk_84 (dk_at dksX6_look_19 13 rfl rfl)
theorem dX6_look_533 : decode cX6_look 533 = .ok (.goto 144, 3) := dk_167 0 144 (dk_at dksX6_look_19 14 rfl rfl)
theorem dX6_look_536 : decode cX6_look 536 = .ok (.aload_n 0, 1) := dk_42 (dk_at dksX6_look_19 17 rfl rfl)
theorem dX6_look_537 : decode cX6_look 537 = .ok (.aload_n 0, 1) := dk_42 (dk_at dksX6_look_19 18 rfl rfl)
theorem dX6_look_538 : decode cX6_look 538 = .ok (.getfield 139, 3) := dk_180 0 139 (dk_at dksX6_look_19 19 rfl rfl)
theorem dX6_look_541 : decode cX6_look 541 = .ok (.iload 4, 2) := dk_21 4 (dk_at dksX6_look_19 22 rfl rfl)
theorem dX6_look_543 : decode cX6_look 543 = .ok (.baload, 1) := dk_51 (dk_at dksX6_look_20 0 rfl rfl)
theorem dX6_look_544 : decode cX6_look 544 = .ok (.ifCond .ne 17, 3) := dk_154 0 17 (dk_at dksX6_look_20 1 rfl rfl)
theorem dX6_look_547 : decode cX6_look 547 = .ok (.aload_n 0, 1) := dk_42 (dk_at dksX6_look_20 4 rfl rfl)
theorem dX6_look_548 : decode cX6_look 548 = .ok (.getfield 139, 3) := dk_180 0 139 (dk_at dksX6_look_20 5 rfl rfl)
theorem dX6_look_551 : decode cX6_look 551 = .ok (.iload 5, 2) := dk_21 5 (dk_at dksX6_look_20 8 rfl rfl)
theorem dX6_look_553 : decode cX6_look 553 = .ok (.baload, 1) := dk_51 (dk_at dksX6_look_20 10 rfl rfl)
theorem dX6_look_554 : decode cX6_look 554 = .ok (.ifCond .ne 7, 3) := dk_154 0 7 (dk_at dksX6_look_20 11 rfl rfl)
theorem dX6_look_557 : decode cX6_look 557 = .ok (.iconst 1, 1) := dk_4 (dk_at dksX6_look_20 14 rfl rfl)
theorem dX6_look_558 : decode cX6_look 558 = .ok (.goto 4, 3) := dk_167 0 4 (dk_at dksX6_look_20 15 rfl rfl)
theorem dX6_look_561 : decode cX6_look 561 = .ok (.iconst 0, 1) := dk_3 (dk_at dksX6_look_20 18 rfl rfl)
theorem dX6_look_562 : decode cX6_look 562 = .ok (.invokevirtual 458, 3) := dk_182 1 202 (dk_at dksX6_look_20 19 rfl rfl)
theorem dX6_look_565 : decode cX6_look 565 = .ok (.aload_n 0, 1) := dk_42 (dk_at dksX6_look_20 22 rfl rfl)
theorem dX6_look_566 : decode cX6_look 566 = .ok (.getfield 139, 3) := dk_180 0 139 (dk_at dksX6_look_21 0 rfl rfl)
theorem dX6_look_569 : decode cX6_look 569 = .ok (.iload_n 1, 1) := dk_27 (dk_at dksX6_look_21 3 rfl rfl)
theorem dX6_look_570 : decode cX6_look 570 = .ok (.iconst 1, 1) := dk_4 (dk_at dksX6_look_21 4 rfl rfl)
theorem dX6_look_571 : decode cX6_look 571 = .ok (.bastore, 1) := dk_84 (dk_at dksX6_look_21 5 rfl rfl)
theorem dX6_look_572 : decode cX6_look 572 = .ok (.goto 105, 3) := dk_167 0 105 (dk_at dksX6_look_21 6 rfl rfl)
theorem dX6_look_575 : decode cX6_look 575 = .ok (.aload_n 0, 1) := dk_42 (dk_at dksX6_look_21 9 rfl rfl)
theorem dX6_look_576 : decode cX6_look 576 = .ok (.aload_n 0, 1) := dk_42 (dk_at dksX6_look_21 10 rfl rfl)
theorem dX6_look_577 : decode cX6_look 577 = .ok (.getfield 139, 3) := dk_180 0 139 (dk_at dksX6_look_21 11 rfl rfl)
theorem dX6_look_580 : decode cX6_look 580 = .ok (.iload 4, 2) := dk_21 4 (dk_at dksX6_look_21 14 rfl rfl)
theorem dX6_look_582 : decode cX6_look 582 = .ok (.baload, 1) := dk_51 (dk_at dksX6_look_21 16 rfl rfl)
theorem dX6_look_583 : decode cX6_look 583 = .ok (.ifCond .ne 17, 3) := dk_154 0 17 (dk_at dksX6_look_21 17 rfl rfl)
theorem dX6_look_586 : decode cX6_look 586 = .ok (.aload_n 0, 1) := dk_42 (dk_at dksX6_look_21 20 rfl rfl)
theorem dX6_look_587 : decode cX6_look 587 = .ok (.getfield 139, 3) := dk_180 0 139 (dk_at dksX6_look_21 21 rfl rfl)
theorem dX6_look_590 : decode cX6_look 590 = .ok (.iload 5, 2) := dk_21 5 (dk_at dksX6_look_22 0 rfl rfl)
theorem dX6_look_592 : decode cX6_look 592 = .ok (.baload, 1) := dk_51 (dk_at dksX6_look_22 2 rfl rfl)
theorem dX6_look_593 : decode cX6_look 593 = .ok (.ifCond .ne 7, 3) := dk_154 0 7 (dk_at dksX6_look_22 3 rfl rfl)
theorem dX6_look_596 : decode cX6_look 596 = .ok (.iconst 1, 1) := dk_4 (dk_at dksX6_look_22 6 rfl rfl)
theorem dX6_look_597 : decode cX6_look 597 = .ok (.goto 4, 3) := dk_167 0 4 (dk_at dksX6_look_22 7 rfl rfl)
theorem dX6_look_600 : decode cX6_look 600 = .ok (.iconst 0, 1) := dk_3 (dk_at dksX6_look_22 10 rfl rfl)
theorem dX6_look_601 : decode cX6_look 601 = .ok (.invokevirtual 458, 3) := dk_182 1 202 (dk_at dksX6_look_22 11 rfl rfl)
theorem dX6_look_604 : decode cX6_look 604 = .ok (.aload_n 0, 1) := dk_42 (dk_at dksX6_look_22 14 rfl rfl)
theorem dX6_look_605 : decode cX6_look 605 = .ok (.getfield 139, 3) := dk_180 0 139 (dk_at dksX6_look_22 15 rfl rfl)
theorem dX6_look_608 : decode cX6_look 608 = .ok (.iload_n 1, 1) := dk_27 (dk_at dksX6_look_22 18 rfl rfl)
theorem dX6_look_609 : decode cX6_look 609 = .ok (.iconst 0, 1) := dk_3 (dk_at dksX6_look_22 19 rfl rfl)
theorem dX6_look_610 : decode cX6_look 610 = .ok (.bastore, 1) := dk_84 (dk_at dksX6_look_22 20 rfl rfl)
theorem dX6_look_611 : decode cX6_look 611 = .ok (.goto 66, 3) := dk_167 0 66 (dk_at dksX6_look_22 21 rfl rfl)
theorem dX6_look_614 : decode cX6_look 614 = .ok (.aload_n 0, 1) := dk_42 (dk_at dksX6_look_23 0 rfl rfl)
theorem dX6_look_615 : decode cX6_look 615 = .ok (.aload_n 0, 1) := dk_42 (dk_at dksX6_look_23 1 rfl rfl)
theorem dX6_look_616 : decode cX6_look 616 = .ok (.getfield 139, 3) := dk_180 0 139 (dk_at dksX6_look_23 2 rfl rfl)
theorem dX6_look_619 : decode cX6_look 619 = .ok (.iload 4, 2) := dk_21 4 (dk_at dksX6_look_23 5 rfl rfl)
theorem dX6_look_621 : decode cX6_look 621 = .ok (.baload, 1) := dk_51 (dk_at dksX6_look_23 7 rfl rfl)
theorem dX6_look_622 : decode cX6_look 622 = .ok (.ifCond .ne 7, 3) := dk_154 0 7 (dk_at dksX6_look_23 8 rfl rfl)
theorem dX6_look_625 : decode cX6_look 625 = .ok (.iconst 1, 1) := dk_4 (dk_at dksX6_look_23 11 rfl rfl)
theorem dX6_look_626 : decode cX6_look 626 = .ok (.goto 4, 3) := dk_167 0 4 (dk_at dksX6_look_23 12 rfl rfl)
theorem dX6_look_629 : decode cX6_look 629 = .ok (.iconst 0, 1) := dk_3 (dk_at dksX6_look_23 15 rfl rfl)
theorem dX6_look_630 : decode cX6_look 630 = .ok (.invokevirtual 458, 3) := dk_182 1 202 (dk_at dksX6_look_23 16 rfl rfl)
theorem dX6_look_633 : decode cX6_look 633 = .ok (.aload_n 0, 1) := dk_42 (dk_at dksX6_look_23 19 rfl rfl)
theorem dX6_look_634 : decode cX6_look 634 = .ok (.getfield 139, 3) := dk_180 0 139 (dk_at dksX6_look_23 20 rfl rfl)
theorem dX6_look_637 : decode cX6_look 637 = .ok (.iload_n 1, 1) := dk_27 (dk_at dksX6_look_23 23 rfl rfl)
theorem dX6_look_638 : decode cX6_look 638 = .ok (.iconst 0, 1) := dk_3 (dk_at dksX6_look_24 0 rfl rfl)
theorem dX6_look_639 : decode cX6_look 639 = .ok (.bastore, 1) := dk_84 (dk_at dksX6_look_24 1 rfl rfl)
theorem dX6_look_640 : decode cX6_look 640 = .ok (.goto 37, 3) := dk_167 0 37 (dk_at dksX6_look_24 2 rfl rfl)
theorem dX6_look_643 : decode cX6_look 643 = .ok (.aload_n 0, 1) := dk_42 (dk_at dksX6_look_24 5 rfl rfl)
theorem dX6_look_644 : decode cX6_look 644 = .ok (.aload_n 0, 1) := dk_42 (dk_at dksX6_look_24 6 rfl rfl)
theorem dX6_look_645 : decode cX6_look 645 = .ok (.getfield 139, 3) := dk_180 0 139 (dk_at dksX6_look_24 7 rfl rfl)
theorem dX6_look_648 : decode cX6_look 648 = .ok (.iload 4, 2) := dk_21 4 (dk_at dksX6_look_24 10 rfl rfl)
theorem dX6_look_650 : decode cX6_look 650 = .ok (.baload, 1) := dk_51 (dk_at dksX6_look_24 12 rfl rfl)
theorem dX6_look_651 : decode cX6_look 651 = .ok (.invokevirtual 458, 3) := dk_182 1 202 (dk_at dksX6_look_24 13 rfl rfl)
theorem dX6_look_654 : decode cX6_look 654 = .ok (.aload_n 0, 1) := dk_42 (dk_at dksX6_look_24 16 rfl rfl)
theorem dX6_look_655 : decode cX6_look 655 = .ok (.getfield 139, 3) := dk_180 0 139 (dk_at dksX6_look_24 17 rfl rfl)
theorem dX6_look_658 : decode cX6_look 658 = .ok (.iload_n 1, 1) := dk_27 (dk_at dksX6_look_24 20 rfl rfl)
theorem dX6_look_659 : decode cX6_look 659 = .ok (.iconst 1, 1) := dk_4 (dk_at dksX6_look_24 21 rfl rfl)
theorem dX6_look_660 : decode cX6_look 660 = .ok (.bastore, 1) := dk_84 (dk_at dksX6_look_24 22 rfl rfl)
theorem dX6_look_661 : decode cX6_look 661 = .ok (.goto 16, 3) := dk_167 0 16 (dk_at dksX6_look_25 0 rfl rfl)
theorem dX6_look_664 : decode cX6_look 664 = .ok (.aload_n 0, 1) := dk_42 (dk_at dksX6_look_25 3 rfl rfl)
theorem dX6_look_665 : decode cX6_look 665 = .ok (.getfield 139, 3) := dk_180 0 139 (dk_at dksX6_look_25 4 rfl rfl)
theorem dX6_look_668 : decode cX6_look 668 = .ok (.iload_n 1, 1) := dk_27 (dk_at dksX6_look_25 7 rfl rfl)
theorem dX6_look_669 : decode cX6_look 669 = .ok (.aload_n 0, 1) := dk_42 (dk_at dksX6_look_25 8 rfl rfl)
theorem dX6_look_670 : decode cX6_look 670 = .ok (.getfield 139, 3) := dk_180 0 139 (dk_at dksX6_look_25 9 rfl rfl)
theorem dX6_look_673 : decode cX6_look 673 = .ok (.iload 4, 2) := dk_21 4 (dk_at dksX6_look_25 12 rfl rfl)
theorem dX6_look_675 : decode cX6_look 675 = .ok (.baload, 1) := dk_51 (dk_at dksX6_look_25 14 rfl rfl)
theorem dX6_look_676 : decode cX6_look 676 = .ok (.bastore, 1) := dk_84 (dk_at dksX6_look_25 15 rfl rfl)
theorem dX6_look_677 : decode cX6_look 677 = .ok (.return_, 1) := dk_177 (dk_at dksX6_look_25 16 rfl rfl)
abbrev cX6_type : ByteArray := prog_26_method_41_code
def yX6_type : MethodName := ⟨RX6, "type", "(Z)V"⟩
def dkwX6_type_0 : List UInt8 := [27, 154, 0, 16, 187, 1, 40, 89, 7, 42, 180, 0, 142, 183, 1, 42, 191, 177]
abbrev dktX6_type_0 : List UInt8 := dkwX6_type_0 ++ []
theorem dksX6_type_0 : cX6_type.data.toList.drop 0 = dktX6_type_0 := by decide +kernel
theorem dX6_type_0 : decode cX6_type 0 = .ok (.iload_n 1, 1) := dk_27 (dk_at dksX6_type_0 0 rfl rfl)
theorem dX6_type_1 : decode cX6_type 1 = .ok (.ifCond .ne 16, 3) := dk_154 0 16 (dk_at dksX6_type_0 1 rfl rfl)
theorem dX6_type_4 : decode cX6_type 4 = .ok (.new 296, 3) := dk_187 1 40 (dk_at dksX6_type_0 4 rfl rfl)
theorem dX6_type_7 : decode cX6_type 7 = .ok (.dup, 1) := dk_89 (dk_at dksX6_type_0 7 rfl rfl)
theorem dX6_type_8 : decode cX6_type 8 = .ok (.iconst 4, 1) := dk_7 (dk_at dksX6_type_0 8 rfl rfl)
theorem dX6_type_9 : decode cX6_type 9 = .ok (.aload_n 0, 1) := dk_42 (dk_at dksX6_type_0 9 rfl rfl)
theorem dX6_type_10 : decode cX6_type 10 = .ok (.getfield 142, 3) := dk_180 0 142 (dk_at dksX6_type_0 10 rfl rfl)
theorem dX6_type_13 : decode cX6_type 13 = .ok (.invokespecial 298, 3) := dk_183 1 42 (dk_at dksX6_type_0 13 rfl rfl)
theorem dX6_type_16 : decode cX6_type 16 = .ok (.athrow, 1) := dk_191 (dk_at dksX6_type_0 16 rfl rfl)
theorem dX6_type_17 : decode cX6_type 17 = .ok (.return_, 1) := dk_177 (dk_at dksX6_type_0 17 rfl rfl)
abbrev cX6_lookAtClock : ByteArray := prog_26_method_46_code
def yX6_lookAtClock : MethodName := ⟨RX6, "lookAtClock", "(I)V"⟩
def dkwX6_lookAtClock_7 : List UInt8 := [180, 0, 124, 27, 29, 79, 177]
abbrev dktX6_lookAtClock_7 : List UInt8 := dkwX6_lookAtClock_7 ++ []
def dkwX6_lookAtClock_6 : List UInt8 := [180, 0, 124, 21, 4, 46, 182, 1, 211, 62, 42, 180, 0, 121, 21, 4, 46, 54, 4, 167, 255, 229, 42]
abbrev dktX6_lookAtClock_6 : List UInt8 := dkwX6_lookAtClock_6 ++ dktX6_lookAtClock_7
def dkwX6_lookAtClock_5 : List UInt8 := [28, 46, 5, 108, 182, 1, 208, 62, 167, 0, 36, 28, 54, 4, 21, 4, 155, 0, 28, 42, 29, 42]
abbrev dktX6_lookAtClock_5 : List UInt8 := dkwX6_lookAtClock_5 ++ dktX6_lookAtClock_6
def dkwX6_lookAtClock_4 : List UInt8 := [28, 46, 156, 0, 17, 187, 1, 40, 89, 16, 6, 42, 180, 0, 142, 183, 1, 42, 191, 42, 42, 180, 0, 124]
abbrev dktX6_lookAtClock_4 : List UInt8 := dkwX6_lookAtClock_4 ++ dktX6_lookAtClock_5
def dkwX6_lookAtClock_3 : List UInt8 := [180, 0, 115, 27, 46, 62, 167, 0, 86, 42, 180, 0, 112, 27, 46, 16, 25, 160, 0, 42, 42, 180, 0, 124]
abbrev dktX6_lookAtClock_3 : List UInt8 := dkwX6_lookAtClock_3 ++ dktX6_lookAtClock_4
def dkwX6_lookAtClock_2 : List UInt8 := [42, 180, 0, 124, 28, 46, 42, 42, 180, 0, 115, 27, 46, 5, 108, 182, 1, 208, 182, 1, 211, 87, 42]
abbrev dktX6_lookAtClock_2 : List UInt8 := dkwX6_lookAtClock_2 ++ dktX6_lookAtClock_3
def dkwX6_lookAtClock_1 : List UInt8 := [180, 0, 115, 27, 46, 182, 1, 208, 62, 167, 0, 130, 42, 180, 0, 112, 27, 46, 16, 26, 160, 0, 36, 42]
abbrev dktX6_lookAtClock_1 : List UInt8 := dkwX6_lookAtClock_1 ++ dktX6_lookAtClock_2
def dkwX6_lookAtClock_0 : List UInt8 := [42, 180, 0, 118, 27, 46, 61, 16, 254, 62, 42, 180, 0, 112, 27, 46, 5, 160, 0, 17, 42, 42]
abbrev dktX6_lookAtClock_0 : List UInt8 := dkwX6_lookAtClock_0 ++ dktX6_lookAtClock_1
theorem dksX6_lookAtClock_0 : cX6_lookAtClock.data.toList.drop 0 = dktX6_lookAtClock_0 := by decide +kernel
theorem dksX6_lookAtClock_1 : cX6_lookAtClock.data.toList.drop 22 = dktX6_lookAtClock_1 := dk_seg dksX6_lookAtClock_0 22 rfl rfl
theorem dksX6_lookAtClock_2 : cX6_lookAtClock.data.toList.drop 46 = dktX6_lookAtClock_2 := dk_seg dksX6_lookAtClock_1 24 rfl rfl
theorem dksX6_lookAtClock_3 : cX6_lookAtClock.data.toList.drop 69 = dktX6_lookAtClock_3 := dk_seg dksX6_lookAtClock_2 23 rfl rfl
theorem dksX6_lookAtClock_4 : cX6_lookAtClock.data.toList.drop 93 = dktX6_lookAtClock_4 := dk_seg dksX6_lookAtClock_3 24 rfl rfl
theorem dksX6_lookAtClock_5 : cX6_lookAtClock.data.toList.drop 117 = dktX6_lookAtClock_5 := dk_seg dksX6_lookAtClock_4 24 rfl rfl
theorem dksX6_lookAtClock_6 : cX6_lookAtClock.data.toList.drop 139 = dktX6_lookAtClock_6 := dk_seg dksX6_lookAtClock_5 22 rfl rfl
theorem dksX6_lookAtClock_7 : cX6_lookAtClock.data.toList.drop 162 = dktX6_lookAtClock_7 := dk_seg dksX6_lookAtClock_6 23 rfl rfl
theorem dX6_lookAtClock_0 : decode cX6_lookAtClock 0 = .ok (.aload_n 0, 1) := dk_42 (dk_at dksX6_lookAtClock_0 0 rfl rfl)
theorem dX6_lookAtClock_1 : decode cX6_lookAtClock 1 = .ok (.getfield 118, 3) := dk_180 0 118 (dk_at dksX6_lookAtClock_0 1 rfl rfl)
theorem dX6_lookAtClock_4 : decode cX6_lookAtClock 4 = .ok (.iload_n 1, 1) := dk_27 (dk_at dksX6_lookAtClock_0 4 rfl rfl)
theorem dX6_lookAtClock_5 : decode cX6_lookAtClock 5 = .ok (.iaload, 1) := dk_46 (dk_at dksX6_lookAtClock_0 5 rfl rfl)
theorem dX6_lookAtClock_6 : decode cX6_lookAtClock 6 = .ok (.istore_n 2, 1) := dk_61 (dk_at dksX6_lookAtClock_0 6 rfl rfl)
theorem dX6_lookAtClock_7 : decode cX6_lookAtClock 7 = .ok (.bipush (-2), 2) := dk_16 254 (dk_at dksX6_lookAtClock_0 7 rfl rfl)
theorem dX6_lookAtClock_9 : decode cX6_lookAtClock 9 = .ok (.istore_n 3, 1) := dk_62 (dk_at dksX6_lookAtClock_0 9 rfl rfl)
theorem dX6_lookAtClock_10 : decode cX6_lookAtClock 10 = .ok (.aload_n 0, 1) := dk_42 (dk_at dksX6_lookAtClock_0 10 rfl rfl)
theorem dX6_lookAtClock_11 : decode cX6_lookAtClock 11 = .ok (.getfield 112, 3) := dk_180 0 112 (dk_at dksX6_lookAtClock_0 11 rfl rfl)
theorem dX6_lookAtClock_14 : decode cX6_lookAtClock 14 = .ok (.iload_n 1, 1) := dk_27 (dk_at dksX6_lookAtClock_0 14 rfl rfl)
theorem dX6_lookAtClock_15 : decode cX6_lookAtClock 15 = .ok (.iaload, 1) := dk_46 (dk_at dksX6_lookAtClock_0 15 rfl rfl)
theorem dX6_lookAtClock_16 : decode cX6_lookAtClock 16 = .ok (.iconst 2, 1) := dk_5 (dk_at dksX6_lookAtClock_0 16 rfl rfl)
theorem dX6_lookAtClock_17 : decode cX6_lookAtClock 17 = .ok (.if_icmp .ne 17, 3) := dk_160 0 17 (dk_at dksX6_lookAtClock_0 17 rfl rfl)
theorem dX6_lookAtClock_20 : decode cX6_lookAtClock 20 = .ok (.aload_n 0, 1) := dk_42 (dk_at dksX6_lookAtClock_0 20 rfl rfl)
theorem dX6_lookAtClock_21 : decode cX6_lookAtClock 21 = .ok (.aload_n 0, 1) := dk_42 (dk_at dksX6_lookAtClock_0 21 rfl rfl)
theorem dX6_lookAtClock_22 : decode cX6_lookAtClock 22 = .ok (.getfield 115, 3) := dk_180 0 115 (dk_at dksX6_lookAtClock_1 0 rfl rfl)
theorem dX6_lookAtClock_25 : decode cX6_lookAtClock 25 = .ok (.iload_n 1, 1) := dk_27 (dk_at dksX6_lookAtClock_1 3 rfl rfl)
theorem dX6_lookAtClock_26 : decode cX6_lookAtClock 26 = .ok (.iaload, 1) := dk_46 (dk_at dksX6_lookAtClock_1 4 rfl rfl)
theorem dX6_lookAtClock_27 : decode cX6_lookAtClock 27 = .ok (.invokevirtual 464, 3) := dk_182 1 208 (dk_at dksX6_lookAtClock_1 5 rfl rfl)
theorem dX6_lookAtClock_30 : decode cX6_lookAtClock 30 = .ok (.istore_n 3, 1) := dk_62 (dk_at dksX6_lookAtClock_1 8 rfl rfl)
theorem dX6_lookAtClock_31 : decode cX6_lookAtClock 31 = .ok (.goto 130, 3) := dk_167 0 130 (dk_at dksX6_lookAtClock_1 9 rfl rfl)
theorem dX6_lookAtClock_34 : decode cX6_lookAtClock 34 = .ok (.aload_n 0, 1) := dk_42 (dk_at dksX6_lookAtClock_1 12 rfl rfl)
theorem dX6_lookAtClock_35 : decode cX6_lookAtClock 35 = .ok (.getfield 112, 3) := dk_180 0 112 (dk_at dksX6_lookAtClock_1 13 rfl rfl)
theorem dX6_lookAtClock_38 : decode cX6_lookAtClock 38 = .ok (.iload_n 1, 1) := dk_27 (dk_at dksX6_lookAtClock_1 16 rfl rfl)
theorem dX6_lookAtClock_39 : decode cX6_lookAtClock 39 = .ok (.iaload, 1) := dk_46 (dk_at dksX6_lookAtClock_1 17 rfl rfl)
theorem dX6_lookAtClock_40 : decode cX6_lookAtClock 40 = .ok (.bipush 26, 2) := dk_16 26 (dk_at dksX6_lookAtClock_1 18 rfl rfl)
theorem dX6_lookAtClock_42 : decode cX6_lookAtClock 42 = .ok (.if_icmp .ne 36, 3) := dk_160 0 36 (dk_at dksX6_lookAtClock_1 20 rfl rfl)
theorem dX6_lookAtClock_45 : decode cX6_lookAtClock 45 = .ok (.aload_n 0, 1) := dk_42 (dk_at dksX6_lookAtClock_1 23 rfl rfl)
theorem dX6_lookAtClock_46 : decode cX6_lookAtClock 46 = .ok (.aload_n 0, 1) := dk_42 (dk_at dksX6_lookAtClock_2 0 rfl rfl)
theorem dX6_lookAtClock_47 : decode cX6_lookAtClock 47 = .ok (.getfield 124, 3) := dk_180 0 124 (dk_at dksX6_lookAtClock_2 1 rfl rfl)
theorem dX6_lookAtClock_50 : decode cX6_lookAtClock 50 = .ok (.iload_n 2, 1) := dk_28 (dk_at dksX6_lookAtClock_2 4 rfl rfl)
theorem dX6_lookAtClock_51 : decode cX6_lookAtClock 51 = .ok (.iaload, 1) := dk_46 (dk_at dksX6_lookAtClock_2 5 rfl rfl)
theorem dX6_lookAtClock_52 : decode cX6_lookAtClock 52 = .ok (.aload_n 0, 1) := dk_42 (dk_at dksX6_lookAtClock_2 6 rfl rfl)
theorem dX6_lookAtClock_53 : decode cX6_lookAtClock 53 = .ok (.aload_n 0, 1) := dk_42 (dk_at dksX6_lookAtClock_2 7 rfl rfl)
theorem dX6_lookAtClock_54 : decode cX6_lookAtClock 54 = .ok (.getfield 115, 3) := dk_180 0 115 (dk_at dksX6_lookAtClock_2 8 rfl rfl)
theorem dX6_lookAtClock_57 : decode cX6_lookAtClock 57 = .ok (.iload_n 1, 1) := dk_27 (dk_at dksX6_lookAtClock_2 11 rfl rfl)
theorem dX6_lookAtClock_58 : decode cX6_lookAtClock 58 = .ok (.iaload, 1) := dk_46 (dk_at dksX6_lookAtClock_2 12 rfl rfl)
theorem dX6_lookAtClock_59 : decode cX6_lookAtClock 59 = .ok (.iconst 2, 1) := dk_5 (dk_at dksX6_lookAtClock_2 13 rfl rfl)
theorem dX6_lookAtClock_60 : decode cX6_lookAtClock 60 = .ok (.idiv, 1) := dk_108 (dk_at dksX6_lookAtClock_2 14 rfl rfl)
theorem dX6_lookAtClock_61 : decode cX6_lookAtClock 61 = .ok (.invokevirtual 464, 3) := dk_182 1 208 (dk_at dksX6_lookAtClock_2 15 rfl rfl)
theorem dX6_lookAtClock_64 : decode cX6_lookAtClock 64 = .ok (.invokevirtual 467, 3) := dk_182 1 211 (dk_at dksX6_lookAtClock_2 18 rfl rfl)
theorem dX6_lookAtClock_67 : decode cX6_lookAtClock 67 = .ok (.pop, 1) := dk_87 (dk_at dksX6_lookAtClock_2 21 rfl rfl)
theorem dX6_lookAtClock_68 : decode cX6_lookAtClock 68 = .ok (.aload_n 0, 1) := dk_42 (dk_at dksX6_lookAtClock_2 22 rfl rfl)
theorem dX6_lookAtClock_69 : decode cX6_lookAtClock 69 = .ok (.getfield 115, 3) := dk_180 0 115 (dk_at dksX6_lookAtClock_3 0 rfl rfl)
theorem dX6_lookAtClock_72 : decode cX6_lookAtClock 72 = .ok (.iload_n 1, 1) := dk_27 (dk_at dksX6_lookAtClock_3 3 rfl rfl)
theorem dX6_lookAtClock_73 : decode cX6_lookAtClock 73 = .ok (.iaload, 1) := dk_46 (dk_at dksX6_lookAtClock_3 4 rfl rfl)
theorem dX6_lookAtClock_74 : decode cX6_lookAtClock 74 = .ok (.istore_n 3, 1) := dk_62 (dk_at dksX6_lookAtClock_3 5 rfl rfl)
theorem dX6_lookAtClock_75 : decode cX6_lookAtClock 75 = .ok (.goto 86, 3) := dk_167 0 86 (dk_at dksX6_lookAtClock_3 6 rfl rfl)
theorem dX6_lookAtClock_78 : decode cX6_lookAtClock 78 = .ok (.aload_n 0, 1) := dk_42 (dk_at dksX6_lookAtClock_3 9 rfl rfl)
theorem dX6_lookAtClock_79 : decode cX6_lookAtClock 79 = .ok (.getfield 112, 3) := dk_180 0 112 (dk_at dksX6_lookAtClock_3 10 rfl rfl)
theorem dX6_lookAtClock_82 : decode cX6_lookAtClock 82 = .ok (.iload_n 1, 1) := dk_27 (dk_at dksX6_lookAtClock_3 13 rfl rfl)
theorem dX6_lookAtClock_83 : decode cX6_lookAtClock 83 = .ok (.iaload, 1) := dk_46 (dk_at dksX6_lookAtClock_3 14 rfl rfl)
theorem dX6_lookAtClock_84 : decode cX6_lookAtClock 84 = .ok (.bipush 25, 2) := dk_16 25 (dk_at dksX6_lookAtClock_3 15 rfl rfl)
theorem dX6_lookAtClock_86 : decode cX6_lookAtClock 86 = .ok (.if_icmp .ne 42, 3) := dk_160 0 42 (dk_at dksX6_lookAtClock_3 17 rfl rfl)
theorem dX6_lookAtClock_89 : decode cX6_lookAtClock 89 = .ok (.aload_n 0, 1) := dk_42 (dk_at dksX6_lookAtClock_3 20 rfl rfl)
theorem dX6_lookAtClock_90 : decode cX6_lookAtClock 90 = .ok (.getfield 124, 3) := dk_180 0 124 (dk_at dksX6_lookAtClock_3 21 rfl rfl)
theorem dX6_lookAtClock_93 : decode cX6_lookAtClock 93 = .ok (.iload_n 2, 1) := dk_28 (dk_at dksX6_lookAtClock_4 0 rfl rfl)
theorem dX6_lookAtClock_94 : decode cX6_lookAtClock 94 = .ok (.iaload, 1) := dk_46 (dk_at dksX6_lookAtClock_4 1 rfl rfl)
theorem dX6_lookAtClock_95 : decode cX6_lookAtClock 95 = .ok (.ifCond .ge 17, 3) := dk_156 0 17 (dk_at dksX6_lookAtClock_4 2 rfl rfl)
theorem dX6_lookAtClock_98 : decode cX6_lookAtClock 98 = .ok (.new 296, 3) := dk_187 1 40 (dk_at dksX6_lookAtClock_4 5 rfl rfl)
theorem dX6_lookAtClock_101 : decode cX6_lookAtClock 101 = .ok (.dup, 1) := dk_89 (dk_at dksX6_lookAtClock_4 8 rfl rfl)
theorem dX6_lookAtClock_102 : decode cX6_lookAtClock 102 = .ok (.bipush 6, 2) := dk_16 6 (dk_at dksX6_lookAtClock_4 9 rfl rfl)
theorem dX6_lookAtClock_104 : decode cX6_lookAtClock 104 = .ok (.aload_n 0, 1) := dk_42 (dk_at dksX6_lookAtClock_4 11 rfl rfl)
theorem dX6_lookAtClock_105 : decode cX6_lookAtClock 105 = .ok (.getfield 142, 3) := dk_180 0 142 (dk_at dksX6_lookAtClock_4 12 rfl rfl)
theorem dX6_lookAtClock_108 : decode cX6_lookAtClock 108 = .ok (.invokespecial 298, 3) := dk_183 1 42 (dk_at dksX6_lookAtClock_4 15 rfl rfl)
theorem dX6_lookAtClock_111 : decode cX6_lookAtClock 111 = .ok (.athrow, 1) := dk_191 (dk_at dksX6_lookAtClock_4 18 rfl rfl)
theorem dX6_lookAtClock_112 : decode cX6_lookAtClock 112 = .ok (.aload_n 0, 1) := dk_42 (dk_at dksX6_lookAtClock_4 19 rfl rfl)
theorem dX6_lookAtClock_113 : decode cX6_lookAtClock 113 = .ok (.aload_n 0, 1) := dk_42 (dk_at dksX6_lookAtClock_4 20 rfl rfl)
theorem dX6_lookAtClock_114 : decode cX6_lookAtClock 114 = .ok (.getfield 124, 3) := dk_180 0 124 (dk_at dksX6_lookAtClock_4 21 rfl rfl)
theorem dX6_lookAtClock_117 : decode cX6_lookAtClock 117 = .ok (.iload_n 2, 1) := dk_28 (dk_at dksX6_lookAtClock_5 0 rfl rfl)
theorem dX6_lookAtClock_118 : decode cX6_lookAtClock 118 = .ok (.iaload, 1) := dk_46 (dk_at dksX6_lookAtClock_5 1 rfl rfl)
theorem dX6_lookAtClock_119 : decode cX6_lookAtClock 119 = .ok (.iconst 2, 1) := dk_5 (dk_at dksX6_lookAtClock_5 2 rfl rfl)
theorem dX6_lookAtClock_120 : decode cX6_lookAtClock 120 = .ok (.idiv, 1) := dk_108 (dk_at dksX6_lookAtClock_5 3 rfl rfl)
theorem dX6_lookAtClock_121 : decode cX6_lookAtClock 121 = .ok (.invokevirtual 464, 3) := dk_182 1 208 (dk_at dksX6_lookAtClock_5 4 rfl rfl)
theorem dX6_lookAtClock_124 : decode cX6_lookAtClock 124 = .ok (.istore_n 3, 1) := dk_62 (dk_at dksX6_lookAtClock_5 7 rfl rfl)
theorem dX6_lookAtClock_125 : decode cX6_lookAtClock 125 = .ok (.goto 36, 3) := dk_167 0 36 (dk_at dksX6_lookAtClock_5 8 rfl rfl)
theorem dX6_lookAtClock_128 : decode cX6_lookAtClock 128 = .ok (.iload_n 2, 1) := dk_28 (dk_at dksX6_lookAtClock_5 11 rfl rfl)
theorem dX6_lookAtClock_129 : decode cX6_lookAtClock 129 = .ok (.istore 4, 2) := dk_54 4 (dk_at dksX6_lookAtClock_5 12 rfl rfl)
theorem dX6_lookAtClock_131 : decode cX6_lookAtClock 131 = .ok (.iload 4, 2) := dk_21 4 (dk_at dksX6_lookAtClock_5 14 rfl rfl)
theorem dX6_lookAtClock_133 : decode cX6_lookAtClock 133 = .ok (.ifCond .lt 28, 3) := dk_155 0 28 (dk_at dksX6_lookAtClock_5 16 rfl rfl)
theorem dX6_lookAtClock_136 : decode cX6_lookAtClock 136 = .ok (.aload_n 0, 1) := dk_42 (dk_at dksX6_lookAtClock_5 19 rfl rfl)
theorem dX6_lookAtClock_137 : decode cX6_lookAtClock 137 = .ok (.iload_n 3, 1) := dk_29 (dk_at dksX6_lookAtClock_5 20 rfl rfl)
theorem dX6_lookAtClock_138 : decode cX6_lookAtClock 138 = .ok (.aload_n 0, 1) := dk_42 (dk_at dksX6_lookAtClock_5 21 rfl rfl)
theorem dX6_lookAtClock_139 : decode cX6_lookAtClock 139 = .ok (.getfield 124, 3) := dk_180 0 124 (dk_at dksX6_lookAtClock_6 0 rfl rfl)
theorem dX6_lookAtClock_142 : decode cX6_lookAtClock 142 = .ok (.iload 4, 2) := dk_21 4 (dk_at dksX6_lookAtClock_6 3 rfl rfl)
theorem dX6_lookAtClock_144 : decode cX6_lookAtClock 144 = .ok (.iaload, 1) := dk_46 (dk_at dksX6_lookAtClock_6 5 rfl rfl)
theorem dX6_lookAtClock_145 : decode cX6_lookAtClock 145 = .ok (.invokevirtual 467, 3) := dk_182 1 211 (dk_at dksX6_lookAtClock_6 6 rfl rfl)
theorem dX6_lookAtClock_148 : decode cX6_lookAtClock 148 = .ok (.istore_n 3, 1) := dk_62 (dk_at dksX6_lookAtClock_6 9 rfl rfl)
theorem dX6_lookAtClock_149 : decode cX6_lookAtClock 149 = .ok (.aload_n 0, 1) := dk_42 (dk_at dksX6_lookAtClock_6 10 rfl rfl)
theorem dX6_lookAtClock_150 : decode cX6_lookAtClock 150 = .ok (.getfield 121, 3) := dk_180 0 121 (dk_at dksX6_lookAtClock_6 11 rfl rfl)
theorem dX6_lookAtClock_153 : decode cX6_lookAtClock 153 = .ok (.iload 4, 2) := dk_21 4 (dk_at dksX6_lookAtClock_6 14 rfl rfl)
theorem dX6_lookAtClock_155 : decode cX6_lookAtClock 155 = .ok (.iaload, 1) := dk_46 (dk_at dksX6_lookAtClock_6 16 rfl rfl)
theorem dX6_lookAtClock_156 : decode cX6_lookAtClock 156 = .ok (.istore 4, 2) := dk_54 4 (dk_at dksX6_lookAtClock_6 17 rfl rfl)
theorem dX6_lookAtClock_158 : decode cX6_lookAtClock 158 = .ok (.goto (-27), 3) := dk_167 255 229 (dk_at dksX6_lookAtClock_6 19 rfl rfl)
theorem dX6_lookAtClock_161 : decode cX6_lookAtClock 161 = .ok (.aload_n 0, 1) := dk_42 (dk_at dksX6_lookAtClock_6 22 rfl rfl)
theorem dX6_lookAtClock_162 : decode cX6_lookAtClock 162 = .ok (.getfield 124, 3) := dk_180 0 124 (dk_at dksX6_lookAtClock_7 0 rfl rfl)
theorem dX6_lookAtClock_165 : decode cX6_lookAtClock 165 = .ok (.iload_n 1, 1) := dk_27 (dk_at dksX6_lookAtClock_7 3 rfl rfl)
theorem dX6_lookAtClock_166 : decode cX6_lookAtClock 166 = .ok (.iload_n 3, 1) := dk_29 (dk_at dksX6_lookAtClock_7 4 rfl rfl)
theorem dX6_lookAtClock_167 : decode cX6_lookAtClock 167 = .ok (.iastore, 1) := dk_79 (dk_at dksX6_lookAtClock_7 5 rfl rfl)
theorem dX6_lookAtClock_168 : decode cX6_lookAtClock 168 = .ok (.return_, 1) := dk_177 (dk_at dksX6_lookAtClock_7 6 rfl rfl)
abbrev cX6_clockOfVariable : ByteArray := prog_26_method_43_code
def yX6_clockOfVariable : MethodName := ⟨RX6, "clockOfVariable", "(I)I"⟩
def dkwX6_clockOfVariable_0 : List UInt8 := [42, 180, 0, 80, 42, 180, 0, 50, 42, 180, 0, 68, 46, 27, 96, 46, 172]
abbrev dktX6_clockOfVariable_0 : List UInt8 := dkwX6_clockOfVariable_0 ++ []
theorem dksX6_clockOfVariable_0 : cX6_clockOfVariable.data.toList.drop 0 = dktX6_clockOfVariable_0 := by decide +kernel
theorem dX6_clockOfVariable_0 : decode cX6_clockOfVariable 0 = .ok (.aload_n 0, 1) := dk_42 (dk_at dksX6_clockOfVariable_0 0 rfl rfl)
theorem dX6_clockOfVariable_1 : decode cX6_clockOfVariable 1 = .ok (.getfield 80, 3) := dk_180 0 80 (dk_at dksX6_clockOfVariable_0 1 rfl rfl)
theorem dX6_clockOfVariable_4 : decode cX6_clockOfVariable 4 = .ok (.aload_n 0, 1) := dk_42 (dk_at dksX6_clockOfVariable_0 4 rfl rfl)
theorem dX6_clockOfVariable_5 : decode cX6_clockOfVariable 5 = .ok (.getfield 50, 3) := dk_180 0 50 (dk_at dksX6_clockOfVariable_0 5 rfl rfl)
theorem dX6_clockOfVariable_8 : decode cX6_clockOfVariable 8 = .ok (.aload_n 0, 1) := dk_42 (dk_at dksX6_clockOfVariable_0 8 rfl rfl)
theorem dX6_clockOfVariable_9 : decode cX6_clockOfVariable 9 = .ok (.getfield 68, 3) := dk_180 0 68 (dk_at dksX6_clockOfVariable_0 9 rfl rfl)
theorem dX6_clockOfVariable_12 : decode cX6_clockOfVariable 12 = .ok (.iaload, 1) := dk_46 (dk_at dksX6_clockOfVariable_0 12 rfl rfl)
theorem dX6_clockOfVariable_13 : decode cX6_clockOfVariable 13 = .ok (.iload_n 1, 1) := dk_27 (dk_at dksX6_clockOfVariable_0 13 rfl rfl)
theorem dX6_clockOfVariable_14 : decode cX6_clockOfVariable 14 = .ok (.iadd, 1) := dk_96 (dk_at dksX6_clockOfVariable_0 14 rfl rfl)
theorem dX6_clockOfVariable_15 : decode cX6_clockOfVariable 15 = .ok (.iaload, 1) := dk_46 (dk_at dksX6_clockOfVariable_0 15 rfl rfl)
theorem dX6_clockOfVariable_16 : decode cX6_clockOfVariable 16 = .ok (.ireturn, 1) := dk_172 (dk_at dksX6_clockOfVariable_0 16 rfl rfl)
abbrev cX6_together : ByteArray := prog_26_method_42_code
def yX6_together : MethodName := ⟨RX6, "together", "(II)I"⟩
def dkwX6_together_1 : List UInt8 := [16, 6, 42, 180, 0, 142, 183, 1, 42, 191, 27, 172]
abbrev dktX6_together_1 : List UInt8 := dkwX6_together_1 ++ []
def dkwX6_together_0 : List UInt8 := [27, 16, 254, 160, 0, 5, 28, 172, 28, 16, 254, 159, 0, 22, 27, 28, 159, 0, 17, 187, 1, 40, 89]
abbrev dktX6_together_0 : List UInt8 := dkwX6_together_0 ++ dktX6_together_1
theorem dksX6_together_0 : cX6_together.data.toList.drop 0 = dktX6_together_0 := by decide +kernel
theorem dksX6_together_1 : cX6_together.data.toList.drop 23 = dktX6_together_1 := dk_seg dksX6_together_0 23 rfl rfl
theorem dX6_together_0 : decode cX6_together 0 = .ok (.iload_n 1, 1) := dk_27 (dk_at dksX6_together_0 0 rfl rfl)
theorem dX6_together_1 : decode cX6_together 1 = .ok (.bipush (-2), 2) := dk_16 254 (dk_at dksX6_together_0 1 rfl rfl)
theorem dX6_together_3 : decode cX6_together 3 = .ok (.if_icmp .ne 5, 3) := dk_160 0 5 (dk_at dksX6_together_0 3 rfl rfl)
theorem dX6_together_6 : decode cX6_together 6 = .ok (.iload_n 2, 1) := dk_28 (dk_at dksX6_together_0 6 rfl rfl)
theorem dX6_together_7 : decode cX6_together 7 = .ok (.ireturn, 1) := dk_172 (dk_at dksX6_together_0 7 rfl rfl)
theorem dX6_together_8 : decode cX6_together 8 = .ok (.iload_n 2, 1) := dk_28 (dk_at dksX6_together_0 8 rfl rfl)
theorem dX6_together_9 : decode cX6_together 9 = .ok (.bipush (-2), 2) := dk_16 254 (dk_at dksX6_together_0 9 rfl rfl)
theorem dX6_together_11 : decode cX6_together 11 = .ok (.if_icmp .eq 22, 3) := dk_159 0 22 (dk_at dksX6_together_0 11 rfl rfl)
theorem dX6_together_14 : decode cX6_together 14 = .ok (.iload_n 1, 1) := dk_27 (dk_at dksX6_together_0 14 rfl rfl)
theorem dX6_together_15 : decode cX6_together 15 = .ok (.iload_n 2, 1) := dk_28 (dk_at dksX6_together_0 15 rfl rfl)
theorem dX6_together_16 : decode cX6_together 16 = .ok (.if_icmp .eq 17, 3) := dk_159 0 17 (dk_at dksX6_together_0 16 rfl rfl)
theorem dX6_together_19 : decode cX6_together 19 = .ok (.new 296, 3) := dk_187 1 40 (dk_at dksX6_together_0 19 rfl rfl)
theorem dX6_together_22 : decode cX6_together 22 = .ok (.dup, 1) := dk_89 (dk_at dksX6_together_0 22 rfl rfl)
theorem dX6_together_23 : decode cX6_together 23 = .ok (.bipush 6, 2) := dk_16 6 (dk_at dksX6_together_1 0 rfl rfl)
theorem dX6_together_25 : decode cX6_together 25 = .ok (.aload_n 0, 1) := dk_42 (dk_at dksX6_together_1 2 rfl rfl)
theorem dX6_together_26 : decode cX6_together 26 = .ok (.getfield 142, 3) := dk_180 0 142 (dk_at dksX6_together_1 3 rfl rfl)
theorem dX6_together_29 : decode cX6_together 29 = .ok (.invokespecial 298, 3) := dk_183 1 42 (dk_at dksX6_together_1 6 rfl rfl)
theorem dX6_together_32 : decode cX6_together 32 = .ok (.athrow, 1) := dk_191 (dk_at dksX6_together_1 9 rfl rfl)
theorem dX6_together_33 : decode cX6_together 33 = .ok (.iload_n 1, 1) := dk_27 (dk_at dksX6_together_1 10 rfl rfl)
theorem dX6_together_34 : decode cX6_together 34 = .ok (.ireturn, 1) := dk_172 (dk_at dksX6_together_1 11 rfl rfl)
abbrev cX6_around : ByteArray := prog_26_method_47_code
def yX6_around : MethodName := ⟨RX6, "around", "(I)V"⟩
def dkwX6_around_17 : List UInt8 := [132, 5, 1, 167, 255, 213, 132, 2, 1, 167, 254, 113, 177]
abbrev dktX6_around_17 : List UInt8 := dkwX6_around_17 ++ []
def dkwX6_around_16 : List UInt8 := [21, 5, 46, 156, 0, 8, 21, 5, 167, 0, 15, 42, 180, 0, 151, 42, 180, 0, 118, 21, 5, 46, 46, 79]
abbrev dktX6_around_16 : List UInt8 := dkwX6_around_16 ++ dktX6_around_17
def dkwX6_around_15 : List UInt8 := [180, 0, 103, 28, 46, 54, 5, 21, 5, 29, 163, 0, 43, 42, 180, 0, 151, 21, 5, 42, 180, 0, 118]
abbrev dktX6_around_15 : List UInt8 := dkwX6_around_15 ++ dktX6_around_16
def dkwX6_around_14 : List UInt8 := [132, 6, 1, 42, 180, 0, 121, 21, 7, 46, 54, 7, 167, 255, 103, 132, 5, 255, 167, 255, 74, 42]
abbrev dktX6_around_14 : List UInt8 := dkwX6_around_14 ++ dktX6_around_15
def dkwX6_around_13 : List UInt8 := [160, 0, 14, 21, 6, 4, 160, 0, 8, 21, 7, 167, 0, 10, 42, 180, 0, 148, 21, 5, 46, 79]
abbrev dktX6_around_13 : List UInt8 := dkwX6_around_13 ++ dktX6_around_14
def dkwX6_around_12 : List UInt8 := [159, 0, 32, 42, 180, 0, 112, 21, 5, 46, 6, 159, 0, 21, 42, 180, 0, 112, 21, 5, 46, 16, 6]
abbrev dktX6_around_12 : List UInt8 := dkwX6_around_12 ++ dktX6_around_13
def dkwX6_around_11 : List UInt8 := [180, 0, 124, 21, 7, 46, 79, 42, 180, 0, 148, 21, 7, 42, 180, 0, 112, 21, 5, 46, 16, 24]
abbrev dktX6_around_11 : List UInt8 := dkwX6_around_11 ++ dktX6_around_12
def dkwX6_around_10 : List UInt8 := [42, 180, 0, 145, 21, 7, 42, 180, 0, 124, 21, 7, 46, 16, 254, 160, 0, 8, 21, 8, 167, 0, 10, 42]
abbrev dktX6_around_10 : List UInt8 := dkwX6_around_10 ++ dktX6_around_11
def dkwX6_around_9 : List UInt8 := [46, 42, 180, 0, 115, 21, 5, 46, 5, 108, 96, 46, 167, 0, 10, 42, 180, 0, 145, 21, 5, 46, 54, 8]
abbrev dktX6_around_9 : List UInt8 := dkwX6_around_9 ++ dktX6_around_10
def dkwX6_around_8 : List UInt8 := [155, 0, 154, 42, 180, 0, 112, 21, 5, 46, 16, 26, 160, 0, 27, 42, 180, 0, 80, 42, 180, 0, 50, 27]
abbrev dktX6_around_8 : List UInt8 := dkwX6_around_8 ++ dktX6_around_9
def dkwX6_around_7 : List UInt8 := [42, 180, 0, 103, 28, 46, 161, 0, 177, 3, 54, 6, 42, 180, 0, 118, 21, 5, 46, 54, 7, 21, 7]
abbrev dktX6_around_7 : List UInt8 := dkwX6_around_7 ++ dktX6_around_8
def dkwX6_around_6 : List UInt8 := [21, 4, 167, 0, 9, 42, 180, 0, 124, 29, 46, 79, 42, 180, 0, 148, 29, 29, 79, 29, 54, 5, 21, 5]
abbrev dktX6_around_6 : List UInt8 := dkwX6_around_6 ++ dktX6_around_7
def dkwX6_around_5 : List UInt8 := [28, 46, 46, 96, 46, 54, 4, 42, 180, 0, 145, 29, 42, 180, 0, 124, 29, 46, 16, 254, 160, 0, 8]
abbrev dktX6_around_5 : List UInt8 := dkwX6_around_5 ++ dktX6_around_6
def dkwX6_around_4 : List UInt8 := [132, 4, 1, 167, 255, 192, 42, 180, 0, 80, 42, 180, 0, 50, 27, 46, 42, 180, 0, 100, 42, 180, 0, 93]
abbrev dktX6_around_4 : List UInt8 := dkwX6_around_4 ++ dktX6_around_5
def dkwX6_around_3 : List UInt8 := [180, 0, 50, 27, 46, 42, 180, 0, 100, 21, 4, 46, 96, 21, 4, 42, 180, 0, 93, 28, 46, 100, 79]
abbrev dktX6_around_3 : List UInt8 := dkwX6_around_3 ++ dktX6_around_4
def dkwX6_around_2 : List UInt8 := [180, 0, 154, 42, 180, 0, 50, 27, 46, 42, 180, 0, 100, 21, 4, 46, 96, 28, 79, 42, 180, 0, 157, 42]
abbrev dktX6_around_2 : List UInt8 := dkwX6_around_2 ++ dktX6_around_3
def dkwX6_around_1 : List UInt8 := [46, 62, 42, 180, 0, 93, 28, 46, 54, 4, 21, 4, 42, 180, 0, 93, 28, 4, 96, 46, 162, 0, 57, 42]
abbrev dktX6_around_1 : List UInt8 := dkwX6_around_1 ++ dktX6_around_2
def dkwX6_around_0 : List UInt8 := [42, 180, 0, 59, 27, 46, 61, 28, 42, 180, 0, 59, 27, 4, 96, 46, 162, 1, 137, 42, 180, 0, 96, 28]
abbrev dktX6_around_0 : List UInt8 := dkwX6_around_0 ++ dktX6_around_1
theorem dksX6_around_0 : cX6_around.data.toList.drop 0 = dktX6_around_0 := by decide +kernel
theorem dksX6_around_1 : cX6_around.data.toList.drop 24 = dktX6_around_1 := dk_seg dksX6_around_0 24 rfl rfl
theorem dksX6_around_2 : cX6_around.data.toList.drop 48 = dktX6_around_2 := dk_seg dksX6_around_1 24 rfl rfl
theorem dksX6_around_3 : cX6_around.data.toList.drop 72 = dktX6_around_3 := dk_seg dksX6_around_2 24 rfl rfl
theorem dksX6_around_4 : cX6_around.data.toList.drop 95 = dktX6_around_4 := dk_seg dksX6_around_3 23 rfl rfl
theorem dksX6_around_5 : cX6_around.data.toList.drop 119 = dktX6_around_5 := dk_seg dksX6_around_4 24 rfl rfl
theorem dksX6_around_6 : cX6_around.data.toList.drop 142 = dktX6_around_6 := dk_seg dksX6_around_5 23 rfl rfl
theorem dksX6_around_7 : cX6_around.data.toList.drop 166 = dktX6_around_7 := dk_seg dksX6_around_6 24 rfl rfl
theorem dksX6_around_8 : cX6_around.data.toList.drop 189 = dktX6_around_8 := dk_seg dksX6_around_7 23 rfl rfl
theorem dksX6_around_9 : cX6_around.data.toList.drop 213 = dktX6_around_9 := dk_seg dksX6_around_8 24 rfl rfl
theorem dksX6_around_10 : cX6_around.data.toList.drop 237 = dktX6_around_10 := dk_seg dksX6_around_9 24 rfl rfl
theorem dksX6_around_11 : cX6_around.data.toList.drop 261 = dktX6_around_11 := dk_seg dksX6_around_10 24 rfl rfl
theorem dksX6_around_12 : cX6_around.data.toList.drop 283 = dktX6_around_12 := dk_seg dksX6_around_11 22 rfl rfl
theorem dksX6_around_13 : cX6_around.data.toList.drop 306 = dktX6_around_13 := dk_seg dksX6_around_12 23 rfl rfl
theorem dksX6_around_14 : cX6_around.data.toList.drop 328 = dktX6_around_14 := dk_seg dksX6_around_13 22 rfl rfl
theorem dksX6_around_15 : cX6_around.data.toList.drop 350 = dktX6_around_15 := dk_seg dksX6_around_14 22 rfl rfl
theorem dksX6_around_16 : cX6_around.data.toList.drop 373 = dktX6_around_16 := dk_seg dksX6_around_15 23 rfl rfl
theorem dksX6_around_17 : cX6_around.data.toList.drop 397 = dktX6_around_17 := dk_seg dksX6_around_16 24 rfl rfl
theorem dX6_around_0 : decode cX6_around 0 = .ok (.aload_n 0, 1) := dk_42 (dk_at dksX6_around_0 0 rfl rfl)
theorem dX6_around_1 : decode cX6_around 1 = .ok (.getfield 59, 3) := dk_180 0 59 (dk_at dksX6_around_0 1 rfl rfl)
theorem dX6_around_4 : decode cX6_around 4 = .ok (.iload_n 1, 1) := dk_27 (dk_at dksX6_around_0 4 rfl rfl)
theorem dX6_around_5 : decode cX6_around 5 = .ok (.iaload, 1) := dk_46 (dk_at dksX6_around_0 5 rfl rfl)
theorem dX6_around_6 : decode cX6_around 6 = .ok (.istore_n 2, 1) := dk_61 (dk_at dksX6_around_0 6 rfl rfl)
theorem dX6_around_7 : decode cX6_around 7 = .ok (.iload_n 2, 1) := dk_28 (dk_at dksX6_around_0 7 rfl rfl)
theorem dX6_around_8 : decode cX6_around 8 = .ok (.aload_n 0, 1) := dk_42 (dk_at dksX6_around_0 8 rfl rfl)
theorem dX6_around_9 : decode cX6_around 9 = .ok (.getfield 59, 3) := dk_180 0 59 (dk_at dksX6_around_0 9 rfl rfl)
theorem dX6_around_12 : decode cX6_around 12 = .ok (.iload_n 1, 1) := dk_27 (dk_at dksX6_around_0 12 rfl rfl)
theorem dX6_around_13 : decode cX6_around 13 = .ok (.iconst 1, 1) := dk_4 (dk_at dksX6_around_0 13 rfl rfl)
theorem dX6_around_14 : decode cX6_around 14 = .ok (.iadd, 1) := dk_96 (dk_at dksX6_around_0 14 rfl rfl)
theorem dX6_around_15 : decode cX6_around 15 = .ok (.iaload, 1) := dk_46 (dk_at dksX6_around_0 15 rfl rfl)
theorem dX6_around_16 : decode cX6_around 16 = .ok (.if_icmp .ge 393, 3) := dk_162 1 137 (dk_at dksX6_around_0 16 rfl rfl)
theorem dX6_around_19 : decode cX6_around 19 = .ok (.aload_n 0, 1) := dk_42 (dk_at dksX6_around_0 19 rfl rfl)
theorem dX6_around_20 : decode cX6_around 20 = .ok (.getfield 96, 3) := dk_180 0 96 (dk_at dksX6_around_0 20 rfl rfl)
theorem dX6_around_23 : decode cX6_around 23 = .ok (.iload_n 2, 1) := dk_28 (dk_at dksX6_around_0 23 rfl rfl)
theorem dX6_around_24 : decode cX6_around 24 = .ok (.iaload, 1) := dk_46 (dk_at dksX6_around_1 0 rfl rfl)
theorem dX6_around_25 : decode cX6_around 25 = .ok (.istore_n 3, 1) := dk_62 (dk_at dksX6_around_1 1 rfl rfl)
theorem dX6_around_26 : decode cX6_around 26 = .ok (.aload_n 0, 1) := dk_42 (dk_at dksX6_around_1 2 rfl rfl)
theorem dX6_around_27 : decode cX6_around 27 = .ok (.getfield 93, 3) := dk_180 0 93 (dk_at dksX6_around_1 3 rfl rfl)
theorem dX6_around_30 : decode cX6_around 30 = .ok (.iload_n 2, 1) := dk_28 (dk_at dksX6_around_1 6 rfl rfl)
theorem dX6_around_31 : decode cX6_around 31 = .ok (.iaload, 1) := dk_46 (dk_at dksX6_around_1 7 rfl rfl)
theorem dX6_around_32 : decode cX6_around 32 = .ok (.istore 4, 2) := dk_54 4 (dk_at dksX6_around_1 8 rfl rfl)
theorem dX6_around_34 : decode cX6_around 34 = .ok (.iload 4, 2) := dk_21 4 (dk_at dksX6_around_1 10 rfl rfl)
theorem dX6_around_36 : decode cX6_around 36 = .ok (.aload_n 0, 1) := dk_42 (dk_at dksX6_around_1 12 rfl rfl)
theorem dX6_around_37 : decode cX6_around 37 = .ok (.getfield 93, 3) := dk_180 0 93 (dk_at dksX6_around_1 13 rfl rfl)
theorem dX6_around_40 : decode cX6_around 40 = .ok (.iload_n 2, 1) := dk_28 (dk_at dksX6_around_1 16 rfl rfl)
theorem dX6_around_41 : decode cX6_around 41 = .ok (.iconst 1, 1) := dk_4 (dk_at dksX6_around_1 17 rfl rfl)
theorem dX6_around_42 : decode cX6_around 42 = .ok (.iadd, 1) := dk_96 (dk_at dksX6_around_1 18 rfl rfl)
theorem dX6_around_43 : decode cX6_around 43 = .ok (.iaload, 1) := dk_46 (dk_at dksX6_around_1 19 rfl rfl)
theorem dX6_around_44 : decode cX6_around 44 = .ok (.if_icmp .ge 57, 3) := dk_162 0 57 (dk_at dksX6_around_1 20 rfl rfl)
theorem dX6_around_47 : decode cX6_around 47 = .ok (.aload_n 0, 1) := dk_42 (dk_at dksX6_around_1 23 rfl rfl)
theorem dX6_around_48 : decode cX6_around 48 = .ok (.getfield 154, 3) := dk_180 0 154 (dk_at dksX6_around_2 0 rfl rfl)
theorem dX6_around_51 : decode cX6_around 51 = .ok (.aload_n 0, 1) := dk_42 (dk_at dksX6_around_2 3 rfl rfl)
theorem dX6_around_52 : decode cX6_around 52 = .ok (.getfield 50, 3) := dk_180 0 50 (dk_at dksX6_around_2 4 rfl rfl)
theorem dX6_around_55 : decode cX6_around 55 = .ok (.iload_n 1, 1) := dk_27 (dk_at dksX6_around_2 7 rfl rfl)
theorem dX6_around_56 : decode cX6_around 56 = .ok (.iaload, 1) := dk_46 (dk_at dksX6_around_2 8 rfl rfl)
theorem dX6_around_57 : decode cX6_around 57 = .ok (.aload_n 0, 1) := dk_42 (dk_at dksX6_around_2 9 rfl rfl)
theorem dX6_around_58 : decode cX6_around 58 = .ok (.getfield 100, 3) := dk_180 0 100 (dk_at dksX6_around_2 10 rfl rfl)
theorem dX6_around_61 : decode cX6_around 61 = .ok (.iload 4, 2) := dk_21 4 (dk_at dksX6_around_2 13 rfl rfl)
theorem dX6_around_63 : decode cX6_around 63 = .ok (.iaload, 1) := dk_46 (dk_at dksX6_around_2 15 rfl rfl)
theorem dX6_around_64 : decode cX6_around 64 = .ok (.iadd, 1) := dk_96 (dk_at dksX6_around_2 16 rfl rfl)
theorem dX6_around_65 : decode cX6_around 65 = .ok (.iload_n 2, 1) := dk_28 (dk_at dksX6_around_2 17 rfl rfl)
theorem dX6_around_66 : decode cX6_around 66 = .ok (.iastore, 1) := dk_79 (dk_at dksX6_around_2 18 rfl rfl)
theorem dX6_around_67 : decode cX6_around 67 = .ok (.aload_n 0, 1) := dk_42 (dk_at dksX6_around_2 19 rfl rfl)
theorem dX6_around_68 : decode cX6_around 68 = .ok (.getfield 157, 3) := dk_180 0 157 (dk_at dksX6_around_2 20 rfl rfl)
theorem dX6_around_71 : decode cX6_around 71 = .ok (.aload_n 0, 1) := dk_42 (dk_at dksX6_around_2 23 rfl rfl)
theorem dX6_around_72 : decode cX6_around 72 = .ok (.getfield 50, 3) := dk_180 0 50 (dk_at dksX6_around_3 0 rfl rfl)
theorem dX6_around_75 : decode cX6_around 75 = .ok (.iload_n 1, 1) := dk_27 (dk_at dksX6_around_3 3 rfl rfl)
theorem dX6_around_76 : decode cX6_around 76 = .ok (.iaload, 1) := dk_46 (dk_at dksX6_around_3 4 rfl rfl)
theorem dX6_around_77 : decode cX6_around 77 = .ok (.aload_n 0, 1) := dk_42 (dk_at dksX6_around_3 5 rfl rfl)
theorem dX6_around_78 : decode cX6_around 78 = .ok (.getfield 100, 3) := dk_180 0 100 (dk_at dksX6_around_3 6 rfl rfl)
theorem dX6_around_81 : decode cX6_around 81 = .ok (.iload 4, 2) := dk_21 4 (dk_at dksX6_around_3 9 rfl rfl)
theorem dX6_around_83 : decode cX6_around 83 = .ok (.iaload, 1) := dk_46 (dk_at dksX6_around_3 11 rfl rfl)
theorem dX6_around_84 : decode cX6_around 84 = .ok (.iadd, 1) := dk_96 (dk_at dksX6_around_3 12 rfl rfl)
theorem dX6_around_85 : decode cX6_around 85 = .ok (.iload 4, 2) := dk_21 4 (dk_at dksX6_around_3 13 rfl rfl)
theorem dX6_around_87 : decode cX6_around 87 = .ok (.aload_n 0, 1) := dk_42 (dk_at dksX6_around_3 15 rfl rfl)
theorem dX6_around_88 : decode cX6_around 88 = .ok (.getfield 93, 3) := dk_180 0 93 (dk_at dksX6_around_3 16 rfl rfl)
theorem dX6_around_91 : decode cX6_around 91 = .ok (.iload_n 2, 1) := dk_28 (dk_at dksX6_around_3 19 rfl rfl)
theorem dX6_around_92 : decode cX6_around 92 = .ok (.iaload, 1) := dk_46 (dk_at dksX6_around_3 20 rfl rfl)
theorem dX6_around_93 : decode cX6_around 93 = .ok (.isub, 1) := dk_100 (dk_at dksX6_around_3 21 rfl rfl)
theorem dX6_around_94 : decode cX6_around 94 = .ok (.iastore, 1) := dk_79 (dk_at dksX6_around_3 22 rfl rfl)
theorem dX6_around_95 : decode cX6_around 95 = .ok (.iinc 4 1, 3) := dk_132 4 1 (dk_at dksX6_around_4 0 rfl rfl)
theorem dX6_around_98 : decode cX6_around 98 = .ok (.goto (-64), 3) := dk_167 255 192 (dk_at dksX6_around_4 3 rfl rfl)
theorem dX6_around_101 : decode cX6_around 101 = .ok (.aload_n 0, 1) := dk_42 (dk_at dksX6_around_4 6 rfl rfl)
theorem dX6_around_102 : decode cX6_around 102 = .ok (.getfield 80, 3) := dk_180 0 80 (dk_at dksX6_around_4 7 rfl rfl)
theorem dX6_around_105 : decode cX6_around 105 = .ok (.aload_n 0, 1) := dk_42 (dk_at dksX6_around_4 10 rfl rfl)
theorem dX6_around_106 : decode cX6_around 106 = .ok (.getfield 50, 3) := dk_180 0 50 (dk_at dksX6_around_4 11 rfl rfl)
theorem dX6_around_109 : decode cX6_around 109 = .ok (.iload_n 1, 1) := dk_27 (dk_at dksX6_around_4 14 rfl rfl)
theorem dX6_around_110 : decode cX6_around 110 = .ok (.iaload, 1) := dk_46 (dk_at dksX6_around_4 15 rfl rfl)
theorem dX6_around_111 : decode cX6_around 111 = .ok (.aload_n 0, 1) := dk_42 (dk_at dksX6_around_4 16 rfl rfl)
theorem dX6_around_112 : decode cX6_around 112 = .ok (.getfield 100, 3) := dk_180 0 100 (dk_at dksX6_around_4 17 rfl rfl)
theorem dX6_around_115 : decode cX6_around 115 = .ok (.aload_n 0, 1) := dk_42 (dk_at dksX6_around_4 20 rfl rfl)
theorem dX6_around_116 : decode cX6_around 116 = .ok (.getfield 93, 3) := dk_180 0 93 (dk_at dksX6_around_4 21 rfl rfl)
theorem dX6_around_119 : decode cX6_around 119 = .ok (.iload_n 2, 1) := dk_28 (dk_at dksX6_around_5 0 rfl rfl)
theorem dX6_around_120 : decode cX6_around 120 = .ok (.iaload, 1) := dk_46 (dk_at dksX6_around_5 1 rfl rfl)
theorem dX6_around_121 : decode cX6_around 121 = .ok (.iaload, 1) := dk_46 (dk_at dksX6_around_5 2 rfl rfl)
theorem dX6_around_122 : decode cX6_around 122 = .ok (.iadd, 1) := dk_96 (dk_at dksX6_around_5 3 rfl rfl)
theorem dX6_around_123 : decode cX6_around 123 = .ok (.iaload, 1) := dk_46 (dk_at dksX6_around_5 4 rfl rfl)
theorem dX6_around_124 : decode cX6_around 124 = .ok (.istore 4, 2) := dk_54 4 (dk_at dksX6_around_5 5 rfl rfl)
theorem dX6_around_126 : decode cX6_around 126 = .ok (.aload_n 0, 1) := dk_42 (dk_at dksX6_around_5 7 rfl rfl)
theorem dX6_around_127 : decode cX6_around 127 = .ok (.getfield 145, 3) := dk_180 0 145 (dk_at dksX6_around_5 8 rfl rfl)
theorem dX6_around_130 : decode cX6_around 130 = .ok (.iload_n 3, 1) := dk_29 (dk_at dksX6_around_5 11 rfl rfl)
theorem dX6_around_131 : decode cX6_around 131 = .ok (.aload_n 0, 1) := dk_42 (dk_at dksX6_around_5 12 rfl rfl)
theorem dX6_around_132 : decode cX6_around 132 = .ok (.getfield 124, 3) := dk_180 0 124 (dk_at dksX6_around_5 13 rfl rfl)
theorem dX6_around_135 : decode cX6_around 135 = .ok (.iload_n 3, 1) := dk_29 (dk_at dksX6_around_5 16 rfl rfl)
theorem dX6_around_136 : decode cX6_around 136 = .ok (.iaload, 1) := dk_46 (dk_at dksX6_around_5 17 rfl rfl)
theorem dX6_around_137 : decode cX6_around 137 = .ok (.bipush (-2), 2) := dk_16 254 (dk_at dksX6_around_5 18 rfl rfl)
theorem dX6_around_139 : decode cX6_around 139 = .ok (.if_icmp .ne 8, 3) := dk_160 0 8 (dk_at dksX6_around_5 20 rfl rfl)
theorem dX6_around_142 : decode cX6_around 142 = .ok (.iload 4, 2) := dk_21 4 (dk_at dksX6_around_6 0 rfl rfl)
theorem dX6_around_144 : decode cX6_around 144 = .ok (.goto 9, 3) := dk_167 0 9 (dk_at dksX6_around_6 2 rfl rfl)
theorem dX6_around_147 : decode cX6_around 147 = .ok (.aload_n 0, 1) := dk_42 (dk_at dksX6_around_6 5 rfl rfl)
theorem dX6_around_148 : decode cX6_around 148 = .ok (.getfield 124, 3) := dk_180 0 124 (dk_at dksX6_around_6 6 rfl rfl)
theorem dX6_around_151 : decode cX6_around 151 = .ok (.iload_n 3, 1) := dk_29 (dk_at dksX6_around_6 9 rfl rfl)
theorem dX6_around_152 : decode cX6_around 152 = .ok (.iaload, 1) := dk_46 (dk_at dksX6_around_6 10 rfl rfl)
theorem dX6_around_153 : decode cX6_around 153 = .ok (.iastore, 1) := dk_79 (dk_at dksX6_around_6 11 rfl rfl)
theorem dX6_around_154 : decode cX6_around 154 = .ok (.aload_n 0, 1) := dk_42 (dk_at dksX6_around_6 12 rfl rfl)
theorem dX6_around_155 : decode cX6_around 155 = .ok (.getfield 148, 3) := dk_180 0 148 (dk_at dksX6_around_6 13 rfl rfl)
theorem dX6_around_158 : decode cX6_around 158 = .ok (.iload_n 3, 1) := dk_29 (dk_at dksX6_around_6 16 rfl rfl)
theorem dX6_around_159 : decode cX6_around 159 = .ok (.iload_n 3, 1) := dk_29 (dk_at dksX6_around_6 17 rfl rfl)
theorem dX6_around_160 : decode cX6_around 160 = .ok (.iastore, 1) := dk_79 (dk_at dksX6_around_6 18 rfl rfl)
theorem dX6_around_161 : decode cX6_around 161 = .ok (.iload_n 3, 1) := dk_29 (dk_at dksX6_around_6 19 rfl rfl)
theorem dX6_around_162 : decode cX6_around 162 = .ok (.istore 5, 2) := dk_54 5 (dk_at dksX6_around_6 20 rfl rfl)
theorem dX6_around_164 : decode cX6_around 164 = .ok (.iload 5, 2) := dk_21 5 (dk_at dksX6_around_6 22 rfl rfl)
theorem dX6_around_166 : decode cX6_around 166 = .ok (.aload_n 0, 1) := dk_42 (dk_at dksX6_around_7 0 rfl rfl)
theorem dX6_around_167 : decode cX6_around 167 = .ok (.getfield 103, 3) := dk_180 0 103 (dk_at dksX6_around_7 1 rfl rfl)
theorem dX6_around_170 : decode cX6_around 170 = .ok (.iload_n 2, 1) := dk_28 (dk_at dksX6_around_7 4 rfl rfl)
theorem dX6_around_171 : decode cX6_around 171 = .ok (.iaload, 1) := dk_46 (dk_at dksX6_around_7 5 rfl rfl)
theorem dX6_around_172 : decode cX6_around 172 = .ok (.if_icmp .lt 177, 3) := dk_161 0 177 (dk_at dksX6_around_7 6 rfl rfl)
theorem dX6_around_175 : decode cX6_around 175 = .ok (.iconst 0, 1) := dk_3 (dk_at dksX6_around_7 9 rfl rfl)
theorem dX6_around_176 : decode cX6_around 176 = .ok (.istore 6, 2) := dk_54 6 (dk_at dksX6_around_7 10 rfl rfl)
theorem dX6_around_178 : decode cX6_around 178 = .ok (.aload_n 0, 1) := dk_42 (dk_at dksX6_around_7 12 rfl rfl)
theorem dX6_around_179 : decode cX6_around 179 = .ok (.getfield 118, 3) := dk_180 0 118 (dk_at dksX6_around_7 13 rfl rfl)
theorem dX6_around_182 : decode cX6_around 182 = .ok (.iload 5, 2) := dk_21 5 (dk_at dksX6_around_7 16 rfl rfl)
theorem dX6_around_184 : decode cX6_around 184 = .ok (.iaload, 1) := dk_46 (dk_at dksX6_around_7 18 rfl rfl)
theorem dX6_around_185 : decode cX6_around 185 = .ok (.istore 7, 2) := dk_54 7 (dk_at dksX6_around_7 19 rfl rfl)
theorem dX6_around_187 : decode cX6_around 187 = .ok (.iload 7, 2) := dk_21 7 (dk_at dksX6_around_7 21 rfl rfl)
theorem dX6_around_189 : decode cX6_around 189 = .ok (.ifCond .lt 154, 3) := dk_155 0 154 (dk_at dksX6_around_8 0 rfl rfl)
theorem dX6_around_192 : decode cX6_around 192 = .ok (.aload_n 0, 1) := dk_42 (dk_at dksX6_around_8 3 rfl rfl)
theorem dX6_around_193 : decode cX6_around 193 = .ok (.getfield 112, 3) := dk_180 0 112 (dk_at dksX6_around_8 4 rfl rfl)
theorem dX6_around_196 : decode cX6_around 196 = .ok (.iload 5, 2) := dk_21 5 (dk_at dksX6_around_8 7 rfl rfl)
theorem dX6_around_198 : decode cX6_around 198 = .ok (.iaload, 1) := dk_46 (dk_at dksX6_around_8 9 rfl rfl)
theorem dX6_around_199 : decode cX6_around 199 = .ok (.bipush 26, 2) := dk_16 26 (dk_at dksX6_around_8 10 rfl rfl)
theorem dX6_around_201 : decode cX6_around 201 = .ok (.if_icmp .ne 27, 3) := dk_160 0 27 (dk_at dksX6_around_8 12 rfl rfl)
theorem dX6_around_204 : decode cX6_around 204 = .ok (.aload_n 0, 1) := dk_42 (dk_at dksX6_around_8 15 rfl rfl)
theorem dX6_around_205 : decode cX6_around 205 = .ok (.getfield 80, 3) := dk_180 0 80 (dk_at dksX6_around_8 16 rfl rfl)
theorem dX6_around_208 : decode cX6_around 208 = .ok (.aload_n 0, 1) := dk_42 (dk_at dksX6_around_8 19 rfl rfl)
theorem dX6_around_209 : decode cX6_around 209 = .ok (.getfield 50, 3) := dk_180 0 50 (dk_at dksX6_around_8 20 rfl rfl)
theorem dX6_around_212 : decode cX6_around 212 = .ok (.iload_n 1, 1) := dk_27 (dk_at dksX6_around_8 23 rfl rfl)
theorem dX6_around_213 : decode cX6_around 213 = .ok (.iaload, 1) := dk_46 (dk_at dksX6_around_9 0 rfl rfl)
theorem dX6_around_214 : decode cX6_around 214 = .ok (.aload_n 0, 1) := dk_42 (dk_at dksX6_around_9 1 rfl rfl)
theorem dX6_around_215 : decode cX6_around 215 = .ok (.getfield 115, 3) := dk_180 0 115 (dk_at dksX6_around_9 2 rfl rfl)
theorem dX6_around_218 : decode cX6_around 218 = .ok (.iload 5, 2) := dk_21 5 (dk_at dksX6_around_9 5 rfl rfl)
theorem dX6_around_220 : decode cX6_around 220 = .ok (.iaload, 1) := dk_46 (dk_at dksX6_around_9 7 rfl rfl)
theorem dX6_around_221 : decode cX6_around 221 = .ok (.iconst 2, 1) := dk_5 (dk_at dksX6_around_9 8 rfl rfl)
theorem dX6_around_222 : decode cX6_around 222 = .ok (.idiv, 1) := dk_108 (dk_at dksX6_around_9 9 rfl rfl)
theorem dX6_around_223 : decode cX6_around 223 = .ok (.iadd, 1) := dk_96 (dk_at dksX6_around_9 10 rfl rfl)
theorem dX6_around_224 : decode cX6_around 224 = .ok (.iaload, 1) := dk_46 (dk_at dksX6_around_9 11 rfl rfl)
theorem dX6_around_225 : decode cX6_around 225 = .ok (.goto 10, 3) := dk_167 0 10 (dk_at dksX6_around_9 12 rfl rfl)
theorem dX6_around_228 : decode cX6_around 228 = .ok (.aload_n 0, 1) := dk_42 (dk_at dksX6_around_9 15 rfl rfl)
theorem dX6_around_229 : decode cX6_around 229 = .ok (.getfield 145, 3) := dk_180 0 145 (dk_at dksX6_around_9 16 rfl rfl)
theorem dX6_around_232 : decode cX6_around 232 = .ok (.iload 5, 2) := dk_21 5 (dk_at dksX6_around_9 19 rfl rfl)
theorem dX6_around_234 : decode cX6_around 234 = .ok (.iaload, 1) := dk_46 (dk_at dksX6_around_9 21 rfl rfl)
theorem dX6_around_235 : decode cX6_around 235 = .ok (.istore 8, 2) := dk_54 8 (dk_at dksX6_around_9 22 rfl rfl)
theorem dX6_around_237 : decode cX6_around 237 = .ok (.aload_n 0, 1) := dk_42 (dk_at dksX6_around_10 0 rfl rfl)
theorem dX6_around_238 : decode cX6_around 238 = .ok (.getfield 145, 3) := dk_180 0 145 (dk_at dksX6_around_10 1 rfl rfl)
theorem dX6_around_241 : decode cX6_around 241 = .ok (.iload 7, 2) := dk_21 7 (dk_at dksX6_around_10 4 rfl rfl)
theorem dX6_around_243 : decode cX6_around 243 = .ok (.aload_n 0, 1) := dk_42 (dk_at dksX6_around_10 6 rfl rfl)
theorem dX6_around_244 : decode cX6_around 244 = .ok (.getfield 124, 3) := dk_180 0 124 (dk_at dksX6_around_10 7 rfl rfl)
theorem dX6_around_247 : decode cX6_around 247 = .ok (.iload 7, 2) := dk_21 7 (dk_at dksX6_around_10 10 rfl rfl)
theorem dX6_around_249 : decode cX6_around 249 = .ok (.iaload, 1) := dk_46 (dk_at dksX6_around_10 12 rfl rfl)
theorem dX6_around_250 : decode cX6_around 250 = .ok (.bipush (-2), 2) := dk_16 254 (dk_at dksX6_around_10 13 rfl rfl)
theorem dX6_around_252 : decode cX6_around 252 = .ok (.if_icmp .ne 8, 3) := dk_160 0 8 (dk_at dksX6_around_10 15 rfl rfl)
theorem dX6_around_255 : decode cX6_around 255 = .ok (.iload 8, 2) := dk_21 8 (dk_at dksX6_around_10 18 rfl rfl)
theorem dX6_around_257 : decode cX6_around 257 = .ok (.goto 10, 3) := dk_167 0 10 (dk_at dksX6_around_10 20 rfl rfl)
theorem dX6_around_260 : decode cX6_around 260 = .ok (.aload_n 0, 1) := dk_42 (dk_at dksX6_around_10 23 rfl rfl)
theorem dX6_around_261 : decode cX6_around 261 = .ok (.getfield 124, 3) := dk_180 0 124 (dk_at dksX6_around_11 0 rfl rfl)
theorem dX6_around_264 : decode cX6_around 264 = .ok (.iload 7, 2) := dk_21 7 (dk_at dksX6_around_11 3 rfl rfl)
theorem dX6_around_266 : decode cX6_around 266 = .ok (.iaload, 1) := dk_46 (dk_at dksX6_around_11 5 rfl rfl)
theorem dX6_around_267 : decode cX6_around 267 = .ok (.iastore, 1) := dk_79 (dk_at dksX6_around_11 6 rfl rfl)
theorem dX6_around_268 : decode cX6_around 268 = .ok (.aload_n 0, 1) := dk_42 (dk_at dksX6_around_11 7 rfl rfl)
theorem dX6_around_269 : decode cX6_around 269 = .ok (.getfield 148, 3) := dk_180 0 148 (dk_at dksX6_around_11 8 rfl rfl)
theorem dX6_around_272 : decode cX6_around 272 = .ok (.iload 7, 2) := dk_21 7 (dk_at dksX6_around_11 11 rfl rfl)
theorem dX6_around_274 : decode cX6_around 274 = .ok (.aload_n 0, 1) := dk_42 (dk_at dksX6_around_11 13 rfl rfl)
theorem dX6_around_275 : decode cX6_around 275 = .ok (.getfield 112, 3) := dk_180 0 112 (dk_at dksX6_around_11 14 rfl rfl)
theorem dX6_around_278 : decode cX6_around 278 = .ok (.iload 5, 2) := dk_21 5 (dk_at dksX6_around_11 17 rfl rfl)
theorem dX6_around_280 : decode cX6_around 280 = .ok (.iaload, 1) := dk_46 (dk_at dksX6_around_11 19 rfl rfl)
theorem dX6_around_281 : decode cX6_around 281 = .ok (.bipush 24, 2) := dk_16 24 (dk_at dksX6_around_11 20 rfl rfl)
theorem dX6_around_283 : decode cX6_around 283 = .ok (.if_icmp .eq 32, 3) := dk_159 0 32 (dk_at dksX6_around_12 0 rfl rfl)
theorem dX6_around_286 : decode cX6_around 286 = .ok (.aload_n 0, 1) := dk_42 (dk_at dksX6_around_12 3 rfl rfl)
theorem dX6_around_287 : decode cX6_around 287 = .ok (.getfield 112, 3) := dk_180 0 112 (dk_at dksX6_around_12 4 rfl rfl)
theorem dX6_around_290 : decode cX6_around 290 = .ok (.iload 5, 2) := dk_21 5 (dk_at dksX6_around_12 7 rfl rfl)
theorem dX6_around_292 : decode cX6_around 292 = .ok (.iaload, 1) := dk_46 (dk_at dksX6_around_12 9 rfl rfl)
theorem dX6_around_293 : decode cX6_around 293 = .ok (.iconst 3, 1) := dk_6 (dk_at dksX6_around_12 10 rfl rfl)
theorem dX6_around_294 : decode cX6_around 294 = .ok (.if_icmp .eq 21, 3) := dk_159 0 21 (dk_at dksX6_around_12 11 rfl rfl)
theorem dX6_around_297 : decode cX6_around 297 = .ok (.aload_n 0, 1) := dk_42 (dk_at dksX6_around_12 14 rfl rfl)
theorem dX6_around_298 : decode cX6_around 298 = .ok (.getfield 112, 3) := dk_180 0 112 (dk_at dksX6_around_12 15 rfl rfl)
theorem dX6_around_301 : decode cX6_around 301 = .ok (.iload 5, 2) := dk_21 5 (dk_at dksX6_around_12 18 rfl rfl)
theorem dX6_around_303 : decode cX6_around 303 = .ok (.iaload, 1) := dk_46 (dk_at dksX6_around_12 20 rfl rfl)
theorem dX6_around_304 : decode cX6_around 304 = .ok (.bipush 6, 2) := dk_16 6 (dk_at dksX6_around_12 21 rfl rfl)
theorem dX6_around_306 : decode cX6_around 306 = .ok (.if_icmp .ne 14, 3) := dk_160 0 14 (dk_at dksX6_around_13 0 rfl rfl)
theorem dX6_around_309 : decode cX6_around 309 = .ok (.iload 6, 2) := dk_21 6 (dk_at dksX6_around_13 3 rfl rfl)
theorem dX6_around_311 : decode cX6_around 311 = .ok (.iconst 1, 1) := dk_4 (dk_at dksX6_around_13 5 rfl rfl)
theorem dX6_around_312 : decode cX6_around 312 = .ok (.if_icmp .ne 8, 3) := dk_160 0 8 (dk_at dksX6_around_13 6 rfl rfl)
theorem dX6_around_315 : decode cX6_around 315 = .ok (.iload 7, 2) := dk_21 7 (dk_at dksX6_around_13 9 rfl rfl)
theorem dX6_around_317 : decode cX6_around 317 = .ok (.goto 10, 3) := dk_167 0 10 (dk_at dksX6_around_13 11 rfl rfl)
theorem dX6_around_320 : decode cX6_around 320 = .ok (.aload_n 0, 1) := dk_42 (dk_at dksX6_around_13 14 rfl rfl)
theorem dX6_around_321 : decode cX6_around 321 = .ok (.getfield 148, 3) := dk_180 0 148 (dk_at dksX6_around_13 15 rfl rfl)
theorem dX6_around_324 : decode cX6_around 324 = .ok (.iload 5, 2) := dk_21 5 (dk_at dksX6_around_13 18 rfl rfl)
theorem dX6_around_326 : decode cX6_around 326 = .ok (.iaload, 1) := dk_46 (dk_at dksX6_around_13 20 rfl rfl)
theorem dX6_around_327 : decode cX6_around 327 = .ok (.iastore, 1) := dk_79 (dk_at dksX6_around_13 21 rfl rfl)
theorem dX6_around_328 : decode cX6_around 328 = .ok (.iinc 6 1, 3) := dk_132 6 1 (dk_at dksX6_around_14 0 rfl rfl)
theorem dX6_around_331 : decode cX6_around 331 = .ok (.aload_n 0, 1) := dk_42 (dk_at dksX6_around_14 3 rfl rfl)
theorem dX6_around_332 : decode cX6_around 332 = .ok (.getfield 121, 3) := dk_180 0 121 (dk_at dksX6_around_14 4 rfl rfl)
theorem dX6_around_335 : decode cX6_around 335 = .ok (.iload 7, 2) := dk_21 7 (dk_at dksX6_around_14 7 rfl rfl)
theorem dX6_around_337 : decode cX6_around 337 = .ok (.iaload, 1) := dk_46 (dk_at dksX6_around_14 9 rfl rfl)
theorem dX6_around_338 : decode cX6_around 338 = .ok (.istore 7, 2) := dk_54 7 (dk_at dksX6_around_14 10 rfl rfl)
theorem dX6_around_340 : decode cX6_around 340 = .ok (.goto (-153), 3) := dk_167 255 103 (dk_at dksX6_around_14 12 rfl rfl)
theorem dX6_around_343 : decode cX6_around 343 = .ok (.iinc 5 (-1), 3) := dk_132 5 255 (dk_at dksX6_around_14 15 rfl rfl)
theorem dX6_around_346 : decode cX6_around 346 = .ok (.goto (-182), 3) := dk_167 255 74 (dk_at dksX6_around_14 18 rfl rfl)
theorem dX6_around_349 : decode cX6_around 349 = .ok (.aload_n 0, 1) := dk_42 (dk_at dksX6_around_14 21 rfl rfl)
theorem dX6_around_350 : decode cX6_around 350 = .ok (.getfield 103, 3) := dk_180 0 103 (dk_at dksX6_around_15 0 rfl rfl)
theorem dX6_around_353 : decode cX6_around 353 = .ok (.iload_n 2, 1) := dk_28 (dk_at dksX6_around_15 3 rfl rfl)
theorem dX6_around_354 : decode cX6_around 354 = .ok (.iaload, 1) := dk_46 (dk_at dksX6_around_15 4 rfl rfl)
theorem dX6_around_355 : decode cX6_around 355 = .ok (.istore 5, 2) := dk_54 5 (dk_at dksX6_around_15 5 rfl rfl)
theorem dX6_around_357 : decode cX6_around 357 = .ok (.iload 5, 2) := dk_21 5 (dk_at dksX6_around_15 7 rfl rfl)
theorem dX6_around_359 : decode cX6_around 359 = .ok (.iload_n 3, 1) := dk_29 (dk_at dksX6_around_15 9 rfl rfl)
theorem dX6_around_360 : decode cX6_around 360 = .ok (.if_icmp .gt 43, 3) := dk_163 0 43 (dk_at dksX6_around_15 10 rfl rfl)
theorem dX6_around_363 : decode cX6_around 363 = .ok (.aload_n 0, 1) := dk_42 (dk_at dksX6_around_15 13 rfl rfl)
theorem dX6_around_364 : decode cX6_around 364 = .ok (.getfield 151, 3) := dk_180 0 151 (dk_at dksX6_around_15 14 rfl rfl)
theorem dX6_around_367 : decode cX6_around 367 = .ok (.iload 5, 2) := dk_21 5 (dk_at dksX6_around_15 17 rfl rfl)
theorem dX6_around_369 : decode cX6_around 369 = .ok (.aload_n 0, 1) := dk_42 (dk_at dksX6_around_15 19 rfl rfl)
theorem dX6_around_370 : decode cX6_around 370 = .ok (.getfield 118, 3) := dk_180 0 118 (dk_at dksX6_around_15 20 rfl rfl)
theorem dX6_around_373 : decode cX6_around 373 = .ok (.iload 5, 2) := dk_21 5 (dk_at dksX6_around_16 0 rfl rfl)
theorem dX6_around_375 : decode cX6_around 375 = .ok (.iaload, 1) := dk_46 (dk_at dksX6_around_16 2 rfl rfl)
theorem dX6_around_376 : decode cX6_around 376 = .ok (.ifCond .ge 8, 3) := dk_156 0 8 (dk_at dksX6_around_16 3 rfl rfl)
theorem dX6_around_379 : decode cX6_around 379 = .ok (.iload 5, 2) := dk_21 5 (dk_at dksX6_around_16 6 rfl rfl)
theorem dX6_around_381 : decode cX6_around 381 = .ok (.goto 15, 3) := dk_167 0 15 (dk_at dksX6_around_16 8 rfl rfl)
theorem dX6_around_384 : decode cX6_around 384 = .ok (.aload_n 0, 1) := dk_42 (dk_at dksX6_around_16 11 rfl rfl)
theorem dX6_around_385 : decode cX6_around 385 = .ok (.getfield 151, 3) := dk_180 0 151 (dk_at dksX6_around_16 12 rfl rfl)
theorem dX6_around_388 : decode cX6_around 388 = .ok (.aload_n 0, 1) := dk_42 (dk_at dksX6_around_16 15 rfl rfl)
theorem dX6_around_389 : decode cX6_around 389 = .ok (.getfield 118, 3) := dk_180 0 118 (dk_at dksX6_around_16 16 rfl rfl)
theorem dX6_around_392 : decode cX6_around 392 = .ok (.iload 5, 2) := dk_21 5 (dk_at dksX6_around_16 19 rfl rfl)
theorem dX6_around_394 : decode cX6_around 394 = .ok (.iaload, 1) := dk_46 (dk_at dksX6_around_16 21 rfl rfl)
theorem dX6_around_395 : decode cX6_around 395 = .ok (.iaload, 1) := dk_46 (dk_at dksX6_around_16 22 rfl rfl)
theorem dX6_around_396 : decode cX6_around 396 = .ok (.iastore, 1) := dk_79 (dk_at dksX6_around_16 23 rfl rfl)
theorem dX6_around_397 : decode cX6_around 397 = .ok (.iinc 5 1, 3) := dk_132 5 1 (dk_at dksX6_around_17 0 rfl rfl)
theorem dX6_around_400 : decode cX6_around 400 = .ok (.goto (-43), 3) := dk_167 255 213 (dk_at dksX6_around_17 3 rfl rfl)
theorem dX6_around_403 : decode cX6_around 403 = .ok (.iinc 2 1, 3) := dk_132 2 1 (dk_at dksX6_around_17 6 rfl rfl)
theorem dX6_around_406 : decode cX6_around 406 = .ok (.goto (-399), 3) := dk_167 254 113 (dk_at dksX6_around_17 9 rfl rfl)
theorem dX6_around_409 : decode cX6_around 409 = .ok (.return_, 1) := dk_177 (dk_at dksX6_around_17 12 rfl rfl)
abbrev cX6_countParts : ByteArray := prog_26_method_48_code
def yX6_countParts : MethodName := ⟨RX6, "countParts", "(I)V"⟩
def dkwX6_countParts_4 : List UInt8 := [132, 4, 1, 167, 255, 210, 132, 3, 1, 167, 255, 162, 42, 180, 0, 160, 27, 28, 79, 177]
abbrev dktX6_countParts_4 : List UInt8 := dkwX6_countParts_4 ++ []
def dkwX6_countParts_3 : List UInt8 := [160, 0, 24, 19, 1, 214, 28, 42, 180, 0, 160, 42, 180, 0, 115, 21, 4, 46, 46, 96, 184, 1, 215, 61]
abbrev dktX6_countParts_3 : List UInt8 := dkwX6_countParts_3 ++ dktX6_countParts_4
def dkwX6_countParts_2 : List UInt8 := [46, 54, 4, 21, 4, 42, 180, 0, 96, 29, 46, 163, 0, 41, 42, 180, 0, 112, 21, 4, 46, 6]
abbrev dktX6_countParts_2 : List UInt8 := dkwX6_countParts_2 ++ dktX6_countParts_3
def dkwX6_countParts_1 : List UInt8 := [28, 4, 96, 42, 180, 0, 130, 42, 180, 0, 96, 29, 46, 46, 96, 184, 1, 215, 61, 42, 180, 0, 103, 29]
abbrev dktX6_countParts_1 : List UInt8 := dkwX6_countParts_1 ++ dktX6_countParts_2
def dkwX6_countParts_0 : List UInt8 := [3, 61, 42, 180, 0, 59, 27, 46, 62, 29, 42, 180, 0, 59, 27, 4, 96, 46, 162, 0, 88, 19, 1, 214]
abbrev dktX6_countParts_0 : List UInt8 := dkwX6_countParts_0 ++ dktX6_countParts_1
theorem dksX6_countParts_0 : cX6_countParts.data.toList.drop 0 = dktX6_countParts_0 := by decide +kernel
theorem dksX6_countParts_1 : cX6_countParts.data.toList.drop 24 = dktX6_countParts_1 := dk_seg dksX6_countParts_0 24 rfl rfl
theorem dksX6_countParts_2 : cX6_countParts.data.toList.drop 48 = dktX6_countParts_2 := dk_seg dksX6_countParts_1 24 rfl rfl
theorem dksX6_countParts_3 : cX6_countParts.data.toList.drop 70 = dktX6_countParts_3 := dk_seg dksX6_countParts_2 22 rfl rfl
theorem dksX6_countParts_4 : cX6_countParts.data.toList.drop 94 = dktX6_countParts_4 := dk_seg dksX6_countParts_3 24 rfl rfl
theorem dX6_countParts_0 : decode cX6_countParts 0 = .ok (.iconst 0, 1) := dk_3 (dk_at dksX6_countParts_0 0 rfl rfl)
theorem dX6_countParts_1 : decode cX6_countParts 1 = .ok (.istore_n 2, 1) := dk_61 (dk_at dksX6_countParts_0 1 rfl rfl)
theorem dX6_countParts_2 : decode cX6_countParts 2 = .ok (.aload_n 0, 1) := dk_42 (dk_at dksX6_countParts_0 2 rfl rfl)
theorem dX6_countParts_3 : decode cX6_countParts 3 = .ok (.getfield 59, 3) := dk_180 0 59 (dk_at dksX6_countParts_0 3 rfl rfl)
theorem dX6_countParts_6 : decode cX6_countParts 6 = .ok (.iload_n 1, 1) := dk_27 (dk_at dksX6_countParts_0 6 rfl rfl)
theorem dX6_countParts_7 : decode cX6_countParts 7 = .ok (.iaload, 1) := dk_46 (dk_at dksX6_countParts_0 7 rfl rfl)
theorem dX6_countParts_8 : decode cX6_countParts 8 = .ok (.istore_n 3, 1) := dk_62 (dk_at dksX6_countParts_0 8 rfl rfl)
theorem dX6_countParts_9 : decode cX6_countParts 9 = .ok (.iload_n 3, 1) := dk_29 (dk_at dksX6_countParts_0 9 rfl rfl)
theorem dX6_countParts_10 : decode cX6_countParts 10 = .ok (.aload_n 0, 1) := dk_42 (dk_at dksX6_countParts_0 10 rfl rfl)
theorem dX6_countParts_11 : decode cX6_countParts 11 = .ok (.getfield 59, 3) := dk_180 0 59 (dk_at dksX6_countParts_0 11 rfl rfl)
theorem dX6_countParts_14 : decode cX6_countParts 14 = .ok (.iload_n 1, 1) := dk_27 (dk_at dksX6_countParts_0 14 rfl rfl)
theorem dX6_countParts_15 : decode cX6_countParts 15 = .ok (.iconst 1, 1) := dk_4 (dk_at dksX6_countParts_0 15 rfl rfl)
theorem dX6_countParts_16 : decode cX6_countParts 16 = .ok (.iadd, 1) := dk_96 (dk_at dksX6_countParts_0 16 rfl rfl)
theorem dX6_countParts_17 : decode cX6_countParts 17 = .ok (.iaload, 1) := dk_46 (dk_at dksX6_countParts_0 17 rfl rfl)
theorem dX6_countParts_18 : decode cX6_countParts 18 = .ok (.if_icmp .ge 88, 3) := dk_162 0 88 (dk_at dksX6_countParts_0 18 rfl rfl)
theorem dX6_countParts_21 : decode cX6_countParts 21 = .ok (.ldc_w 470, 3) := dk_19 1 214 (dk_at dksX6_countParts_0 21 rfl rfl)
theorem dX6_countParts_24 : decode cX6_countParts 24 = .ok (.iload_n 2, 1) := dk_28 (dk_at dksX6_countParts_1 0 rfl rfl)
theorem dX6_countParts_25 : decode cX6_countParts 25 = .ok (.iconst 1, 1) := dk_4 (dk_at dksX6_countParts_1 1 rfl rfl)
theorem dX6_countParts_26 : decode cX6_countParts 26 = .ok (.iadd, 1) := dk_96 (dk_at dksX6_countParts_1 2 rfl rfl)
theorem dX6_countParts_27 : decode cX6_countParts 27 = .ok (.aload_n 0, 1) := dk_42 (dk_at dksX6_countParts_1 3 rfl rfl)
theorem dX6_countParts_28 : decode cX6_countParts 28 = .ok (.getfield 130, 3) := dk_180 0 130 (dk_at dksX6_countParts_1 4 rfl rfl)
theorem dX6_countParts_31 : decode cX6_countParts 31 = .ok (.aload_n 0, 1) := dk_42 (dk_at dksX6_countParts_1 7 rfl rfl)
theorem dX6_countParts_32 : decode cX6_countParts 32 = .ok (.getfield 96, 3) := dk_180 0 96 (dk_at dksX6_countParts_1 8 rfl rfl)
theorem dX6_countParts_35 : decode cX6_countParts 35 = .ok (.iload_n 3, 1) := dk_29 (dk_at dksX6_countParts_1 11 rfl rfl)
theorem dX6_countParts_36 : decode cX6_countParts 36 = .ok (.iaload, 1) := dk_46 (dk_at dksX6_countParts_1 12 rfl rfl)
theorem dX6_countParts_37 : decode cX6_countParts 37 = .ok (.iaload, 1) := dk_46 (dk_at dksX6_countParts_1 13 rfl rfl)
theorem dX6_countParts_38 : decode cX6_countParts 38 = .ok (.iadd, 1) := dk_96 (dk_at dksX6_countParts_1 14 rfl rfl)
theorem dX6_countParts_39 : decode cX6_countParts 39 = .ok (.invokestatic 471, 3) := dk_184 1 215 (dk_at dksX6_countParts_1 15 rfl rfl)
theorem dX6_countParts_42 : decode cX6_countParts 42 = .ok (.istore_n 2, 1) := dk_61 (dk_at dksX6_countParts_1 18 rfl rfl)
theorem dX6_countParts_43 : decode cX6_countParts 43 = .ok (.aload_n 0, 1) := dk_42 (dk_at dksX6_countParts_1 19 rfl rfl)
theorem dX6_countParts_44 : decode cX6_countParts 44 = .ok (.getfield 103, 3) := dk_180 0 103 (dk_at dksX6_countParts_1 20 rfl rfl)
theorem dX6_countParts_47 : decode cX6_countParts 47 = .ok (.iload_n 3, 1) := dk_29 (dk_at dksX6_countParts_1 23 rfl rfl)
theorem dX6_countParts_48 : decode cX6_countParts 48 = .ok (.iaload, 1) := dk_46 (dk_at dksX6_countParts_2 0 rfl rfl)
theorem dX6_countParts_49 : decode cX6_countParts 49 = .ok (.istore 4, 2) := dk_54 4 (dk_at dksX6_countParts_2 1 rfl rfl)
theorem dX6_countParts_51 : decode cX6_countParts 51 = .ok (.iload 4, 2) := dk_21 4 (dk_at dksX6_countParts_2 3 rfl rfl)
theorem dX6_countParts_53 : decode cX6_countParts 53 = .ok (.aload_n 0, 1) := dk_42 (dk_at dksX6_countParts_2 5 rfl rfl)
theorem dX6_countParts_54 : decode cX6_countParts 54 = .ok (.getfield 96, 3) := dk_180 0 96 (dk_at dksX6_countParts_2 6 rfl rfl)
theorem dX6_countParts_57 : decode cX6_countParts 57 = .ok (.iload_n 3, 1) := dk_29 (dk_at dksX6_countParts_2 9 rfl rfl)
theorem dX6_countParts_58 : decode cX6_countParts 58 = .ok (.iaload, 1) := dk_46 (dk_at dksX6_countParts_2 10 rfl rfl)
theorem dX6_countParts_59 : decode cX6_countParts 59 = .ok (.if_icmp .gt 41, 3) := dk_163 0 41 (dk_at dksX6_countParts_2 11 rfl rfl)
theorem dX6_countParts_62 : decode cX6_countParts 62 = .ok (.aload_n 0, 1) := dk_42 (dk_at dksX6_countParts_2 14 rfl rfl)
theorem dX6_countParts_63 : decode cX6_countParts 63 = .ok (.getfield 112, 3) := dk_180 0 112 (dk_at dksX6_countParts_2 15 rfl rfl)
theorem dX6_countParts_66 : decode cX6_countParts 66 = .ok (.iload 4, 2) := dk_21 4 (dk_at dksX6_countParts_2 18 rfl rfl)
theorem dX6_countParts_68 : decode cX6_countParts 68 = .ok (.iaload, 1) := dk_46 (dk_at dksX6_countParts_2 20 rfl rfl)
theorem dX6_countParts_69 : decode cX6_countParts 69 = .ok (.iconst 3, 1) := dk_6 (dk_at dksX6_countParts_2 21 rfl rfl)
theorem dX6_countParts_70 : decode cX6_countParts 70 = .ok (.if_icmp .ne 24, 3) := dk_160 0 24 (dk_at dksX6_countParts_3 0 rfl rfl)
theorem dX6_countParts_73 : decode cX6_countParts 73 = .ok (.ldc_w 470, 3) := dk_19 1 214 (dk_at dksX6_countParts_3 3 rfl rfl)
theorem dX6_countParts_76 : decode cX6_countParts 76 = .ok (.iload_n 2, 1) := dk_28 (dk_at dksX6_countParts_3 6 rfl rfl)
theorem dX6_countParts_77 : decode cX6_countParts 77 = .ok (.aload_n 0, 1) := dk_42 (dk_at dksX6_countParts_3 7 rfl rfl)
theorem dX6_countParts_78 : decode cX6_countParts 78 = .ok (.getfield 160, 3) := dk_180 0 160 (dk_at dksX6_countParts_3 8 rfl rfl)
theorem dX6_countParts_81 : decode cX6_countParts 81 = .ok (.aload_n 0, 1) := dk_42 (dk_at dksX6_countParts_3 11 rfl rfl)
theorem dX6_countParts_82 : decode cX6_countParts 82 = .ok (.getfield 115, 3) := dk_180 0 115 (dk_at dksX6_countParts_3 12 rfl rfl)
theorem dX6_countParts_85 : decode cX6_countParts 85 = .ok (.iload 4, 2) := dk_21 4 (dk_at dksX6_countParts_3 15 rfl rfl)
theorem dX6_countParts_87 : decode cX6_countParts 87 = .ok (.iaload, 1) := dk_46 (dk_at dksX6_countParts_3 17 rfl rfl)
theorem dX6_countParts_88 : decode cX6_countParts 88 = .ok (.iaload, 1) := dk_46 (dk_at dksX6_countParts_3 18 rfl rfl)
theorem dX6_countParts_89 : decode cX6_countParts 89 = .ok (.iadd, 1) := dk_96 (dk_at dksX6_countParts_3 19 rfl rfl)
theorem dX6_countParts_90 : decode cX6_countParts 90 = .ok (.invokestatic 471, 3) := dk_184 1 215 (dk_at dksX6_countParts_3 20 rfl rfl)
theorem dX6_countParts_93 : decode cX6_countParts 93 = .ok (.istore_n 2, 1) := dk_61 (dk_at dksX6_countParts_3 23 rfl rfl)
theorem dX6_countParts_94 : decode cX6_countParts 94 = .ok (.iinc 4 1, 3) := dk_132 4 1 (dk_at dksX6_countParts_4 0 rfl rfl)
theorem dX6_countParts_97 : decode cX6_countParts 97 = .ok (.goto (-46), 3) := dk_167 255 210 (dk_at dksX6_countParts_4 3 rfl rfl)
theorem dX6_countParts_100 : decode cX6_countParts 100 = .ok (.iinc 3 1, 3) := dk_132 3 1 (dk_at dksX6_countParts_4 6 rfl rfl)
theorem dX6_countParts_103 : decode cX6_countParts 103 = .ok (.goto (-94), 3) := dk_167 255 162 (dk_at dksX6_countParts_4 9 rfl rfl)
theorem dX6_countParts_106 : decode cX6_countParts 106 = .ok (.aload_n 0, 1) := dk_42 (dk_at dksX6_countParts_4 12 rfl rfl)
theorem dX6_countParts_107 : decode cX6_countParts 107 = .ok (.getfield 160, 3) := dk_180 0 160 (dk_at dksX6_countParts_4 13 rfl rfl)
theorem dX6_countParts_110 : decode cX6_countParts 110 = .ok (.iload_n 1, 1) := dk_27 (dk_at dksX6_countParts_4 16 rfl rfl)
theorem dX6_countParts_111 : decode cX6_countParts 111 = .ok (.iload_n 2, 1) := dk_28 (dk_at dksX6_countParts_4 17 rfl rfl)
theorem dX6_countParts_112 : decode cX6_countParts 112 = .ok (.iastore, 1) := dk_79 (dk_at dksX6_countParts_4 18 rfl rfl)
theorem dX6_countParts_113 : decode cX6_countParts 113 = .ok (.return_, 1) := dk_177 (dk_at dksX6_countParts_4 19 rfl rfl)
abbrev cX6_putIn : ByteArray := prog_26_method_49_code
def yX6_putIn : MethodName := ⟨RX6, "putIn", "(III)I"⟩
def dkwX6_putIn_16 : List UInt8 := [167, 255, 100, 21, 4, 172]
abbrev dktX6_putIn_16 : List UInt8 := dkwX6_putIn_16 ++ []
def dkwX6_putIn_15 : List UInt8 := [160, 0, 13, 42, 89, 180, 0, 175, 5, 96, 181, 0, 175, 132, 6, 1, 167, 255, 128, 132, 5, 1]
abbrev dktX6_putIn_15 : List UInt8 := dkwX6_putIn_15 ++ dktX6_putIn_16
def dkwX6_putIn_14 : List UInt8 := [160, 0, 13, 42, 89, 180, 0, 175, 4, 96, 181, 0, 175, 42, 180, 0, 112, 21, 6, 46, 16, 6]
abbrev dktX6_putIn_14 : List UInt8 := dkwX6_putIn_14 ++ dktX6_putIn_15
def dkwX6_putIn_13 : List UInt8 := [159, 0, 26, 42, 180, 0, 112, 21, 6, 46, 8, 159, 0, 15, 42, 180, 0, 112, 21, 6, 46, 16, 25]
abbrev dktX6_putIn_13 : List UInt8 := dkwX6_putIn_13 ++ dktX6_putIn_14
def dkwX6_putIn_12 : List UInt8 := [180, 0, 115, 21, 6, 46, 21, 4, 21, 6, 182, 1, 218, 79, 42, 180, 0, 112, 21, 6, 46, 16, 24]
abbrev dktX6_putIn_12 : List UInt8 := dkwX6_putIn_12 ++ dktX6_putIn_13
def dkwX6_putIn_11 : List UInt8 := [160, 0, 38, 42, 180, 0, 202, 42, 180, 0, 199, 21, 4, 46, 42, 180, 0, 127, 21, 6, 46, 96, 42, 42]
abbrev dktX6_putIn_11 : List UInt8 := dkwX6_putIn_11 ++ dktX6_putIn_12
def dkwX6_putIn_10 : List UInt8 := [54, 6, 21, 6, 42, 180, 0, 96, 21, 5, 46, 163, 0, 122, 42, 180, 0, 112, 21, 6, 46, 6]
abbrev dktX6_putIn_10 : List UInt8 := dkwX6_putIn_10 ++ dktX6_putIn_11
def dkwX6_putIn_9 : List UInt8 := [46, 54, 5, 21, 5, 42, 180, 0, 59, 27, 4, 96, 46, 162, 0, 149, 42, 180, 0, 103, 21, 5, 46]
abbrev dktX6_putIn_9 : List UInt8 := dkwX6_putIn_9 ++ dktX6_putIn_10
def dkwX6_putIn_8 : List UInt8 := [181, 0, 169, 21, 5, 42, 180, 0, 50, 27, 46, 100, 79, 132, 5, 1, 167, 255, 204, 42, 180, 0, 59, 27]
abbrev dktX6_putIn_8 : List UInt8 := dkwX6_putIn_8 ++ dktX6_putIn_9
def dkwX6_putIn_7 : List UInt8 := [180, 0, 205, 42, 180, 0, 169, 21, 4, 79, 42, 180, 0, 208, 42, 89, 180, 0, 169, 90, 4, 96]
abbrev dktX6_putIn_7 : List UInt8 := dkwX6_putIn_7 ++ dktX6_putIn_8
def dkwX6_putIn_6 : List UInt8 := [191, 42, 180, 0, 50, 27, 46, 54, 5, 21, 5, 42, 180, 0, 50, 27, 4, 96, 46, 162, 0, 45, 42]
abbrev dktX6_putIn_6 : List UInt8 := dkwX6_putIn_6 ++ dktX6_putIn_7
def dkwX6_putIn_5 : List UInt8 := [180, 0, 50, 27, 46, 100, 17, 23, 112, 164, 0, 16, 187, 1, 40, 89, 6, 42, 180, 0, 14, 183, 1, 42]
abbrev dktX6_putIn_5 : List UInt8 := dkwX6_putIn_5 ++ dktX6_putIn_6
def dkwX6_putIn_4 : List UInt8 := [42, 180, 0, 62, 27, 46, 96, 181, 0, 178, 42, 180, 0, 169, 42, 180, 0, 50, 27, 4, 96, 46, 96, 42]
abbrev dktX6_putIn_4 : List UInt8 := dkwX6_putIn_4 ++ dktX6_putIn_5
def dkwX6_putIn_3 : List UInt8 := [180, 0, 178, 79, 42, 89, 180, 0, 172, 42, 180, 0, 65, 27, 46, 96, 181, 0, 172, 42, 89, 180, 0, 178]
abbrev dktX6_putIn_3 : List UInt8 := dkwX6_putIn_3 ++ dktX6_putIn_4
def dkwX6_putIn_2 : List UInt8 := [180, 0, 169, 79, 42, 180, 0, 196, 21, 4, 42, 180, 0, 172, 79, 42, 180, 0, 199, 21, 4, 42]
abbrev dktX6_putIn_2 : List UInt8 := dkwX6_putIn_2 ++ dktX6_putIn_3
def dkwX6_putIn_1 : List UInt8 := [180, 0, 187, 21, 4, 28, 79, 42, 180, 0, 190, 21, 4, 29, 79, 42, 180, 0, 193, 21, 4, 42]
abbrev dktX6_putIn_1 : List UInt8 := dkwX6_putIn_1 ++ dktX6_putIn_2
def dkwX6_putIn_0 : List UInt8 := [42, 89, 180, 0, 166, 90, 4, 96, 181, 0, 166, 54, 4, 42, 180, 0, 184, 21, 4, 27, 79, 42]
abbrev dktX6_putIn_0 : List UInt8 := dkwX6_putIn_0 ++ dktX6_putIn_1
theorem dksX6_putIn_0 : cX6_putIn.data.toList.drop 0 = dktX6_putIn_0 := by decide +kernel
theorem dksX6_putIn_1 : cX6_putIn.data.toList.drop 22 = dktX6_putIn_1 := dk_seg dksX6_putIn_0 22 rfl rfl
theorem dksX6_putIn_2 : cX6_putIn.data.toList.drop 44 = dktX6_putIn_2 := dk_seg dksX6_putIn_1 22 rfl rfl
theorem dksX6_putIn_3 : cX6_putIn.data.toList.drop 66 = dktX6_putIn_3 := dk_seg dksX6_putIn_2 22 rfl rfl
theorem dksX6_putIn_4 : cX6_putIn.data.toList.drop 90 = dktX6_putIn_4 := dk_seg dksX6_putIn_3 24 rfl rfl
theorem dksX6_putIn_5 : cX6_putIn.data.toList.drop 114 = dktX6_putIn_5 := dk_seg dksX6_putIn_4 24 rfl rfl
theorem dksX6_putIn_6 : cX6_putIn.data.toList.drop 138 = dktX6_putIn_6 := dk_seg dksX6_putIn_5 24 rfl rfl
theorem dksX6_putIn_7 : cX6_putIn.data.toList.drop 161 = dktX6_putIn_7 := dk_seg dksX6_putIn_6 23 rfl rfl
theorem dksX6_putIn_8 : cX6_putIn.data.toList.drop 183 = dktX6_putIn_8 := dk_seg dksX6_putIn_7 22 rfl rfl
theorem dksX6_putIn_9 : cX6_putIn.data.toList.drop 207 = dktX6_putIn_9 := dk_seg dksX6_putIn_8 24 rfl rfl
theorem dksX6_putIn_10 : cX6_putIn.data.toList.drop 230 = dktX6_putIn_10 := dk_seg dksX6_putIn_9 23 rfl rfl
theorem dksX6_putIn_11 : cX6_putIn.data.toList.drop 252 = dktX6_putIn_11 := dk_seg dksX6_putIn_10 22 rfl rfl
theorem dksX6_putIn_12 : cX6_putIn.data.toList.drop 276 = dktX6_putIn_12 := dk_seg dksX6_putIn_11 24 rfl rfl
theorem dksX6_putIn_13 : cX6_putIn.data.toList.drop 299 = dktX6_putIn_13 := dk_seg dksX6_putIn_12 23 rfl rfl
theorem dksX6_putIn_14 : cX6_putIn.data.toList.drop 322 = dktX6_putIn_14 := dk_seg dksX6_putIn_13 23 rfl rfl
theorem dksX6_putIn_15 : cX6_putIn.data.toList.drop 344 = dktX6_putIn_15 := dk_seg dksX6_putIn_14 22 rfl rfl
theorem dksX6_putIn_16 : cX6_putIn.data.toList.drop 366 = dktX6_putIn_16 := dk_seg dksX6_putIn_15 22 rfl rfl
theorem dX6_putIn_0 : decode cX6_putIn 0 = .ok (.aload_n 0, 1) := dk_42 (dk_at dksX6_putIn_0 0 rfl rfl)
theorem dX6_putIn_1 : decode cX6_putIn 1 = .ok (.dup, 1) := dk_89 (dk_at dksX6_putIn_0 1 rfl rfl)
theorem dX6_putIn_2 : decode cX6_putIn 2 = .ok (.getfield 166, 3) := dk_180 0 166 (dk_at dksX6_putIn_0 2 rfl rfl)
theorem dX6_putIn_5 : decode cX6_putIn 5 = .ok (.dup_x1, 1) := dk_90 (dk_at dksX6_putIn_0 5 rfl rfl)
theorem dX6_putIn_6 : decode cX6_putIn 6 = .ok (.iconst 1, 1) := dk_4 (dk_at dksX6_putIn_0 6 rfl rfl)
theorem dX6_putIn_7 : decode cX6_putIn 7 = .ok (.iadd, 1) := dk_96 (dk_at dksX6_putIn_0 7 rfl rfl)
theorem dX6_putIn_8 : decode cX6_putIn 8 = .ok (.putfield 166, 3) := dk_181 0 166 (dk_at dksX6_putIn_0 8 rfl rfl)
theorem dX6_putIn_11 : decode cX6_putIn 11 = .ok (.istore 4, 2) := dk_54 4 (dk_at dksX6_putIn_0 11 rfl rfl)
theorem dX6_putIn_13 : decode cX6_putIn 13 = .ok (.aload_n 0, 1) := dk_42 (dk_at dksX6_putIn_0 13 rfl rfl)
theorem dX6_putIn_14 : decode cX6_putIn 14 = .ok (.getfield 184, 3) := dk_180 0 184 (dk_at dksX6_putIn_0 14 rfl rfl)
theorem dX6_putIn_17 : decode cX6_putIn 17 = .ok (.iload 4, 2) := dk_21 4 (dk_at dksX6_putIn_0 17 rfl rfl)
theorem dX6_putIn_19 : decode cX6_putIn 19 = .ok (.iload_n 1, 1) := dk_27 (dk_at dksX6_putIn_0 19 rfl rfl)
theorem dX6_putIn_20 : decode cX6_putIn 20 = .ok (.iastore, 1) := dk_79 (dk_at dksX6_putIn_0 20 rfl rfl)
theorem dX6_putIn_21 : decode cX6_putIn 21 = .ok (.aload_n 0, 1) := dk_42 (dk_at dksX6_putIn_0 21 rfl rfl)
theorem dX6_putIn_22 : decode cX6_putIn 22 = .ok (.getfield 187, 3) := dk_180 0 187 (dk_at dksX6_putIn_1 0 rfl rfl)
theorem dX6_putIn_25 : decode cX6_putIn 25 = .ok (.iload 4, 2) := dk_21 4 (dk_at dksX6_putIn_1 3 rfl rfl)
theorem dX6_putIn_27 : decode cX6_putIn 27 = .ok (.iload_n 2, 1) := dk_28 (dk_at dksX6_putIn_1 5 rfl rfl)
theorem dX6_putIn_28 : decode cX6_putIn 28 = .ok (.iastore, 1) := dk_79 (dk_at dksX6_putIn_1 6 rfl rfl)
theorem dX6_putIn_29 : decode cX6_putIn 29 = .ok (.aload_n 0, 1) := dk_42 (dk_at dksX6_putIn_1 7 rfl rfl)
theorem dX6_putIn_30 : decode cX6_putIn 30 = .ok (.getfield 190, 3) := dk_180 0 190 (dk_at dksX6_putIn_1 8 rfl rfl)
theorem dX6_putIn_33 : decode cX6_putIn 33 = .ok (.iload 4, 2) := dk_21 4 (dk_at dksX6_putIn_1 11 rfl rfl)
theorem dX6_putIn_35 : decode cX6_putIn 35 = .ok (.iload_n 3, 1) := dk_29 (dk_at dksX6_putIn_1 13 rfl rfl)
theorem dX6_putIn_36 : decode cX6_putIn 36 = .ok (.iastore, 1) := dk_79 (dk_at dksX6_putIn_1 14 rfl rfl)
theorem dX6_putIn_37 : decode cX6_putIn 37 = .ok (.aload_n 0, 1) := dk_42 (dk_at dksX6_putIn_1 15 rfl rfl)
theorem dX6_putIn_38 : decode cX6_putIn 38 = .ok (.getfield 193, 3) := dk_180 0 193 (dk_at dksX6_putIn_1 16 rfl rfl)
theorem dX6_putIn_41 : decode cX6_putIn 41 = .ok (.iload 4, 2) := dk_21 4 (dk_at dksX6_putIn_1 19 rfl rfl)
theorem dX6_putIn_43 : decode cX6_putIn 43 = .ok (.aload_n 0, 1) := dk_42 (dk_at dksX6_putIn_1 21 rfl rfl)
theorem dX6_putIn_44 : decode cX6_putIn 44 = .ok (.getfield 169, 3) := dk_180 0 169 (dk_at dksX6_putIn_2 0 rfl rfl)
theorem dX6_putIn_47 : decode cX6_putIn 47 = .ok (.iastore, 1) := dk_79 (dk_at dksX6_putIn_2 3 rfl rfl)
theorem dX6_putIn_48 : decode cX6_putIn 48 = .ok (.aload_n 0, 1) := dk_42 (dk_at dksX6_putIn_2 4 rfl rfl)
theorem dX6_putIn_49 : decode cX6_putIn 49 = .ok (.getfield 196, 3) := dk_180 0 196 (dk_at dksX6_putIn_2 5 rfl rfl)
theorem dX6_putIn_52 : decode cX6_putIn 52 = .ok (.iload 4, 2) := dk_21 4 (dk_at dksX6_putIn_2 8 rfl rfl)
theorem dX6_putIn_54 : decode cX6_putIn 54 = .ok (.aload_n 0, 1) := dk_42 (dk_at dksX6_putIn_2 10 rfl rfl)
theorem dX6_putIn_55 : decode cX6_putIn 55 = .ok (.getfield 172, 3) := dk_180 0 172 (dk_at dksX6_putIn_2 11 rfl rfl)
theorem dX6_putIn_58 : decode cX6_putIn 58 = .ok (.iastore, 1) := dk_79 (dk_at dksX6_putIn_2 14 rfl rfl)
theorem dX6_putIn_59 : decode cX6_putIn 59 = .ok (.aload_n 0, 1) := dk_42 (dk_at dksX6_putIn_2 15 rfl rfl)
theorem dX6_putIn_60 : decode cX6_putIn 60 = .ok (.getfield 199, 3) := dk_180 0 199 (dk_at dksX6_putIn_2 16 rfl rfl)
theorem dX6_putIn_63 : decode cX6_putIn 63 = .ok (.iload 4, 2) := dk_21 4 (dk_at dksX6_putIn_2 19 rfl rfl)
theorem dX6_putIn_65 : decode cX6_putIn 65 = .ok (.aload_n 0, 1) := dk_42 (dk_at dksX6_putIn_2 21 rfl rfl)
theorem dX6_putIn_66 : decode cX6_putIn 66 = .ok (.getfield 178, 3) := dk_180 0 178 (dk_at dksX6_putIn_3 0 rfl rfl)
theorem dX6_putIn_69 : decode cX6_putIn 69 = .ok (.iastore, 1) := dk_79 (dk_at dksX6_putIn_3 3 rfl rfl)
theorem dX6_putIn_70 : decode cX6_putIn 70 = .ok (.aload_n 0, 1) := dk_42 (dk_at dksX6_putIn_3 4 rfl rfl)
theorem dX6_putIn_71 : decode cX6_putIn 71 = .ok (.dup, 1) := dk_89 (dk_at dksX6_putIn_3 5 rfl rfl)
theorem dX6_putIn_72 : decode cX6_putIn 72 = .ok (.getfield 172, 3) := dk_180 0 172 (dk_at dksX6_putIn_3 6 rfl rfl)
theorem dX6_putIn_75 : decode cX6_putIn 75 = .ok (.aload_n 0, 1) := dk_42 (dk_at dksX6_putIn_3 9 rfl rfl)
theorem dX6_putIn_76 : decode cX6_putIn 76 = .ok (.getfield 65, 3) := dk_180 0 65 (dk_at dksX6_putIn_3 10 rfl rfl)
theorem dX6_putIn_79 : decode cX6_putIn 79 = .ok (.iload_n 1, 1) := dk_27 (dk_at dksX6_putIn_3 13 rfl rfl)
theorem dX6_putIn_80 : decode cX6_putIn 80 = .ok (.iaload, 1) := dk_46 (dk_at dksX6_putIn_3 14 rfl rfl)
theorem dX6_putIn_81 : decode cX6_putIn 81 = .ok (.iadd, 1) := dk_96 (dk_at dksX6_putIn_3 15 rfl rfl)
theorem dX6_putIn_82 : decode cX6_putIn 82 = .ok (.putfield 172, 3) := dk_181 0 172 (dk_at dksX6_putIn_3 16 rfl rfl)
theorem dX6_putIn_85 : decode cX6_putIn 85 = .ok (.aload_n 0, 1) := dk_42 (dk_at dksX6_putIn_3 19 rfl rfl)
theorem dX6_putIn_86 : decode cX6_putIn 86 = .ok (.dup, 1) := dk_89 (dk_at dksX6_putIn_3 20 rfl rfl)
theorem dX6_putIn_87 : decode cX6_putIn 87 = .ok (.getfield 178, 3) := dk_180 0 178 (dk_at dksX6_putIn_3 21 rfl rfl)
theorem dX6_putIn_90 : decode cX6_putIn 90 = .ok (.aload_n 0, 1) := dk_42 (dk_at dksX6_putIn_4 0 rfl rfl)
theorem dX6_putIn_91 : decode cX6_putIn 91 = .ok (.getfield 62, 3) := dk_180 0 62 (dk_at dksX6_putIn_4 1 rfl rfl)
theorem dX6_putIn_94 : decode cX6_putIn 94 = .ok (.iload_n 1, 1) := dk_27 (dk_at dksX6_putIn_4 4 rfl rfl)
theorem dX6_putIn_95 : decode cX6_putIn 95 = .ok (.iaload, 1) := dk_46 (dk_at dksX6_putIn_4 5 rfl rfl)
theorem dX6_putIn_96 : decode cX6_putIn 96 = .ok (.iadd, 1) := dk_96 (dk_at dksX6_putIn_4 6 rfl rfl)
theorem dX6_putIn_97 : decode cX6_putIn 97 = .ok (.putfield 178, 3) := dk_181 0 178 (dk_at dksX6_putIn_4 7 rfl rfl)
theorem dX6_putIn_100 : decode cX6_putIn 100 = .ok (.aload_n 0, 1) := dk_42 (dk_at dksX6_putIn_4 10 rfl rfl)
theorem dX6_putIn_101 : decode cX6_putIn 101 = .ok (.getfield 169, 3) := dk_180 0 169 (dk_at dksX6_putIn_4 11 rfl rfl)
theorem dX6_putIn_104 : decode cX6_putIn 104 = .ok (.aload_n 0, 1) := dk_42 (dk_at dksX6_putIn_4 14 rfl rfl)
theorem dX6_putIn_105 : decode cX6_putIn 105 = .ok (.getfield 50, 3) := dk_180 0 50 (dk_at dksX6_putIn_4 15 rfl rfl)
theorem dX6_putIn_108 : decode cX6_putIn 108 = .ok (.iload_n 1, 1) := dk_27 (dk_at dksX6_putIn_4 18 rfl rfl)
theorem dX6_putIn_109 : decode cX6_putIn 109 = .ok (.iconst 1, 1) := dk_4 (dk_at dksX6_putIn_4 19 rfl rfl)
theorem dX6_putIn_110 : decode cX6_putIn 110 = .ok (.iadd, 1) := dk_96 (dk_at dksX6_putIn_4 20 rfl rfl)
theorem dX6_putIn_111 : decode cX6_putIn 111 = .ok (.iaload, 1) := dk_46 (dk_at dksX6_putIn_4 21 rfl rfl)
theorem dX6_putIn_112 : decode cX6_putIn 112 = .ok (.iadd, 1) := dk_96 (dk_at dksX6_putIn_4 22 rfl rfl)
theorem dX6_putIn_113 : decode cX6_putIn 113 = .ok (.aload_n 0, 1) := dk_42 (dk_at dksX6_putIn_4 23 rfl rfl)
theorem dX6_putIn_114 : decode cX6_putIn 114 = .ok (.getfield 50, 3) := dk_180 0 50 (dk_at dksX6_putIn_5 0 rfl rfl)
theorem dX6_putIn_117 : decode cX6_putIn 117 = .ok (.iload_n 1, 1) := dk_27 (dk_at dksX6_putIn_5 3 rfl rfl)
theorem dX6_putIn_118 : decode cX6_putIn 118 = .ok (.iaload, 1) := dk_46 (dk_at dksX6_putIn_5 4 rfl rfl)
theorem dX6_putIn_119 : decode cX6_putIn 119 = .ok (.isub, 1) := dk_100 (dk_at dksX6_putIn_5 5 rfl rfl)
theorem dX6_putIn_120 : decode cX6_putIn 120 = .ok (.sipush 6000, 3) := dk_17 23 112 (dk_at dksX6_putIn_5 6 rfl rfl)
theorem dX6_putIn_123 : decode cX6_putIn 123 = .ok (.if_icmp .le 16, 3) := dk_164 0 16 (dk_at dksX6_putIn_5 9 rfl rfl)
theorem dX6_putIn_126 : decode cX6_putIn 126 = .ok (.new 296, 3) := dk_187 1 40 (dk_at dksX6_putIn_5 12 rfl rfl)
theorem dX6_putIn_129 : decode cX6_putIn 129 = .ok (.dup, 1) := dk_89 (dk_at dksX6_putIn_5 15 rfl rfl)
theorem dX6_putIn_130 : decode cX6_putIn 130 = .ok (.iconst 3, 1) := dk_6 (dk_at dksX6_putIn_5 16 rfl rfl)
theorem dX6_putIn_131 : decode cX6_putIn 131 = .ok (.aload_n 0, 1) := dk_42 (dk_at dksX6_putIn_5 17 rfl rfl)
theorem dX6_putIn_132 : decode cX6_putIn 132 = .ok (.getfield 14, 3) := dk_180 0 14 (dk_at dksX6_putIn_5 18 rfl rfl)
theorem dX6_putIn_135 : decode cX6_putIn 135 = .ok (.invokespecial 298, 3) := dk_183 1 42 (dk_at dksX6_putIn_5 21 rfl rfl)
theorem dX6_putIn_138 : decode cX6_putIn 138 = .ok (.athrow, 1) := dk_191 (dk_at dksX6_putIn_6 0 rfl rfl)
theorem dX6_putIn_139 : decode cX6_putIn 139 = .ok (.aload_n 0, 1) := dk_42 (dk_at dksX6_putIn_6 1 rfl rfl)
theorem dX6_putIn_140 : decode cX6_putIn 140 = .ok (.getfield 50, 3) := dk_180 0 50 (dk_at dksX6_putIn_6 2 rfl rfl)
theorem dX6_putIn_143 : decode cX6_putIn 143 = .ok (.iload_n 1, 1) := dk_27 (dk_at dksX6_putIn_6 5 rfl rfl)
theorem dX6_putIn_144 : decode cX6_putIn 144 = .ok (.iaload, 1) := dk_46 (dk_at dksX6_putIn_6 6 rfl rfl)
theorem dX6_putIn_145 : decode cX6_putIn 145 = .ok (.istore 5, 2) := dk_54 5 (dk_at dksX6_putIn_6 7 rfl rfl)
theorem dX6_putIn_147 : decode cX6_putIn 147 = .ok (.iload 5, 2) := dk_21 5 (dk_at dksX6_putIn_6 9 rfl rfl)
theorem dX6_putIn_149 : decode cX6_putIn 149 = .ok (.aload_n 0, 1) := dk_42 (dk_at dksX6_putIn_6 11 rfl rfl)
theorem dX6_putIn_150 : decode cX6_putIn 150 = .ok (.getfield 50, 3) := dk_180 0 50 (dk_at dksX6_putIn_6 12 rfl rfl)
theorem dX6_putIn_153 : decode cX6_putIn 153 = .ok (.iload_n 1, 1) := dk_27 (dk_at dksX6_putIn_6 15 rfl rfl)
theorem dX6_putIn_154 : decode cX6_putIn 154 = .ok (.iconst 1, 1) := dk_4 (dk_at dksX6_putIn_6 16 rfl rfl)
theorem dX6_putIn_155 : decode cX6_putIn 155 = .ok (.iadd, 1) := dk_96 (dk_at dksX6_putIn_6 17 rfl rfl)
theorem dX6_putIn_156 : decode cX6_putIn 156 = .ok (.iaload, 1) := dk_46 (dk_at dksX6_putIn_6 18 rfl rfl)
theorem dX6_putIn_157 : decode cX6_putIn 157 = .ok (.if_icmp .ge 45, 3) := dk_162 0 45 (dk_at dksX6_putIn_6 19 rfl rfl)
theorem dX6_putIn_160 : decode cX6_putIn 160 = .ok (.aload_n 0, 1) := dk_42 (dk_at dksX6_putIn_6 22 rfl rfl)
theorem dX6_putIn_161 : decode cX6_putIn 161 = .ok (.getfield 205, 3) := dk_180 0 205 (dk_at dksX6_putIn_7 0 rfl rfl)
theorem dX6_putIn_164 : decode cX6_putIn 164 = .ok (.aload_n 0, 1) := dk_42 (dk_at dksX6_putIn_7 3 rfl rfl)
theorem dX6_putIn_165 : decode cX6_putIn 165 = .ok (.getfield 169, 3) := dk_180 0 169 (dk_at dksX6_putIn_7 4 rfl rfl)
theorem dX6_putIn_168 : decode cX6_putIn 168 = .ok (.iload 4, 2) := dk_21 4 (dk_at dksX6_putIn_7 7 rfl rfl)
theorem dX6_putIn_170 : decode cX6_putIn 170 = .ok (.iastore, 1) := dk_79 (dk_at dksX6_putIn_7 9 rfl rfl)
theorem dX6_putIn_171 : decode cX6_putIn 171 = .ok (.aload_n 0, 1) := dk_42 (dk_at dksX6_putIn_7 10 rfl rfl)
theorem dX6_putIn_172 : decode cX6_putIn 172 = .ok (.getfield 208, 3) := dk_180 0 208 (dk_at dksX6_putIn_7 11 rfl rfl)
theorem dX6_putIn_175 : decode cX6_putIn 175 = .ok (.aload_n 0, 1) := dk_42 (dk_at dksX6_putIn_7 14 rfl rfl)
theorem dX6_putIn_176 : decode cX6_putIn 176 = .ok (.dup, 1) := dk_89 (dk_at dksX6_putIn_7 15 rfl rfl)
theorem dX6_putIn_177 : decode cX6_putIn 177 = .ok (.getfield 169, 3) := dk_180 0 169 (dk_at dksX6_putIn_7 16 rfl rfl)
theorem dX6_putIn_180 : decode cX6_putIn 180 = .ok (.dup_x1, 1) := dk_90 (dk_at dksX6_putIn_7 19 rfl rfl)
theorem dX6_putIn_181 : decode cX6_putIn 181 = .ok (.iconst 1, 1) := dk_4 (dk_at dksX6_putIn_7 20 rfl rfl)
theorem dX6_putIn_182 : decode cX6_putIn 182 = .ok (.iadd, 1) := dk_96 (dk_at dksX6_putIn_7 21 rfl rfl)
theorem dX6_putIn_183 : decode cX6_putIn 183 = .ok (.putfield 169, 3) := dk_181 0 169 (dk_at dksX6_putIn_8 0 rfl rfl)
theorem dX6_putIn_186 : decode cX6_putIn 186 = .ok (.iload 5, 2) := dk_21 5 (dk_at dksX6_putIn_8 3 rfl rfl)
theorem dX6_putIn_188 : decode cX6_putIn 188 = .ok (.aload_n 0, 1) := dk_42 (dk_at dksX6_putIn_8 5 rfl rfl)
theorem dX6_putIn_189 : decode cX6_putIn 189 = .ok (.getfield 50, 3) := dk_180 0 50 (dk_at dksX6_putIn_8 6 rfl rfl)
theorem dX6_putIn_192 : decode cX6_putIn 192 = .ok (.iload_n 1, 1) := dk_27 (dk_at dksX6_putIn_8 9 rfl rfl)
theorem dX6_putIn_193 : decode cX6_putIn 193 = .ok (.iaload, 1) := dk_46 (dk_at dksX6_putIn_8 10 rfl rfl)
theorem dX6_putIn_194 : decode cX6_putIn 194 = .ok (.isub, 1) := dk_100 (dk_at dksX6_putIn_8 11 rfl rfl)
theorem dX6_putIn_195 : decode cX6_putIn 195 = .ok (.iastore, 1) := dk_79 (dk_at dksX6_putIn_8 12 rfl rfl)
theorem dX6_putIn_196 : decode cX6_putIn 196 = .ok (.iinc 5 1, 3) := dk_132 5 1 (dk_at dksX6_putIn_8 13 rfl rfl)
theorem dX6_putIn_199 : decode cX6_putIn 199 = .ok (.goto (-52), 3) := dk_167 255 204 (dk_at dksX6_putIn_8 16 rfl rfl)
theorem dX6_putIn_202 : decode cX6_putIn 202 = .ok (.aload_n 0, 1) := dk_42 (dk_at dksX6_putIn_8 19 rfl rfl)
theorem dX6_putIn_203 : decode cX6_putIn 203 = .ok (.getfield 59, 3) := dk_180 0 59 (dk_at dksX6_putIn_8 20 rfl rfl)
theorem dX6_putIn_206 : decode cX6_putIn 206 = .ok (.iload_n 1, 1) := dk_27 (dk_at dksX6_putIn_8 23 rfl rfl)
theorem dX6_putIn_207 : decode cX6_putIn 207 = .ok (.iaload, 1) := dk_46 (dk_at dksX6_putIn_9 0 rfl rfl)
theorem dX6_putIn_208 : decode cX6_putIn 208 = .ok (.istore 5, 2) := dk_54 5 (dk_at dksX6_putIn_9 1 rfl rfl)
theorem dX6_putIn_210 : decode cX6_putIn 210 = .ok (.iload 5, 2) := dk_21 5 (dk_at dksX6_putIn_9 3 rfl rfl)
theorem dX6_putIn_212 : decode cX6_putIn 212 = .ok (.aload_n 0, 1) := dk_42 (dk_at dksX6_putIn_9 5 rfl rfl)
theorem dX6_putIn_213 : decode cX6_putIn 213 = .ok (.getfield 59, 3) := dk_180 0 59 (dk_at dksX6_putIn_9 6 rfl rfl)
theorem dX6_putIn_216 : decode cX6_putIn 216 = .ok (.iload_n 1, 1) := dk_27 (dk_at dksX6_putIn_9 9 rfl rfl)
theorem dX6_putIn_217 : decode cX6_putIn 217 = .ok (.iconst 1, 1) := dk_4 (dk_at dksX6_putIn_9 10 rfl rfl)
theorem dX6_putIn_218 : decode cX6_putIn 218 = .ok (.iadd, 1) := dk_96 (dk_at dksX6_putIn_9 11 rfl rfl)
theorem dX6_putIn_219 : decode cX6_putIn 219 = .ok (.iaload, 1) := dk_46 (dk_at dksX6_putIn_9 12 rfl rfl)
theorem dX6_putIn_220 : decode cX6_putIn 220 = .ok (.if_icmp .ge 149, 3) := dk_162 0 149 (dk_at dksX6_putIn_9 13 rfl rfl)
theorem dX6_putIn_223 : decode cX6_putIn 223 = .ok (.aload_n 0, 1) := dk_42 (dk_at dksX6_putIn_9 16 rfl rfl)
theorem dX6_putIn_224 : decode cX6_putIn 224 = .ok (.getfield 103, 3) := dk_180 0 103 (dk_at dksX6_putIn_9 17 rfl rfl)
theorem dX6_putIn_227 : decode cX6_putIn 227 = .ok (.iload 5, 2) := dk_21 5 (dk_at dksX6_putIn_9 20 rfl rfl)
theorem dX6_putIn_229 : decode cX6_putIn 229 = .ok (.iaload, 1) := dk_46 (dk_at dksX6_putIn_9 22 rfl rfl)
theorem dX6_putIn_230 : decode cX6_putIn 230 = .ok (.istore 6, 2) := dk_54 6 (dk_at dksX6_putIn_10 0 rfl rfl)
theorem dX6_putIn_232 : decode cX6_putIn 232 = .ok (.iload 6, 2) := dk_21 6 (dk_at dksX6_putIn_10 2 rfl rfl)
theorem dX6_putIn_234 : decode cX6_putIn 234 = .ok (.aload_n 0, 1) := dk_42 (dk_at dksX6_putIn_10 4 rfl rfl)
theorem dX6_putIn_235 : decode cX6_putIn 235 = .ok (.getfield 96, 3) := dk_180 0 96 (dk_at dksX6_putIn_10 5 rfl rfl)
theorem dX6_putIn_238 : decode cX6_putIn 238 = .ok (.iload 5, 2) := dk_21 5 (dk_at dksX6_putIn_10 8 rfl rfl)
theorem dX6_putIn_240 : decode cX6_putIn 240 = .ok (.iaload, 1) := dk_46 (dk_at dksX6_putIn_10 10 rfl rfl)
theorem dX6_putIn_241 : decode cX6_putIn 241 = .ok (.if_icmp .gt 122, 3) := dk_163 0 122 (dk_at dksX6_putIn_10 11 rfl rfl)
theorem dX6_putIn_244 : decode cX6_putIn 244 = .ok (.aload_n 0, 1) := dk_42 (dk_at dksX6_putIn_10 14 rfl rfl)
theorem dX6_putIn_245 : decode cX6_putIn 245 = .ok (.getfield 112, 3) := dk_180 0 112 (dk_at dksX6_putIn_10 15 rfl rfl)
theorem dX6_putIn_248 : decode cX6_putIn 248 = .ok (.iload 6, 2) := dk_21 6 (dk_at dksX6_putIn_10 18 rfl rfl)
theorem dX6_putIn_250 : decode cX6_putIn 250 = .ok (.iaload, 1) := dk_46 (dk_at dksX6_putIn_10 20 rfl rfl)
theorem dX6_putIn_251 : decode cX6_putIn 251 = .ok (.iconst 3, 1) := dk_6 (dk_at dksX6_putIn_10 21 rfl rfl)
theorem dX6_putIn_252 : decode cX6_putIn 252 = .ok (.if_icmp .ne 38, 3) := dk_160 0 38 (dk_at dksX6_putIn_11 0 rfl rfl)
theorem dX6_putIn_255 : decode cX6_putIn 255 = .ok (.aload_n 0, 1) := dk_42 (dk_at dksX6_putIn_11 3 rfl rfl)
theorem dX6_putIn_256 : decode cX6_putIn 256 = .ok (.getfield 202, 3) := dk_180 0 202 (dk_at dksX6_putIn_11 4 rfl rfl)
theorem dX6_putIn_259 : decode cX6_putIn 259 = .ok (.aload_n 0, 1) := dk_42 (dk_at dksX6_putIn_11 7 rfl rfl)
theorem dX6_putIn_260 : decode cX6_putIn 260 = .ok (.getfield 199, 3) := dk_180 0 199 (dk_at dksX6_putIn_11 8 rfl rfl)
theorem dX6_putIn_263 : decode cX6_putIn 263 = .ok (.iload 4, 2) := dk_21 4 (dk_at dksX6_putIn_11 11 rfl rfl)
theorem dX6_putIn_265 : decode cX6_putIn 265 = .ok (.iaload, 1) := dk_46 (dk_at dksX6_putIn_11 13 rfl rfl)
theorem dX6_putIn_266 : decode cX6_putIn 266 = .ok (.aload_n 0, 1) := dk_42 (dk_at dksX6_putIn_11 14 rfl rfl)
theorem dX6_putIn_267 : decode cX6_putIn 267 = .ok (.getfield 127, 3) := dk_180 0 127 (dk_at dksX6_putIn_11 15 rfl rfl)
theorem dX6_putIn_270 : decode cX6_putIn 270 = .ok (.iload 6, 2) := dk_21 6 (dk_at dksX6_putIn_11 18 rfl rfl)
theorem dX6_putIn_272 : decode cX6_putIn 272 = .ok (.iaload, 1) := dk_46 (dk_at dksX6_putIn_11 20 rfl rfl)
theorem dX6_putIn_273 : decode cX6_putIn 273 = .ok (.iadd, 1) := dk_96 (dk_at dksX6_putIn_11 21 rfl rfl)
theorem dX6_putIn_274 : decode cX6_putIn 274 = .ok (.aload_n 0, 1) := dk_42 (dk_at dksX6_putIn_11 22 rfl rfl)
theorem dX6_putIn_275 : decode cX6_putIn 275 = .ok (.aload_n 0, 1) := dk_42 (dk_at dksX6_putIn_11 23 rfl rfl)
theorem dX6_putIn_276 : decode cX6_putIn 276 = .ok (.getfield 115, 3) := dk_180 0 115 (dk_at dksX6_putIn_12 0 rfl rfl)
theorem dX6_putIn_279 : decode cX6_putIn 279 = .ok (.iload 6, 2) := dk_21 6 (dk_at dksX6_putIn_12 3 rfl rfl)
theorem dX6_putIn_281 : decode cX6_putIn 281 = .ok (.iaload, 1) := dk_46 (dk_at dksX6_putIn_12 5 rfl rfl)
theorem dX6_putIn_282 : decode cX6_putIn 282 = .ok (.iload 4, 2) := dk_21 4 (dk_at dksX6_putIn_12 6 rfl rfl)
theorem dX6_putIn_284 : decode cX6_putIn 284 = .ok (.iload 6, 2) := dk_21 6 (dk_at dksX6_putIn_12 8 rfl rfl)
theorem dX6_putIn_286 : decode cX6_putIn 286 = .ok (.invokevirtual 474, 3) := dk_182 1 218 (dk_at dksX6_putIn_12 10 rfl rfl)
theorem dX6_putIn_289 : decode cX6_putIn 289 = .ok (.iastore, 1) := dk_79 (dk_at dksX6_putIn_12 13 rfl rfl)
theorem dX6_putIn_290 : decode cX6_putIn 290 = .ok (.aload_n 0, 1) := dk_42 (dk_at dksX6_putIn_12 14 rfl rfl)
theorem dX6_putIn_291 : decode cX6_putIn 291 = .ok (.getfield 112, 3) := dk_180 0 112 (dk_at dksX6_putIn_12 15 rfl rfl)
theorem dX6_putIn_294 : decode cX6_putIn 294 = .ok (.iload 6, 2) := dk_21 6 (dk_at dksX6_putIn_12 18 rfl rfl)
theorem dX6_putIn_296 : decode cX6_putIn 296 = .ok (.iaload, 1) := dk_46 (dk_at dksX6_putIn_12 20 rfl rfl)
theorem dX6_putIn_297 : decode cX6_putIn 297 = .ok (.bipush 24, 2) := dk_16 24 (dk_at dksX6_putIn_12 21 rfl rfl)
theorem dX6_putIn_299 : decode cX6_putIn 299 = .ok (.if_icmp .eq 26, 3) := dk_159 0 26 (dk_at dksX6_putIn_13 0 rfl rfl)
theorem dX6_putIn_302 : decode cX6_putIn 302 = .ok (.aload_n 0, 1) := dk_42 (dk_at dksX6_putIn_13 3 rfl rfl)
theorem dX6_putIn_303 : decode cX6_putIn 303 = .ok (.getfield 112, 3) := dk_180 0 112 (dk_at dksX6_putIn_13 4 rfl rfl)
theorem dX6_putIn_306 : decode cX6_putIn 306 = .ok (.iload 6, 2) := dk_21 6 (dk_at dksX6_putIn_13 7 rfl rfl)
theorem dX6_putIn_308 : decode cX6_putIn 308 = .ok (.iaload, 1) := dk_46 (dk_at dksX6_putIn_13 9 rfl rfl)
theorem dX6_putIn_309 : decode cX6_putIn 309 = .ok (.iconst 5, 1) := dk_8 (dk_at dksX6_putIn_13 10 rfl rfl)
theorem dX6_putIn_310 : decode cX6_putIn 310 = .ok (.if_icmp .eq 15, 3) := dk_159 0 15 (dk_at dksX6_putIn_13 11 rfl rfl)
theorem dX6_putIn_313 : decode cX6_putIn 313 = .ok (.aload_n 0, 1) := dk_42 (dk_at dksX6_putIn_13 14 rfl rfl)
theorem dX6_putIn_314 : decode cX6_putIn 314 = .ok (.getfield 112, 3) := dk_180 0 112 (dk_at dksX6_putIn_13 15 rfl rfl)
theorem dX6_putIn_317 : decode cX6_putIn 317 = .ok (.iload 6, 2) := dk_21 6 (dk_at dksX6_putIn_13 18 rfl rfl)
theorem dX6_putIn_319 : decode cX6_putIn 319 = .ok (.iaload, 1) := dk_46 (dk_at dksX6_putIn_13 20 rfl rfl)
theorem dX6_putIn_320 : decode cX6_putIn 320 = .ok (.bipush 25, 2) := dk_16 25 (dk_at dksX6_putIn_13 21 rfl rfl)
theorem dX6_putIn_322 : decode cX6_putIn 322 = .ok (.if_icmp .ne 13, 3) := dk_160 0 13 (dk_at dksX6_putIn_14 0 rfl rfl)
theorem dX6_putIn_325 : decode cX6_putIn 325 = .ok (.aload_n 0, 1) := dk_42 (dk_at dksX6_putIn_14 3 rfl rfl)
theorem dX6_putIn_326 : decode cX6_putIn 326 = .ok (.dup, 1) := dk_89 (dk_at dksX6_putIn_14 4 rfl rfl)
theorem dX6_putIn_327 : decode cX6_putIn 327 = .ok (.getfield 175, 3) := dk_180 0 175 (dk_at dksX6_putIn_14 5 rfl rfl)
theorem dX6_putIn_330 : decode cX6_putIn 330 = .ok (.iconst 1, 1) := dk_4 (dk_at dksX6_putIn_14 8 rfl rfl)
theorem dX6_putIn_331 : decode cX6_putIn 331 = .ok (.iadd, 1) := dk_96 (dk_at dksX6_putIn_14 9 rfl rfl)
theorem dX6_putIn_332 : decode cX6_putIn 332 = .ok (.putfield 175, 3) := dk_181 0 175 (dk_at dksX6_putIn_14 10 rfl rfl)
theorem dX6_putIn_335 : decode cX6_putIn 335 = .ok (.aload_n 0, 1) := dk_42 (dk_at dksX6_putIn_14 13 rfl rfl)
theorem dX6_putIn_336 : decode cX6_putIn 336 = .ok (.getfield 112, 3) := dk_180 0 112 (dk_at dksX6_putIn_14 14 rfl rfl)
theorem dX6_putIn_339 : decode cX6_putIn 339 = .ok (.iload 6, 2) := dk_21 6 (dk_at dksX6_putIn_14 17 rfl rfl)
theorem dX6_putIn_341 : decode cX6_putIn 341 = .ok (.iaload, 1) := dk_46 (dk_at dksX6_putIn_14 19 rfl rfl)
theorem dX6_putIn_342 : decode cX6_putIn 342 = .ok (.bipush 6, 2) := dk_16 6 (dk_at dksX6_putIn_14 20 rfl rfl)
theorem dX6_putIn_344 : decode cX6_putIn 344 = .ok (.if_icmp .ne 13, 3) := dk_160 0 13 (dk_at dksX6_putIn_15 0 rfl rfl)
theorem dX6_putIn_347 : decode cX6_putIn 347 = .ok (.aload_n 0, 1) := dk_42 (dk_at dksX6_putIn_15 3 rfl rfl)
theorem dX6_putIn_348 : decode cX6_putIn 348 = .ok (.dup, 1) := dk_89 (dk_at dksX6_putIn_15 4 rfl rfl)
theorem dX6_putIn_349 : decode cX6_putIn 349 = .ok (.getfield 175, 3) := dk_180 0 175 (dk_at dksX6_putIn_15 5 rfl rfl)
theorem dX6_putIn_352 : decode cX6_putIn 352 = .ok (.iconst 2, 1) := dk_5 (dk_at dksX6_putIn_15 8 rfl rfl)
theorem dX6_putIn_353 : decode cX6_putIn 353 = .ok (.iadd, 1) := dk_96 (dk_at dksX6_putIn_15 9 rfl rfl)
theorem dX6_putIn_354 : decode cX6_putIn 354 = .ok (.putfield 175, 3) := dk_181 0 175 (dk_at dksX6_putIn_15 10 rfl rfl)
theorem dX6_putIn_357 : decode cX6_putIn 357 = .ok (.iinc 6 1, 3) := dk_132 6 1 (dk_at dksX6_putIn_15 13 rfl rfl)
theorem dX6_putIn_360 : decode cX6_putIn 360 = .ok (.goto (-128), 3) := dk_167 255 128 (dk_at dksX6_putIn_15 16 rfl rfl)
theorem dX6_putIn_363 : decode cX6_putIn 363 = .ok (.iinc 5 1, 3) := dk_132 5 1 (dk_at dksX6_putIn_15 19 rfl rfl)
theorem dX6_putIn_366 : decode cX6_putIn 366 = .ok (.goto (-156), 3) := dk_167 255 100 (dk_at dksX6_putIn_16 0 rfl rfl)
theorem dX6_putIn_369 : decode cX6_putIn 369 = .ok (.iload 4, 2) := dk_21 4 (dk_at dksX6_putIn_16 3 rfl rfl)
theorem dX6_putIn_371 : decode cX6_putIn 371 = .ok (.ireturn, 1) := dk_172 (dk_at dksX6_putIn_16 5 rfl rfl)
abbrev cX6_causes : ByteArray := prog_26_method_55_code
def yX6_causes : MethodName := ⟨RX6, "causes", "(I)V"⟩
def dkwX6_causes_9 : List UInt8 := [182, 1, 224, 177]
abbrev dktX6_causes_9 : List UInt8 := dkwX6_causes_9 ++ []
def dkwX6_causes_8 : List UInt8 := [180, 0, 96, 21, 6, 46, 42, 180, 0, 157, 42, 180, 0, 50, 29, 46, 21, 4, 96, 46, 182, 1, 227]
abbrev dktX6_causes_8 : List UInt8 := dkwX6_causes_8 ++ dktX6_causes_9
def dkwX6_causes_7 : List UInt8 := [182, 1, 236, 42, 180, 0, 112, 42, 180, 0, 96, 21, 6, 46, 46, 6, 160, 0, 33, 42, 42, 28, 42]
abbrev dktX6_causes_7 : List UInt8 := dkwX6_causes_7 ++ dktX6_causes_8
def dkwX6_causes_6 : List UInt8 := [180, 0, 154, 42, 180, 0, 50, 29, 46, 21, 4, 96, 46, 54, 6, 42, 28, 42, 180, 0, 96, 21, 6, 46]
abbrev dktX6_causes_6 : List UInt8 := dkwX6_causes_6 ++ dktX6_causes_7
def dkwX6_causes_5 : List UInt8 := [6, 160, 0, 20, 42, 42, 42, 180, 0, 187, 28, 46, 21, 6, 3, 182, 1, 227, 182, 1, 224, 177, 42]
abbrev dktX6_causes_5 : List UInt8 := dkwX6_causes_5 ++ dktX6_causes_6
def dkwX6_causes_4 : List UInt8 := [182, 1, 233, 54, 6, 42, 42, 180, 0, 187, 28, 46, 21, 6, 182, 1, 236, 42, 180, 0, 112, 21, 6, 46]
abbrev dktX6_causes_4 : List UInt8 := dkwX6_causes_4 ++ dktX6_causes_5
def dkwX6_causes_3 : List UInt8 := [162, 0, 68, 42, 180, 0, 187, 28, 46, 156, 0, 4, 177, 42, 42, 180, 0, 190, 28, 46, 21, 4]
abbrev dktX6_causes_3 : List UInt8 := dkwX6_causes_3 ++ dktX6_causes_4
def dkwX6_causes_2 : List UInt8 := [182, 1, 230, 54, 5, 21, 5, 155, 0, 9, 42, 21, 5, 182, 1, 224, 21, 4, 42, 180, 0, 53, 29, 46]
abbrev dktX6_causes_2 : List UInt8 := dkwX6_causes_2 ++ dktX6_causes_3
def dkwX6_causes_1 : List UInt8 := [42, 180, 0, 208, 27, 46, 54, 4, 42, 28, 42, 180, 0, 80, 42, 180, 0, 50, 29, 46, 21, 4, 96, 46]
abbrev dktX6_causes_1 : List UInt8 := dkwX6_causes_1 ++ dktX6_causes_2
def dkwX6_causes_0 : List UInt8 := [42, 180, 0, 211, 27, 42, 180, 0, 218, 79, 42, 180, 0, 205, 27, 46, 61, 42, 180, 0, 184, 28, 46, 62]
abbrev dktX6_causes_0 : List UInt8 := dkwX6_causes_0 ++ dktX6_causes_1
theorem dksX6_causes_0 : cX6_causes.data.toList.drop 0 = dktX6_causes_0 := by decide +kernel
theorem dksX6_causes_1 : cX6_causes.data.toList.drop 24 = dktX6_causes_1 := dk_seg dksX6_causes_0 24 rfl rfl
theorem dksX6_causes_2 : cX6_causes.data.toList.drop 48 = dktX6_causes_2 := dk_seg dksX6_causes_1 24 rfl rfl
theorem dksX6_causes_3 : cX6_causes.data.toList.drop 72 = dktX6_causes_3 := dk_seg dksX6_causes_2 24 rfl rfl
theorem dksX6_causes_4 : cX6_causes.data.toList.drop 94 = dktX6_causes_4 := dk_seg dksX6_causes_3 22 rfl rfl
theorem dksX6_causes_5 : cX6_causes.data.toList.drop 118 = dktX6_causes_5 := dk_seg dksX6_causes_4 24 rfl rfl
theorem dksX6_causes_6 : cX6_causes.data.toList.drop 141 = dktX6_causes_6 := dk_seg dksX6_causes_5 23 rfl rfl
theorem dksX6_causes_7 : cX6_causes.data.toList.drop 165 = dktX6_causes_7 := dk_seg dksX6_causes_6 24 rfl rfl
theorem dksX6_causes_8 : cX6_causes.data.toList.drop 188 = dktX6_causes_8 := dk_seg dksX6_causes_7 23 rfl rfl
theorem dksX6_causes_9 : cX6_causes.data.toList.drop 211 = dktX6_causes_9 := dk_seg dksX6_causes_8 23 rfl rfl
theorem dX6_causes_0 : decode cX6_causes 0 = .ok (.aload_n 0, 1) := dk_42 (dk_at dksX6_causes_0 0 rfl rfl)
theorem dX6_causes_1 : decode cX6_causes 1 = .ok (.getfield 211, 3) := dk_180 0 211 (dk_at dksX6_causes_0 1 rfl rfl)
theorem dX6_causes_4 : decode cX6_causes 4 = .ok (.iload_n 1, 1) := dk_27 (dk_at dksX6_causes_0 4 rfl rfl)
theorem dX6_causes_5 : decode cX6_causes 5 = .ok (.aload_n 0, 1) := dk_42 (dk_at dksX6_causes_0 5 rfl rfl)
theorem dX6_causes_6 : decode cX6_causes 6 = .ok (.getfield 218, 3) := dk_180 0 218 (dk_at dksX6_causes_0 6 rfl rfl)
theorem dX6_causes_9 : decode cX6_causes 9 = .ok (.iastore, 1) := dk_79 (dk_at dksX6_causes_0 9 rfl rfl)
theorem dX6_causes_10 : decode cX6_causes 10 = .ok (.aload_n 0, 1) := dk_42 (dk_at dksX6_causes_0 10 rfl rfl)
theorem dX6_causes_11 : decode cX6_causes 11 = .ok (.getfield 205, 3) := dk_180 0 205 (dk_at dksX6_causes_0 11 rfl rfl)
theorem dX6_causes_14 : decode cX6_causes 14 = .ok (.iload_n 1, 1) := dk_27 (dk_at dksX6_causes_0 14 rfl rfl)
theorem dX6_causes_15 : decode cX6_causes 15 = .ok (.iaload, 1) := dk_46 (dk_at dksX6_causes_0 15 rfl rfl)
theorem dX6_causes_16 : decode cX6_causes 16 = .ok (.istore_n 2, 1) := dk_61 (dk_at dksX6_causes_0 16 rfl rfl)
theorem dX6_causes_17 : decode cX6_causes 17 = .ok (.aload_n 0, 1) := dk_42 (dk_at dksX6_causes_0 17 rfl rfl)
theorem dX6_causes_18 : decode cX6_causes 18 = .ok (.getfield 184, 3) := dk_180 0 184 (dk_at dksX6_causes_0 18 rfl rfl)
theorem dX6_causes_21 : decode cX6_causes 21 = .ok (.iload_n 2, 1) := dk_28 (dk_at dksX6_causes_0 21 rfl rfl)
theorem dX6_causes_22 : decode cX6_causes 22 = .ok (.iaload, 1) := dk_46 (dk_at dksX6_causes_0 22 rfl rfl)
theorem dX6_causes_23 : decode cX6_causes 23 = .ok (.istore_n 3, 1) := dk_62 (dk_at dksX6_causes_0 23 rfl rfl)
theorem dX6_causes_24 : decode cX6_causes 24 = .ok (.aload_n 0, 1) := dk_42 (dk_at dksX6_causes_1 0 rfl rfl)
theorem dX6_causes_25 : decode cX6_causes 25 = .ok (.getfield 208, 3) := dk_180 0 208 (dk_at dksX6_causes_1 1 rfl rfl)
theorem dX6_causes_28 : decode cX6_causes 28 = .ok (.iload_n 1, 1) := dk_27 (dk_at dksX6_causes_1 4 rfl rfl)
theorem dX6_causes_29 : decode cX6_causes 29 = .ok (.iaload, 1) := dk_46 (dk_at dksX6_causes_1 5 rfl rfl)
theorem dX6_causes_30 : decode cX6_causes 30 = .ok (.istore 4, 2) := dk_54 4 (dk_at dksX6_causes_1 6 rfl rfl)
theorem dX6_causes_32 : decode cX6_causes 32 = .ok (.aload_n 0, 1) := dk_42 (dk_at dksX6_causes_1 8 rfl rfl)
theorem dX6_causes_33 : decode cX6_causes 33 = .ok (.iload_n 2, 1) := dk_28 (dk_at dksX6_causes_1 9 rfl rfl)
theorem dX6_causes_34 : decode cX6_causes 34 = .ok (.aload_n 0, 1) := dk_42 (dk_at dksX6_causes_1 10 rfl rfl)
theorem dX6_causes_35 : decode cX6_causes 35 = .ok (.getfield 80, 3) := dk_180 0 80 (dk_at dksX6_causes_1 11 rfl rfl)
theorem dX6_causes_38 : decode cX6_causes 38 = .ok (.aload_n 0, 1) := dk_42 (dk_at dksX6_causes_1 14 rfl rfl)
theorem dX6_causes_39 : decode cX6_causes 39 = .ok (.getfield 50, 3) := dk_180 0 50 (dk_at dksX6_causes_1 15 rfl rfl)
theorem dX6_causes_42 : decode cX6_causes 42 = .ok (.iload_n 3, 1) := dk_29 (dk_at dksX6_causes_1 18 rfl rfl)
theorem dX6_causes_43 : decode cX6_causes 43 = .ok (.iaload, 1) := dk_46 (dk_at dksX6_causes_1 19 rfl rfl)
theorem dX6_causes_44 : decode cX6_causes 44 = .ok (.iload 4, 2) := dk_21 4 (dk_at dksX6_causes_1 20 rfl rfl)
theorem dX6_causes_46 : decode cX6_causes 46 = .ok (.iadd, 1) := dk_96 (dk_at dksX6_causes_1 22 rfl rfl)
theorem dX6_causes_47 : decode cX6_causes 47 = .ok (.iaload, 1) := dk_46 (dk_at dksX6_causes_1 23 rfl rfl)
theorem dX6_causes_48 : decode cX6_causes 48 = .ok (.invokevirtual 486, 3) := dk_182 1 230 (dk_at dksX6_causes_2 0 rfl rfl)
theorem dX6_causes_51 : decode cX6_causes 51 = .ok (.istore 5, 2) := dk_54 5 (dk_at dksX6_causes_2 3 rfl rfl)
theorem dX6_causes_53 : decode cX6_causes 53 = .ok (.iload 5, 2) := dk_21 5 (dk_at dksX6_causes_2 5 rfl rfl)
theorem dX6_causes_55 : decode cX6_causes 55 = .ok (.ifCond .lt 9, 3) := dk_155 0 9 (dk_at dksX6_causes_2 7 rfl rfl)
theorem dX6_causes_58 : decode cX6_causes 58 = .ok (.aload_n 0, 1) := dk_42 (dk_at dksX6_causes_2 10 rfl rfl)
theorem dX6_causes_59 : decode cX6_causes 59 = .ok (.iload 5, 2) := dk_21 5 (dk_at dksX6_causes_2 11 rfl rfl)
theorem dX6_causes_61 : decode cX6_causes 61 = .ok (.invokevirtual 480, 3) := dk_182 1 224 (dk_at dksX6_causes_2 13 rfl rfl)
theorem dX6_causes_64 : decode cX6_causes 64 = .ok (.iload 4, 2) := dk_21 4 (dk_at dksX6_causes_2 16 rfl rfl)
theorem dX6_causes_66 : decode cX6_causes 66 = .ok (.aload_n 0, 1) := dk_42 (dk_at dksX6_causes_2 18 rfl rfl)
theorem dX6_causes_67 : decode cX6_causes 67 = .ok (.getfield 53, 3) := dk_180 0 53 (dk_at dksX6_causes_2 19 rfl rfl)
theorem dX6_causes_70 : decode cX6_causes 70 = .ok (.iload_n 3, 1) := dk_29 (dk_at dksX6_causes_2 22 rfl rfl)
theorem dX6_causes_71 : decode cX6_causes 71 = .ok (.iaload, 1) := dk_46 (dk_at dksX6_causes_2 23 rfl rfl)
theorem dX6_causes_72 : decode cX6_causes 72 = .ok (.if_icmp .ge 68, 3) := dk_162 0 68 (dk_at dksX6_causes_3 0 rfl rfl)
theorem dX6_causes_75 : decode cX6_causes 75 = .ok (.aload_n 0, 1) := dk_42 (dk_at dksX6_causes_3 3 rfl rfl)
theorem dX6_causes_76 : decode cX6_causes 76 = .ok (.getfield 187, 3) := dk_180 0 187 (dk_at dksX6_causes_3 4 rfl rfl)
theorem dX6_causes_79 : decode cX6_causes 79 = .ok (.iload_n 2, 1) := dk_28 (dk_at dksX6_causes_3 7 rfl rfl)
theorem dX6_causes_80 : decode cX6_causes 80 = .ok (.iaload, 1) := dk_46 (dk_at dksX6_causes_3 8 rfl rfl)
theorem dX6_causes_81 : decode cX6_causes 81 = .ok (.ifCond .ge 4, 3) := dk_156 0 4 (dk_at dksX6_causes_3 9 rfl rfl)
theorem dX6_causes_84 : decode cX6_causes 84 = .ok (.return_, 1) := dk_177 (dk_at dksX6_causes_3 12 rfl rfl)
theorem dX6_causes_85 : decode cX6_causes 85 = .ok (.aload_n 0, 1) := dk_42 (dk_at dksX6_causes_3 13 rfl rfl)
theorem dX6_causes_86 : decode cX6_causes 86 = .ok (.aload_n 0, 1) := dk_42 (dk_at dksX6_causes_3 14 rfl rfl)
theorem dX6_causes_87 : decode cX6_causes 87 = .ok (.getfield 190, 3) := dk_180 0 190 (dk_at dksX6_causes_3 15 rfl rfl)
theorem dX6_causes_90 : decode cX6_causes 90 = .ok (.iload_n 2, 1) := dk_28 (dk_at dksX6_causes_3 18 rfl rfl)
theorem dX6_causes_91 : decode cX6_causes 91 = .ok (.iaload, 1) := dk_46 (dk_at dksX6_causes_3 19 rfl rfl)
theorem dX6_causes_92 : decode cX6_causes 92 = .ok (.iload 4, 2) := dk_21 4 (dk_at dksX6_causes_3 20 rfl rfl)
theorem dX6_causes_94 : decode cX6_causes 94 = .ok (.invokevirtual 489, 3) := dk_182 1 233 (dk_at dksX6_causes_4 0 rfl rfl)
theorem dX6_causes_97 : decode cX6_causes 97 = .ok (.istore 6, 2) := dk_54 6 (dk_at dksX6_causes_4 3 rfl rfl)
theorem dX6_causes_99 : decode cX6_causes 99 = .ok (.aload_n 0, 1) := dk_42 (dk_at dksX6_causes_4 5 rfl rfl)
theorem dX6_causes_100 : decode cX6_causes 100 = .ok (.aload_n 0, 1) := dk_42 (dk_at dksX6_causes_4 6 rfl rfl)
theorem dX6_causes_101 : decode cX6_causes 101 = .ok (.getfield 187, 3) := dk_180 0 187 (dk_at dksX6_causes_4 7 rfl rfl)
theorem dX6_causes_104 : decode cX6_causes 104 = .ok (.iload_n 2, 1) := dk_28 (dk_at dksX6_causes_4 10 rfl rfl)
theorem dX6_causes_105 : decode cX6_causes 105 = .ok (.iaload, 1) := dk_46 (dk_at dksX6_causes_4 11 rfl rfl)
theorem dX6_causes_106 : decode cX6_causes 106 = .ok (.iload 6, 2) := dk_21 6 (dk_at dksX6_causes_4 12 rfl rfl)
theorem dX6_causes_108 : decode cX6_causes 108 = .ok (.invokevirtual 492, 3) := dk_182 1 236 (dk_at dksX6_causes_4 14 rfl rfl)
theorem dX6_causes_111 : decode cX6_causes 111 = .ok (.aload_n 0, 1) := dk_42 (dk_at dksX6_causes_4 17 rfl rfl)
theorem dX6_causes_112 : decode cX6_causes 112 = .ok (.getfield 112, 3) := dk_180 0 112 (dk_at dksX6_causes_4 18 rfl rfl)
theorem dX6_causes_115 : decode cX6_causes 115 = .ok (.iload 6, 2) := dk_21 6 (dk_at dksX6_causes_4 21 rfl rfl)
theorem dX6_causes_117 : decode cX6_causes 117 = .ok (.iaload, 1) := dk_46 (dk_at dksX6_causes_4 23 rfl rfl)
theorem dX6_causes_118 : decode cX6_causes 118 = .ok (.iconst 3, 1) := dk_6 (dk_at dksX6_causes_5 0 rfl rfl)
theorem dX6_causes_119 : decode cX6_causes 119 = .ok (.if_icmp .ne 20, 3) := dk_160 0 20 (dk_at dksX6_causes_5 1 rfl rfl)
theorem dX6_causes_122 : decode cX6_causes 122 = .ok (.aload_n 0, 1) := dk_42 (dk_at dksX6_causes_5 4 rfl rfl)
theorem dX6_causes_123 : decode cX6_causes 123 = .ok (.aload_n 0, 1) := dk_42 (dk_at dksX6_causes_5 5 rfl rfl)
theorem dX6_causes_124 : decode cX6_causes 124 = .ok (.aload_n 0, 1) := dk_42 (dk_at dksX6_causes_5 6 rfl rfl)
theorem dX6_causes_125 : decode cX6_causes 125 = .ok (.getfield 187, 3) := dk_180 0 187 (dk_at dksX6_causes_5 7 rfl rfl)
theorem dX6_causes_128 : decode cX6_causes 128 = .ok (.iload_n 2, 1) := dk_28 (dk_at dksX6_causes_5 10 rfl rfl)
theorem dX6_causes_129 : decode cX6_causes 129 = .ok (.iaload, 1) := dk_46 (dk_at dksX6_causes_5 11 rfl rfl)
theorem dX6_causes_130 : decode cX6_causes 130 = .ok (.iload 6, 2) := dk_21 6 (dk_at dksX6_causes_5 12 rfl rfl)
theorem dX6_causes_132 : decode cX6_causes 132 = .ok (.iconst 0, 1) := dk_3 (dk_at dksX6_causes_5 14 rfl rfl)
theorem dX6_causes_133 : decode cX6_causes 133 = .ok (.invokevirtual 483, 3) := dk_182 1 227 (dk_at dksX6_causes_5 15 rfl rfl)
theorem dX6_causes_136 : decode cX6_causes 136 = .ok (.invokevirtual 480, 3) := dk_182 1 224 (dk_at dksX6_causes_5 18 rfl rfl)
theorem dX6_causes_139 : decode cX6_causes 139 = .ok (.return_, 1) := dk_177 (dk_at dksX6_causes_5 21 rfl rfl)
theorem dX6_causes_140 : decode cX6_causes 140 = .ok (.aload_n 0, 1) := dk_42 (dk_at dksX6_causes_5 22 rfl rfl)
theorem dX6_causes_141 : decode cX6_causes 141 = .ok (.getfield 154, 3) := dk_180 0 154 (dk_at dksX6_causes_6 0 rfl rfl)
theorem dX6_causes_144 : decode cX6_causes 144 = .ok (.aload_n 0, 1) := dk_42 (dk_at dksX6_causes_6 3 rfl rfl)
theorem dX6_causes_145 : decode cX6_causes 145 = .ok (.getfield 50, 3) := dk_180 0 50 (dk_at dksX6_causes_6 4 rfl rfl)
theorem dX6_causes_148 : decode cX6_causes 148 = .ok (.iload_n 3, 1) := dk_29 (dk_at dksX6_causes_6 7 rfl rfl)
theorem dX6_causes_149 : decode cX6_causes 149 = .ok (.iaload, 1) := dk_46 (dk_at dksX6_causes_6 8 rfl rfl)
theorem dX6_causes_150 : decode cX6_causes 150 = .ok (.iload 4, 2) := dk_21 4 (dk_at dksX6_causes_6 9 rfl rfl)
theorem dX6_causes_152 : decode cX6_causes 152 = .ok (.iadd, 1) := dk_96 (dk_at dksX6_causes_6 11 rfl rfl)
theorem dX6_causes_153 : decode cX6_causes 153 = .ok (.iaload, 1) := dk_46 (dk_at dksX6_causes_6 12 rfl rfl)
theorem dX6_causes_154 : decode cX6_causes 154 = .ok (.istore 6, 2) := dk_54 6 (dk_at dksX6_causes_6 13 rfl rfl)
theorem dX6_causes_156 : decode cX6_causes 156 = .ok (.aload_n 0, 1) := dk_42 (dk_at dksX6_causes_6 15 rfl rfl)
theorem dX6_causes_157 : decode cX6_causes 157 = .ok (.iload_n 2, 1) := dk_28 (dk_at dksX6_causes_6 16 rfl rfl)
theorem dX6_causes_158 : decode cX6_causes 158 = .ok (.aload_n 0, 1) := dk_42 (dk_at dksX6_causes_6 17 rfl rfl)
theorem dX6_causes_159 : decode cX6_causes 159 = .ok (.getfield 96, 3) := dk_180 0 96 (dk_at dksX6_causes_6 18 rfl rfl)
theorem dX6_causes_162 : decode cX6_causes 162 = .ok (.iload 6, 2) := dk_21 6 (dk_at dksX6_causes_6 21 rfl rfl)
theorem dX6_causes_164 : decode cX6_causes 164 = .ok (.iaload, 1) := dk_46 (dk_at dksX6_causes_6 23 rfl rfl)
theorem dX6_causes_165 : decode cX6_causes 165 = .ok (.invokevirtual 492, 3) := dk_182 1 236 (dk_at dksX6_causes_7 0 rfl rfl)
theorem dX6_causes_168 : decode cX6_causes 168 = .ok (.aload_n 0, 1) := dk_42 (dk_at dksX6_causes_7 3 rfl rfl)
theorem dX6_causes_169 : decode cX6_causes 169 = .ok (.getfield 112, 3) := dk_180 0 112 (dk_at dksX6_causes_7 4 rfl rfl)
theorem dX6_causes_172 : decode cX6_causes 172 = .ok (.aload_n 0, 1) := dk_42 (dk_at dksX6_causes_7 7 rfl rfl)
theorem dX6_causes_173 : decode cX6_causes 173 = .ok (.getfield 96, 3) := dk_180 0 96 (dk_at dksX6_causes_7 8 rfl rfl)
theorem dX6_causes_176 : decode cX6_causes 176 = .ok (.iload 6, 2) := dk_21 6 (dk_at dksX6_causes_7 11 rfl rfl)
theorem dX6_causes_178 : decode cX6_causes 178 = .ok (.iaload, 1) := dk_46 (dk_at dksX6_causes_7 13 rfl rfl)
theorem dX6_causes_179 : decode cX6_causes 179 = .ok (.iaload, 1) := dk_46 (dk_at dksX6_causes_7 14 rfl rfl)
theorem dX6_causes_180 : decode cX6_causes 180 = .ok (.iconst 3, 1) := dk_6 (dk_at dksX6_causes_7 15 rfl rfl)
theorem dX6_causes_181 : decode cX6_causes 181 = .ok (.if_icmp .ne 33, 3) := dk_160 0 33 (dk_at dksX6_causes_7 16 rfl rfl)
theorem dX6_causes_184 : decode cX6_causes 184 = .ok (.aload_n 0, 1) := dk_42 (dk_at dksX6_causes_7 19 rfl rfl)
theorem dX6_causes_185 : decode cX6_causes 185 = .ok (.aload_n 0, 1) := dk_42 (dk_at dksX6_causes_7 20 rfl rfl)
theorem dX6_causes_186 : decode cX6_causes 186 = .ok (.iload_n 2, 1) := dk_28 (dk_at dksX6_causes_7 21 rfl rfl)
theorem dX6_causes_187 : decode cX6_causes 187 = .ok (.aload_n 0, 1) := dk_42 (dk_at dksX6_causes_7 22 rfl rfl)
theorem dX6_causes_188 : decode cX6_causes 188 = .ok (.getfield 96, 3) := dk_180 0 96 (dk_at dksX6_causes_8 0 rfl rfl)
theorem dX6_causes_191 : decode cX6_causes 191 = .ok (.iload 6, 2) := dk_21 6 (dk_at dksX6_causes_8 3 rfl rfl)
theorem dX6_causes_193 : decode cX6_causes 193 = .ok (.iaload, 1) := dk_46 (dk_at dksX6_causes_8 5 rfl rfl)
theorem dX6_causes_194 : decode cX6_causes 194 = .ok (.aload_n 0, 1) := dk_42 (dk_at dksX6_causes_8 6 rfl rfl)
theorem dX6_causes_195 : decode cX6_causes 195 = .ok (.getfield 157, 3) := dk_180 0 157 (dk_at dksX6_causes_8 7 rfl rfl)
theorem dX6_causes_198 : decode cX6_causes 198 = .ok (.aload_n 0, 1) := dk_42 (dk_at dksX6_causes_8 10 rfl rfl)
theorem dX6_causes_199 : decode cX6_causes 199 = .ok (.getfield 50, 3) := dk_180 0 50 (dk_at dksX6_causes_8 11 rfl rfl)
theorem dX6_causes_202 : decode cX6_causes 202 = .ok (.iload_n 3, 1) := dk_29 (dk_at dksX6_causes_8 14 rfl rfl)
theorem dX6_causes_203 : decode cX6_causes 203 = .ok (.iaload, 1) := dk_46 (dk_at dksX6_causes_8 15 rfl rfl)
theorem dX6_causes_204 : decode cX6_causes 204 = .ok (.iload 4, 2) := dk_21 4 (dk_at dksX6_causes_8 16 rfl rfl)
theorem dX6_causes_206 : decode cX6_causes 206 = .ok (.iadd, 1) := dk_96 (dk_at dksX6_causes_8 18 rfl rfl)
theorem dX6_causes_207 : decode cX6_causes 207 = .ok (.iaload, 1) := dk_46 (dk_at dksX6_causes_8 19 rfl rfl)
theorem dX6_causes_208 : decode cX6_causes 208 = .ok (.invokevirtual 483, 3) := dk_182 1 227 (dk_at dksX6_causes_8 20 rfl rfl)
theorem dX6_causes_211 : decode cX6_causes 211 = .ok (.invokevirtual 480, 3) := dk_182 1 224 (dk_at dksX6_causes_9 0 rfl rfl)
theorem dX6_causes_214 : decode cX6_causes 214 = .ok (.return_, 1) := dk_177 (dk_at dksX6_causes_9 3 rfl rfl)
abbrev cX6_clockVariable : ByteArray := prog_26_method_53_code
def yX6_clockVariable : MethodName := ⟨RX6, "clockVariable", "(II)I"⟩
def dkwX6_clockVariable_2 : List UInt8 := [160, 0, 7, 2, 167, 0, 14, 42, 180, 0, 193, 29, 46, 21, 4, 5, 108, 96, 172]
abbrev dktX6_clockVariable_2 : List UInt8 := dkwX6_clockVariable_2 ++ []
def dkwX6_clockVariable_1 : List UInt8 := [42, 180, 0, 190, 29, 46, 46, 54, 4, 42, 180, 0, 187, 29, 46, 62, 167, 255, 221, 21, 4, 2]
abbrev dktX6_clockVariable_1 : List UInt8 := dkwX6_clockVariable_1 ++ dktX6_clockVariable_2
def dkwX6_clockVariable_0 : List UInt8 := [27, 62, 28, 54, 4, 21, 4, 2, 160, 0, 35, 42, 180, 0, 187, 29, 46, 155, 0, 26, 42, 180, 0, 145]
abbrev dktX6_clockVariable_0 : List UInt8 := dkwX6_clockVariable_0 ++ dktX6_clockVariable_1
theorem dksX6_clockVariable_0 : cX6_clockVariable.data.toList.drop 0 = dktX6_clockVariable_0 := by decide +kernel
theorem dksX6_clockVariable_1 : cX6_clockVariable.data.toList.drop 24 = dktX6_clockVariable_1 := dk_seg dksX6_clockVariable_0 24 rfl rfl
theorem dksX6_clockVariable_2 : cX6_clockVariable.data.toList.drop 46 = dktX6_clockVariable_2 := dk_seg dksX6_clockVariable_1 22 rfl rfl
theorem dX6_clockVariable_0 : decode cX6_clockVariable 0 = .ok (.iload_n 1, 1) := dk_27 (dk_at dksX6_clockVariable_0 0 rfl rfl)
theorem dX6_clockVariable_1 : decode cX6_clockVariable 1 = .ok (.istore_n 3, 1) := dk_62 (dk_at dksX6_clockVariable_0 1 rfl rfl)
theorem dX6_clockVariable_2 : decode cX6_clockVariable 2 = .ok (.iload_n 2, 1) := dk_28 (dk_at dksX6_clockVariable_0 2 rfl rfl)
theorem dX6_clockVariable_3 : decode cX6_clockVariable 3 = .ok (.istore 4, 2) := dk_54 4 (dk_at dksX6_clockVariable_0 3 rfl rfl)
theorem dX6_clockVariable_5 : decode cX6_clockVariable 5 = .ok (.iload 4, 2) := dk_21 4 (dk_at dksX6_clockVariable_0 5 rfl rfl)
theorem dX6_clockVariable_7 : decode cX6_clockVariable 7 = .ok (.iconst (-1), 1) := dk_2 (dk_at dksX6_clockVariable_0 7 rfl rfl)
theorem dX6_clockVariable_8 : decode cX6_clockVariable 8 = .ok (.if_icmp .ne 35, 3) := dk_160 0 35 (dk_at dksX6_clockVariable_0 8 rfl rfl)
theorem dX6_clockVariable_11 : decode cX6_clockVariable 11 = .ok (.aload_n 0, 1) := dk_42 (dk_at dksX6_clockVariable_0 11 rfl rfl)
theorem dX6_clockVariable_12 : decode cX6_clockVariable 12 = .ok (.getfield 187, 3) := dk_180 0 187 (dk_at dksX6_clockVariable_0 12 rfl rfl)
theorem dX6_clockVariable_15 : decode cX6_clockVariable 15 = .ok (.iload_n 3, 1) := dk_29 (dk_at dksX6_clockVariable_0 15 rfl rfl)
theorem dX6_clockVariable_16 : decode cX6_clockVariable 16 = .ok (.iaload, 1) := dk_46 (dk_at dksX6_clockVariable_0 16 rfl rfl)
theorem dX6_clockVariable_17 : decode cX6_clockVariable 17 = .ok (.ifCond .lt 26, 3) := dk_155 0 26 (dk_at dksX6_clockVariable_0 17 rfl rfl)
theorem dX6_clockVariable_20 : decode cX6_clockVariable 20 = .ok (.aload_n 0, 1) := dk_42 (dk_at dksX6_clockVariable_0 20 rfl rfl)
theorem dX6_clockVariable_21 : decode cX6_clockVariable 21 = .ok (.getfield 145, 3) := dk_180 0 145 (dk_at dksX6_clockVariable_0 21 rfl rfl)
theorem dX6_clockVariable_24 : decode cX6_clockVariable 24 = .ok (.aload_n 0, 1) := dk_42 (dk_at dksX6_clockVariable_1 0 rfl rfl)
theorem dX6_clockVariable_25 : decode cX6_clockVariable 25 = .ok (.getfield 190, 3) := dk_180 0 190 (dk_at dksX6_clockVariable_1 1 rfl rfl)
theorem dX6_clockVariable_28 : decode cX6_clockVariable 28 = .ok (.iload_n 3, 1) := dk_29 (dk_at dksX6_clockVariable_1 4 rfl rfl)
theorem dX6_clockVariable_29 : decode cX6_clockVariable 29 = .ok (.iaload, 1) := dk_46 (dk_at dksX6_clockVariable_1 5 rfl rfl)
theorem dX6_clockVariable_30 : decode cX6_clockVariable 30 = .ok (.iaload, 1) := dk_46 (dk_at dksX6_clockVariable_1 6 rfl rfl)
theorem dX6_clockVariable_31 : decode cX6_clockVariable 31 = .ok (.istore 4, 2) := dk_54 4 (dk_at dksX6_clockVariable_1 7 rfl rfl)
theorem dX6_clockVariable_33 : decode cX6_clockVariable 33 = .ok (.aload_n 0, 1) := dk_42 (dk_at dksX6_clockVariable_1 9 rfl rfl)
theorem dX6_clockVariable_34 : decode cX6_clockVariable 34 = .ok (.getfield 187, 3) := dk_180 0 187 (dk_at dksX6_clockVariable_1 10 rfl rfl)
theorem dX6_clockVariable_37 : decode cX6_clockVariable 37 = .ok (.iload_n 3, 1) := dk_29 (dk_at dksX6_clockVariable_1 13 rfl rfl)
theorem dX6_clockVariable_38 : decode cX6_clockVariable 38 = .ok (.iaload, 1) := dk_46 (dk_at dksX6_clockVariable_1 14 rfl rfl)
theorem dX6_clockVariable_39 : decode cX6_clockVariable 39 = .ok (.istore_n 3, 1) := dk_62 (dk_at dksX6_clockVariable_1 15 rfl rfl)
theorem dX6_clockVariable_40 : decode cX6_clockVariable 40 = .ok (.goto (-35), 3) := dk_167 255 221 (dk_at dksX6_clockVariable_1 16 rfl rfl)
theorem dX6_clockVariable_43 : decode cX6_clockVariable 43 = .ok (.iload 4, 2) := dk_21 4 (dk_at dksX6_clockVariable_1 19 rfl rfl)
theorem dX6_clockVariable_45 : decode cX6_clockVariable 45 = .ok (.iconst (-1), 1) := dk_2 (dk_at dksX6_clockVariable_1 21 rfl rfl)
theorem dX6_clockVariable_46 : decode cX6_clockVariable 46 = .ok (.if_icmp .ne 7, 3) := dk_160 0 7 (dk_at dksX6_clockVariable_2 0 rfl rfl)
theorem dX6_clockVariable_49 : decode cX6_clockVariable 49 = .ok (.iconst (-1), 1) := dk_2 (dk_at dksX6_clockVariable_2 3 rfl rfl)
theorem dX6_clockVariable_50 : decode cX6_clockVariable 50 = .ok (.goto 14, 3) := dk_167 0 14 (dk_at dksX6_clockVariable_2 4 rfl rfl)
theorem dX6_clockVariable_53 : decode cX6_clockVariable 53 = .ok (.aload_n 0, 1) := dk_42 (dk_at dksX6_clockVariable_2 7 rfl rfl)
theorem dX6_clockVariable_54 : decode cX6_clockVariable 54 = .ok (.getfield 193, 3) := dk_180 0 193 (dk_at dksX6_clockVariable_2 8 rfl rfl)
theorem dX6_clockVariable_57 : decode cX6_clockVariable 57 = .ok (.iload_n 3, 1) := dk_29 (dk_at dksX6_clockVariable_2 11 rfl rfl)
theorem dX6_clockVariable_58 : decode cX6_clockVariable 58 = .ok (.iaload, 1) := dk_46 (dk_at dksX6_clockVariable_2 12 rfl rfl)
theorem dX6_clockVariable_59 : decode cX6_clockVariable 59 = .ok (.iload 4, 2) := dk_21 4 (dk_at dksX6_clockVariable_2 13 rfl rfl)
theorem dX6_clockVariable_61 : decode cX6_clockVariable 61 = .ok (.iconst 2, 1) := dk_5 (dk_at dksX6_clockVariable_2 15 rfl rfl)
theorem dX6_clockVariable_62 : decode cX6_clockVariable 62 = .ok (.idiv, 1) := dk_108 (dk_at dksX6_clockVariable_2 16 rfl rfl)
theorem dX6_clockVariable_63 : decode cX6_clockVariable 63 = .ok (.iadd, 1) := dk_96 (dk_at dksX6_clockVariable_2 17 rfl rfl)
theorem dX6_clockVariable_64 : decode cX6_clockVariable 64 = .ok (.ireturn, 1) := dk_172 (dk_at dksX6_clockVariable_2 18 rfl rfl)
abbrev cX6_cause : ByteArray := prog_26_method_52_code
def yX6_cause : MethodName := ⟨RX6, "cause", "(I)V"⟩
def dkwX6_cause_1 : List UInt8 := [181, 0, 218, 27, 79, 177]
abbrev dktX6_cause_1 : List UInt8 := dkwX6_cause_1 ++ []
def dkwX6_cause_0 : List UInt8 := [42, 180, 0, 218, 42, 180, 0, 215, 190, 162, 0, 20, 42, 180, 0, 215, 42, 89, 180, 0, 218, 90, 4, 96]
abbrev dktX6_cause_0 : List UInt8 := dkwX6_cause_0 ++ dktX6_cause_1
theorem dksX6_cause_0 : cX6_cause.data.toList.drop 0 = dktX6_cause_0 := by decide +kernel
theorem dksX6_cause_1 : cX6_cause.data.toList.drop 24 = dktX6_cause_1 := dk_seg dksX6_cause_0 24 rfl rfl
theorem dX6_cause_0 : decode cX6_cause 0 = .ok (.aload_n 0, 1) := dk_42 (dk_at dksX6_cause_0 0 rfl rfl)
theorem dX6_cause_1 : decode cX6_cause 1 = .ok (.getfield 218, 3) := dk_180 0 218 (dk_at dksX6_cause_0 1 rfl rfl)
theorem dX6_cause_4 : decode cX6_cause 4 = .ok (.aload_n 0, 1) := dk_42 (dk_at dksX6_cause_0 4 rfl rfl)
theorem dX6_cause_5 : decode cX6_cause 5 = .ok (.getfield 215, 3) := dk_180 0 215 (dk_at dksX6_cause_0 5 rfl rfl)
theorem dX6_cause_8 : decode cX6_cause 8 = .ok (.arraylength, 1) := dk_190 (dk_at dksX6_cause_0 8 rfl rfl)
theorem dX6_cause_9 : decode cX6_cause 9 = .ok (.if_icmp .ge 20, 3) := dk_162 0 20 (dk_at dksX6_cause_0 9 rfl rfl)
theorem dX6_cause_12 : decode cX6_cause 12 = .ok (.aload_n 0, 1) := dk_42 (dk_at dksX6_cause_0 12 rfl rfl)
theorem dX6_cause_13 : decode cX6_cause 13 = .ok (.getfield 215, 3) := dk_180 0 215 (dk_at dksX6_cause_0 13 rfl rfl)
theorem dX6_cause_16 : decode cX6_cause 16 = .ok (.aload_n 0, 1) := dk_42 (dk_at dksX6_cause_0 16 rfl rfl)
theorem dX6_cause_17 : decode cX6_cause 17 = .ok (.dup, 1) := dk_89 (dk_at dksX6_cause_0 17 rfl rfl)
theorem dX6_cause_18 : decode cX6_cause 18 = .ok (.getfield 218, 3) := dk_180 0 218 (dk_at dksX6_cause_0 18 rfl rfl)
theorem dX6_cause_21 : decode cX6_cause 21 = .ok (.dup_x1, 1) := dk_90 (dk_at dksX6_cause_0 21 rfl rfl)
theorem dX6_cause_22 : decode cX6_cause 22 = .ok (.iconst 1, 1) := dk_4 (dk_at dksX6_cause_0 22 rfl rfl)
theorem dX6_cause_23 : decode cX6_cause 23 = .ok (.iadd, 1) := dk_96 (dk_at dksX6_cause_0 23 rfl rfl)
theorem dX6_cause_24 : decode cX6_cause 24 = .ok (.putfield 218, 3) := dk_181 0 218 (dk_at dksX6_cause_1 0 rfl rfl)
theorem dX6_cause_27 : decode cX6_cause 27 = .ok (.iload_n 1, 1) := dk_27 (dk_at dksX6_cause_1 3 rfl rfl)
theorem dX6_cause_28 : decode cX6_cause 28 = .ok (.iastore, 1) := dk_79 (dk_at dksX6_cause_1 4 rfl rfl)
theorem dX6_cause_29 : decode cX6_cause 29 = .ok (.return_, 1) := dk_177 (dk_at dksX6_cause_1 5 rfl rfl)
abbrev cX6_argument : ByteArray := prog_26_method_56_code
def yX6_argument : MethodName := ⟨RX6, "argument", "(II)I"⟩
def dkwX6_argument_1 : List UInt8 := [132, 4, 1, 167, 255, 240, 29, 172]
abbrev dktX6_argument_1 : List UInt8 := dkwX6_argument_1 ++ []
def dkwX6_argument_0 : List UInt8 := [42, 180, 0, 118, 27, 46, 62, 3, 54, 4, 21, 4, 28, 162, 0, 16, 42, 180, 0, 121, 29, 46, 62]
abbrev dktX6_argument_0 : List UInt8 := dkwX6_argument_0 ++ dktX6_argument_1
theorem dksX6_argument_0 : cX6_argument.data.toList.drop 0 = dktX6_argument_0 := by decide +kernel
theorem dksX6_argument_1 : cX6_argument.data.toList.drop 23 = dktX6_argument_1 := dk_seg dksX6_argument_0 23 rfl rfl
theorem dX6_argument_0 : decode cX6_argument 0 = .ok (.aload_n 0, 1) := dk_42 (dk_at dksX6_argument_0 0 rfl rfl)
theorem dX6_argument_1 : decode cX6_argument 1 = .ok (.getfield 118, 3) := dk_180 0 118 (dk_at dksX6_argument_0 1 rfl rfl)
theorem dX6_argument_4 : decode cX6_argument 4 = .ok (.iload_n 1, 1) := dk_27 (dk_at dksX6_argument_0 4 rfl rfl)
theorem dX6_argument_5 : decode cX6_argument 5 = .ok (.iaload, 1) := dk_46 (dk_at dksX6_argument_0 5 rfl rfl)
theorem dX6_argument_6 : decode cX6_argument 6 = .ok (.istore_n 3, 1) := dk_62 (dk_at dksX6_argument_0 6 rfl rfl)
theorem dX6_argument_7 : decode cX6_argument 7 = .ok (.iconst 0, 1) := dk_3 (dk_at dksX6_argument_0 7 rfl rfl)
theorem dX6_argument_8 : decode cX6_argument 8 = .ok (.istore 4, 2) := dk_54 4 (dk_at dksX6_argument_0 8 rfl rfl)
theorem dX6_argument_10 : decode cX6_argument 10 = .ok (.iload 4, 2) := dk_21 4 (dk_at dksX6_argument_0 10 rfl rfl)
theorem dX6_argument_12 : decode cX6_argument 12 = .ok (.iload_n 2, 1) := dk_28 (dk_at dksX6_argument_0 12 rfl rfl)
theorem dX6_argument_13 : decode cX6_argument 13 = .ok (.if_icmp .ge 16, 3) := dk_162 0 16 (dk_at dksX6_argument_0 13 rfl rfl)
theorem dX6_argument_16 : decode cX6_argument 16 = .ok (.aload_n 0, 1) := dk_42 (dk_at dksX6_argument_0 16 rfl rfl)
theorem dX6_argument_17 : decode cX6_argument 17 = .ok (.getfield 121, 3) := dk_180 0 121 (dk_at dksX6_argument_0 17 rfl rfl)
theorem dX6_argument_20 : decode cX6_argument 20 = .ok (.iload_n 3, 1) := dk_29 (dk_at dksX6_argument_0 20 rfl rfl)
theorem dX6_argument_21 : decode cX6_argument 21 = .ok (.iaload, 1) := dk_46 (dk_at dksX6_argument_0 21 rfl rfl)
theorem dX6_argument_22 : decode cX6_argument 22 = .ok (.istore_n 3, 1) := dk_62 (dk_at dksX6_argument_0 22 rfl rfl)
theorem dX6_argument_23 : decode cX6_argument 23 = .ok (.iinc 4 1, 3) := dk_132 4 1 (dk_at dksX6_argument_1 0 rfl rfl)
theorem dX6_argument_26 : decode cX6_argument 26 = .ok (.goto (-16), 3) := dk_167 255 240 (dk_at dksX6_argument_1 3 rfl rfl)
theorem dX6_argument_29 : decode cX6_argument 29 = .ok (.iload_n 3, 1) := dk_29 (dk_at dksX6_argument_1 6 rfl rfl)
theorem dX6_argument_30 : decode cX6_argument 30 = .ok (.ireturn, 1) := dk_172 (dk_at dksX6_argument_1 7 rfl rfl)
abbrev cX6_partCauses : ByteArray := prog_26_method_54_code
def yX6_partCauses : MethodName := ⟨RX6, "partCauses", "(II)V"⟩
def dkwX6_partCauses_6 : List UInt8 := [182, 1, 224, 132, 3, 1, 167, 255, 117, 177]
abbrev dktX6_partCauses_6 : List UInt8 := dkwX6_partCauses_6 ++ []
def dkwX6_partCauses_5 : List UInt8 := [160, 0, 27, 42, 42, 180, 0, 193, 27, 46, 42, 180, 0, 145, 42, 180, 0, 118, 29, 46, 46, 5, 108, 96]
abbrev dktX6_partCauses_5 : List UInt8 := dkwX6_partCauses_5 ++ dktX6_partCauses_6
def dkwX6_partCauses_4 : List UInt8 := [27, 46, 42, 180, 0, 115, 29, 46, 5, 108, 96, 182, 1, 224, 42, 180, 0, 112, 29, 46, 16, 25]
abbrev dktX6_partCauses_4 : List UInt8 := dkwX6_partCauses_4 ++ dktX6_partCauses_5
def dkwX6_partCauses_3 : List UInt8 := [29, 3, 182, 1, 227, 182, 1, 224, 42, 180, 0, 112, 29, 46, 16, 26, 160, 0, 22, 42, 42, 180, 0, 193]
abbrev dktX6_partCauses_3 : List UInt8 := dkwX6_partCauses_3 ++ dktX6_partCauses_4
def dkwX6_partCauses_2 : List UInt8 := [29, 46, 96, 182, 1, 224, 42, 180, 0, 112, 29, 46, 6, 160, 0, 19, 29, 28, 159, 0, 14, 42, 42, 27]
abbrev dktX6_partCauses_2 : List UInt8 := dkwX6_partCauses_2 ++ dktX6_partCauses_3
def dkwX6_partCauses_1 : List UInt8 := [167, 0, 121, 42, 180, 0, 112, 29, 46, 5, 160, 0, 20, 42, 42, 180, 0, 193, 27, 46, 42, 180, 0, 115]
abbrev dktX6_partCauses_1 : List UInt8 := dkwX6_partCauses_1 ++ dktX6_partCauses_2
def dkwX6_partCauses_0 : List UInt8 := [42, 180, 0, 151, 28, 46, 62, 29, 28, 163, 0, 140, 42, 180, 0, 148, 29, 46, 28, 159, 0, 6]
abbrev dktX6_partCauses_0 : List UInt8 := dkwX6_partCauses_0 ++ dktX6_partCauses_1
theorem dksX6_partCauses_0 : cX6_partCauses.data.toList.drop 0 = dktX6_partCauses_0 := by decide +kernel
theorem dksX6_partCauses_1 : cX6_partCauses.data.toList.drop 22 = dktX6_partCauses_1 := dk_seg dksX6_partCauses_0 22 rfl rfl
theorem dksX6_partCauses_2 : cX6_partCauses.data.toList.drop 46 = dktX6_partCauses_2 := dk_seg dksX6_partCauses_1 24 rfl rfl
theorem dksX6_partCauses_3 : cX6_partCauses.data.toList.drop 70 = dktX6_partCauses_3 := dk_seg dksX6_partCauses_2 24 rfl rfl
theorem dksX6_partCauses_4 : cX6_partCauses.data.toList.drop 94 = dktX6_partCauses_4 := dk_seg dksX6_partCauses_3 24 rfl rfl
theorem dksX6_partCauses_5 : cX6_partCauses.data.toList.drop 116 = dktX6_partCauses_5 := dk_seg dksX6_partCauses_4 22 rfl rfl
theorem dksX6_partCauses_6 : cX6_partCauses.data.toList.drop 140 = dktX6_partCauses_6 := dk_seg dksX6_partCauses_5 24 rfl rfl
theorem dX6_partCauses_0 : decode cX6_partCauses 0 = .ok (.aload_n 0, 1) := dk_42 (dk_at dksX6_partCauses_0 0 rfl rfl)
theorem dX6_partCauses_1 : decode cX6_partCauses 1 = .ok (.getfield 151, 3) := dk_180 0 151 (dk_at dksX6_partCauses_0 1 rfl rfl)
theorem dX6_partCauses_4 : decode cX6_partCauses 4 = .ok (.iload_n 2, 1) := dk_28 (dk_at dksX6_partCauses_0 4 rfl rfl)
theorem dX6_partCauses_5 : decode cX6_partCauses 5 = .ok (.iaload, 1) := dk_46 (dk_at dksX6_partCauses_0 5 rfl rfl)
theorem dX6_partCauses_6 : decode cX6_partCauses 6 = .ok (.istore_n 3, 1) := dk_62 (dk_at dksX6_partCauses_0 6 rfl rfl)
theorem dX6_partCauses_7 : decode cX6_partCauses 7 = .ok (.iload_n 3, 1) := dk_29 (dk_at dksX6_partCauses_0 7 rfl rfl)
theorem dX6_partCauses_8 : decode cX6_partCauses 8 = .ok (.iload_n 2, 1) := dk_28 (dk_at dksX6_partCauses_0 8 rfl rfl)
theorem dX6_partCauses_9 : decode cX6_partCauses 9 = .ok (.if_icmp .gt 140, 3) := dk_163 0 140 (dk_at dksX6_partCauses_0 9 rfl rfl)
theorem dX6_partCauses_12 : decode cX6_partCauses 12 = .ok (.aload_n 0, 1) := dk_42 (dk_at dksX6_partCauses_0 12 rfl rfl)
theorem dX6_partCauses_13 : decode cX6_partCauses 13 = .ok (.getfield 148, 3) := dk_180 0 148 (dk_at dksX6_partCauses_0 13 rfl rfl)
theorem dX6_partCauses_16 : decode cX6_partCauses 16 = .ok (.iload_n 3, 1) := dk_29 (dk_at dksX6_partCauses_0 16 rfl rfl)
theorem dX6_partCauses_17 : decode cX6_partCauses 17 = .ok (.iaload, 1) := dk_46 (dk_at dksX6_partCauses_0 17 rfl rfl)
theorem dX6_partCauses_18 : decode cX6_partCauses 18 = .ok (.iload_n 2, 1) := dk_28 (dk_at dksX6_partCauses_0 18 rfl rfl)
theorem dX6_partCauses_19 : decode cX6_partCauses 19 = .ok (.if_icmp .eq 6, 3) := dk_159 0 6 (dk_at dksX6_partCauses_0 19 rfl rfl)
theorem dX6_partCauses_22 : decode cX6_partCauses 22 = .ok (.goto 121, 3) := dk_167 0 121 (dk_at dksX6_partCauses_1 0 rfl rfl)
theorem dX6_partCauses_25 : decode cX6_partCauses 25 = .ok (.aload_n 0, 1) := dk_42 (dk_at dksX6_partCauses_1 3 rfl rfl)
theorem dX6_partCauses_26 : decode cX6_partCauses 26 = .ok (.getfield 112, 3) := dk_180 0 112 (dk_at dksX6_partCauses_1 4 rfl rfl)
theorem dX6_partCauses_29 : decode cX6_partCauses 29 = .ok (.iload_n 3, 1) := dk_29 (dk_at dksX6_partCauses_1 7 rfl rfl)
theorem dX6_partCauses_30 : decode cX6_partCauses 30 = .ok (.iaload, 1) := dk_46 (dk_at dksX6_partCauses_1 8 rfl rfl)
theorem dX6_partCauses_31 : decode cX6_partCauses 31 = .ok (.iconst 2, 1) := dk_5 (dk_at dksX6_partCauses_1 9 rfl rfl)
theorem dX6_partCauses_32 : decode cX6_partCauses 32 = .ok (.if_icmp .ne 20, 3) := dk_160 0 20 (dk_at dksX6_partCauses_1 10 rfl rfl)
theorem dX6_partCauses_35 : decode cX6_partCauses 35 = .ok (.aload_n 0, 1) := dk_42 (dk_at dksX6_partCauses_1 13 rfl rfl)
theorem dX6_partCauses_36 : decode cX6_partCauses 36 = .ok (.aload_n 0, 1) := dk_42 (dk_at dksX6_partCauses_1 14 rfl rfl)
theorem dX6_partCauses_37 : decode cX6_partCauses 37 = .ok (.getfield 193, 3) := dk_180 0 193 (dk_at dksX6_partCauses_1 15 rfl rfl)
theorem dX6_partCauses_40 : decode cX6_partCauses 40 = .ok (.iload_n 1, 1) := dk_27 (dk_at dksX6_partCauses_1 18 rfl rfl)
theorem dX6_partCauses_41 : decode cX6_partCauses 41 = .ok (.iaload, 1) := dk_46 (dk_at dksX6_partCauses_1 19 rfl rfl)
theorem dX6_partCauses_42 : decode cX6_partCauses 42 = .ok (.aload_n 0, 1) := dk_42 (dk_at dksX6_partCauses_1 20 rfl rfl)
theorem dX6_partCauses_43 : decode cX6_partCauses 43 = .ok (.getfield 115, 3) := dk_180 0 115 (dk_at dksX6_partCauses_1 21 rfl rfl)
theorem dX6_partCauses_46 : decode cX6_partCauses 46 = .ok (.iload_n 3, 1) := dk_29 (dk_at dksX6_partCauses_2 0 rfl rfl)
theorem dX6_partCauses_47 : decode cX6_partCauses 47 = .ok (.iaload, 1) := dk_46 (dk_at dksX6_partCauses_2 1 rfl rfl)
theorem dX6_partCauses_48 : decode cX6_partCauses 48 = .ok (.iadd, 1) := dk_96 (dk_at dksX6_partCauses_2 2 rfl rfl)
theorem dX6_partCauses_49 : decode cX6_partCauses 49 = .ok (.invokevirtual 480, 3) := dk_182 1 224 (dk_at dksX6_partCauses_2 3 rfl rfl)
theorem dX6_partCauses_52 : decode cX6_partCauses 52 = .ok (.aload_n 0, 1) := dk_42 (dk_at dksX6_partCauses_2 6 rfl rfl)
theorem dX6_partCauses_53 : decode cX6_partCauses 53 = .ok (.getfield 112, 3) := dk_180 0 112 (dk_at dksX6_partCauses_2 7 rfl rfl)
theorem dX6_partCauses_56 : decode cX6_partCauses 56 = .ok (.iload_n 3, 1) := dk_29 (dk_at dksX6_partCauses_2 10 rfl rfl)
theorem dX6_partCauses_57 : decode cX6_partCauses 57 = .ok (.iaload, 1) := dk_46 (dk_at dksX6_partCauses_2 11 rfl rfl)
theorem dX6_partCauses_58 : decode cX6_partCauses 58 = .ok (.iconst 3, 1) := dk_6 (dk_at dksX6_partCauses_2 12 rfl rfl)
theorem dX6_partCauses_59 : decode cX6_partCauses 59 = .ok (.if_icmp .ne 19, 3) := dk_160 0 19 (dk_at dksX6_partCauses_2 13 rfl rfl)
theorem dX6_partCauses_62 : decode cX6_partCauses 62 = .ok (.iload_n 3, 1) := dk_29 (dk_at dksX6_partCauses_2 16 rfl rfl)
theorem dX6_partCauses_63 : decode cX6_partCauses 63 = .ok (.iload_n 2, 1) := dk_28 (dk_at dksX6_partCauses_2 17 rfl rfl)
theorem dX6_partCauses_64 : decode cX6_partCauses 64 = .ok (.if_icmp .eq 14, 3) := dk_159 0 14 (dk_at dksX6_partCauses_2 18 rfl rfl)
theorem dX6_partCauses_67 : decode cX6_partCauses 67 = .ok (.aload_n 0, 1) := dk_42 (dk_at dksX6_partCauses_2 21 rfl rfl)
theorem dX6_partCauses_68 : decode cX6_partCauses 68 = .ok (.aload_n 0, 1) := dk_42 (dk_at dksX6_partCauses_2 22 rfl rfl)
theorem dX6_partCauses_69 : decode cX6_partCauses 69 = .ok (.iload_n 1, 1) := dk_27 (dk_at dksX6_partCauses_2 23 rfl rfl)
theorem dX6_partCauses_70 : decode cX6_partCauses 70 = .ok (.iload_n 3, 1) := dk_29 (dk_at dksX6_partCauses_3 0 rfl rfl)
theorem dX6_partCauses_71 : decode cX6_partCauses 71 = .ok (.iconst 0, 1) := dk_3 (dk_at dksX6_partCauses_3 1 rfl rfl)
theorem dX6_partCauses_72 : decode cX6_partCauses 72 = .ok (.invokevirtual 483, 3) := dk_182 1 227 (dk_at dksX6_partCauses_3 2 rfl rfl)
theorem dX6_partCauses_75 : decode cX6_partCauses 75 = .ok (.invokevirtual 480, 3) := dk_182 1 224 (dk_at dksX6_partCauses_3 5 rfl rfl)
theorem dX6_partCauses_78 : decode cX6_partCauses 78 = .ok (.aload_n 0, 1) := dk_42 (dk_at dksX6_partCauses_3 8 rfl rfl)
theorem dX6_partCauses_79 : decode cX6_partCauses 79 = .ok (.getfield 112, 3) := dk_180 0 112 (dk_at dksX6_partCauses_3 9 rfl rfl)
theorem dX6_partCauses_82 : decode cX6_partCauses 82 = .ok (.iload_n 3, 1) := dk_29 (dk_at dksX6_partCauses_3 12 rfl rfl)
theorem dX6_partCauses_83 : decode cX6_partCauses 83 = .ok (.iaload, 1) := dk_46 (dk_at dksX6_partCauses_3 13 rfl rfl)
theorem dX6_partCauses_84 : decode cX6_partCauses 84 = .ok (.bipush 26, 2) := dk_16 26 (dk_at dksX6_partCauses_3 14 rfl rfl)
theorem dX6_partCauses_86 : decode cX6_partCauses 86 = .ok (.if_icmp .ne 22, 3) := dk_160 0 22 (dk_at dksX6_partCauses_3 16 rfl rfl)
theorem dX6_partCauses_89 : decode cX6_partCauses 89 = .ok (.aload_n 0, 1) := dk_42 (dk_at dksX6_partCauses_3 19 rfl rfl)
theorem dX6_partCauses_90 : decode cX6_partCauses 90 = .ok (.aload_n 0, 1) := dk_42 (dk_at dksX6_partCauses_3 20 rfl rfl)
theorem dX6_partCauses_91 : decode cX6_partCauses 91 = .ok (.getfield 193, 3) := dk_180 0 193 (dk_at dksX6_partCauses_3 21 rfl rfl)
theorem dX6_partCauses_94 : decode cX6_partCauses 94 = .ok (.iload_n 1, 1) := dk_27 (dk_at dksX6_partCauses_4 0 rfl rfl)
theorem dX6_partCauses_95 : decode cX6_partCauses 95 = .ok (.iaload, 1) := dk_46 (dk_at dksX6_partCauses_4 1 rfl rfl)
theorem dX6_partCauses_96 : decode cX6_partCauses 96 = .ok (.aload_n 0, 1) := dk_42 (dk_at dksX6_partCauses_4 2 rfl rfl)
theorem dX6_partCauses_97 : decode cX6_partCauses 97 = .ok (.getfield 115, 3) := dk_180 0 115 (dk_at dksX6_partCauses_4 3 rfl rfl)
theorem dX6_partCauses_100 : decode cX6_partCauses 100 = .ok (.iload_n 3, 1) := dk_29 (dk_at dksX6_partCauses_4 6 rfl rfl)
theorem dX6_partCauses_101 : decode cX6_partCauses 101 = .ok (.iaload, 1) := dk_46 (dk_at dksX6_partCauses_4 7 rfl rfl)
theorem dX6_partCauses_102 : decode cX6_partCauses 102 = .ok (.iconst 2, 1) := dk_5 (dk_at dksX6_partCauses_4 8 rfl rfl)
theorem dX6_partCauses_103 : decode cX6_partCauses 103 = .ok (.idiv, 1) := dk_108 (dk_at dksX6_partCauses_4 9 rfl rfl)
theorem dX6_partCauses_104 : decode cX6_partCauses 104 = .ok (.iadd, 1) := dk_96 (dk_at dksX6_partCauses_4 10 rfl rfl)
theorem dX6_partCauses_105 : decode cX6_partCauses 105 = .ok (.invokevirtual 480, 3) := dk_182 1 224 (dk_at dksX6_partCauses_4 11 rfl rfl)
theorem dX6_partCauses_108 : decode cX6_partCauses 108 = .ok (.aload_n 0, 1) := dk_42 (dk_at dksX6_partCauses_4 14 rfl rfl)
theorem dX6_partCauses_109 : decode cX6_partCauses 109 = .ok (.getfield 112, 3) := dk_180 0 112 (dk_at dksX6_partCauses_4 15 rfl rfl)
theorem dX6_partCauses_112 : decode cX6_partCauses 112 = .ok (.iload_n 3, 1) := dk_29 (dk_at dksX6_partCauses_4 18 rfl rfl)
theorem dX6_partCauses_113 : decode cX6_partCauses 113 = .ok (.iaload, 1) := dk_46 (dk_at dksX6_partCauses_4 19 rfl rfl)
theorem dX6_partCauses_114 : decode cX6_partCauses 114 = .ok (.bipush 25, 2) := dk_16 25 (dk_at dksX6_partCauses_4 20 rfl rfl)
theorem dX6_partCauses_116 : decode cX6_partCauses 116 = .ok (.if_icmp .ne 27, 3) := dk_160 0 27 (dk_at dksX6_partCauses_5 0 rfl rfl)
theorem dX6_partCauses_119 : decode cX6_partCauses 119 = .ok (.aload_n 0, 1) := dk_42 (dk_at dksX6_partCauses_5 3 rfl rfl)
theorem dX6_partCauses_120 : decode cX6_partCauses 120 = .ok (.aload_n 0, 1) := dk_42 (dk_at dksX6_partCauses_5 4 rfl rfl)
theorem dX6_partCauses_121 : decode cX6_partCauses 121 = .ok (.getfield 193, 3) := dk_180 0 193 (dk_at dksX6_partCauses_5 5 rfl rfl)
theorem dX6_partCauses_124 : decode cX6_partCauses 124 = .ok (.iload_n 1, 1) := dk_27 (dk_at dksX6_partCauses_5 8 rfl rfl)
theorem dX6_partCauses_125 : decode cX6_partCauses 125 = .ok (.iaload, 1) := dk_46 (dk_at dksX6_partCauses_5 9 rfl rfl)
theorem dX6_partCauses_126 : decode cX6_partCauses 126 = .ok (.aload_n 0, 1) := dk_42 (dk_at dksX6_partCauses_5 10 rfl rfl)
theorem dX6_partCauses_127 : decode cX6_partCauses 127 = .ok (.getfield 145, 3) := dk_180 0 145 (dk_at dksX6_partCauses_5 11 rfl rfl)
theorem dX6_partCauses_130 : decode cX6_partCauses 130 = .ok (.aload_n 0, 1) := dk_42 (dk_at dksX6_partCauses_5 14 rfl rfl)
theorem dX6_partCauses_131 : decode cX6_partCauses 131 = .ok (.getfield 118, 3) := dk_180 0 118 (dk_at dksX6_partCauses_5 15 rfl rfl)
theorem dX6_partCauses_134 : decode cX6_partCauses 134 = .ok (.iload_n 3, 1) := dk_29 (dk_at dksX6_partCauses_5 18 rfl rfl)
theorem dX6_partCauses_135 : decode cX6_partCauses 135 = .ok (.iaload, 1) := dk_46 (dk_at dksX6_partCauses_5 19 rfl rfl)
theorem dX6_partCauses_136 : decode cX6_partCauses 136 = .ok (.iaload, 1) := dk_46 (dk_at dksX6_partCauses_5 20 rfl rfl)
theorem dX6_partCauses_137 : decode cX6_partCauses 137 = .ok (.iconst 2, 1) := dk_5 (dk_at dksX6_partCauses_5 21 rfl rfl)
theorem dX6_partCauses_138 : decode cX6_partCauses 138 = .ok (.idiv, 1) := dk_108 (dk_at dksX6_partCauses_5 22 rfl rfl)
theorem dX6_partCauses_139 : decode cX6_partCauses 139 = .ok (.iadd, 1) := dk_96 (dk_at dksX6_partCauses_5 23 rfl rfl)
theorem dX6_partCauses_140 : decode cX6_partCauses 140 = .ok (.invokevirtual 480, 3) := dk_182 1 224 (dk_at dksX6_partCauses_6 0 rfl rfl)
theorem dX6_partCauses_143 : decode cX6_partCauses 143 = .ok (.iinc 3 1, 3) := dk_132 3 1 (dk_at dksX6_partCauses_6 3 rfl rfl)
theorem dX6_partCauses_146 : decode cX6_partCauses 146 = .ok (.goto (-139), 3) := dk_167 255 117 (dk_at dksX6_partCauses_6 6 rfl rfl)
theorem dX6_partCauses_149 : decode cX6_partCauses 149 = .ok (.return_, 1) := dk_177 (dk_at dksX6_partCauses_6 9 rfl rfl)
abbrev cX6_output : ByteArray := prog_26_method_51_code
def yX6_output : MethodName := ⟨RX6, "output", "(III)I"⟩
def dkwX6_output_1 : List UInt8 := [96, 172]
abbrev dktX6_output_1 : List UInt8 := dkwX6_output_1 ++ []
def dkwX6_output_0 : List UInt8 := [42, 180, 0, 193, 42, 27, 28, 182, 1, 221, 46, 42, 180, 0, 53, 42, 180, 0, 115, 28, 46, 46, 96, 29]
abbrev dktX6_output_0 : List UInt8 := dkwX6_output_0 ++ dktX6_output_1
theorem dksX6_output_0 : cX6_output.data.toList.drop 0 = dktX6_output_0 := by decide +kernel
theorem dksX6_output_1 : cX6_output.data.toList.drop 24 = dktX6_output_1 := dk_seg dksX6_output_0 24 rfl rfl
theorem dX6_output_0 : decode cX6_output 0 = .ok (.aload_n 0, 1) := dk_42 (dk_at dksX6_output_0 0 rfl rfl)
theorem dX6_output_1 : decode cX6_output 1 = .ok (.getfield 193, 3) := dk_180 0 193 (dk_at dksX6_output_0 1 rfl rfl)
theorem dX6_output_4 : decode cX6_output 4 = .ok (.aload_n 0, 1) := dk_42 (dk_at dksX6_output_0 4 rfl rfl)
theorem dX6_output_5 : decode cX6_output 5 = .ok (.iload_n 1, 1) := dk_27 (dk_at dksX6_output_0 5 rfl rfl)
theorem dX6_output_6 : decode cX6_output 6 = .ok (.iload_n 2, 1) := dk_28 (dk_at dksX6_output_0 6 rfl rfl)
theorem dX6_output_7 : decode cX6_output 7 = .ok (.invokevirtual 477, 3) := dk_182 1 221 (dk_at dksX6_output_0 7 rfl rfl)
theorem dX6_output_10 : decode cX6_output 10 = .ok (.iaload, 1) := dk_46 (dk_at dksX6_output_0 10 rfl rfl)
theorem dX6_output_11 : decode cX6_output 11 = .ok (.aload_n 0, 1) := dk_42 (dk_at dksX6_output_0 11 rfl rfl)
theorem dX6_output_12 : decode cX6_output 12 = .ok (.getfield 53, 3) := dk_180 0 53 (dk_at dksX6_output_0 12 rfl rfl)
theorem dX6_output_15 : decode cX6_output 15 = .ok (.aload_n 0, 1) := dk_42 (dk_at dksX6_output_0 15 rfl rfl)
theorem dX6_output_16 : decode cX6_output 16 = .ok (.getfield 115, 3) := dk_180 0 115 (dk_at dksX6_output_0 16 rfl rfl)
theorem dX6_output_19 : decode cX6_output 19 = .ok (.iload_n 2, 1) := dk_28 (dk_at dksX6_output_0 19 rfl rfl)
theorem dX6_output_20 : decode cX6_output 20 = .ok (.iaload, 1) := dk_46 (dk_at dksX6_output_0 20 rfl rfl)
theorem dX6_output_21 : decode cX6_output 21 = .ok (.iaload, 1) := dk_46 (dk_at dksX6_output_0 21 rfl rfl)
theorem dX6_output_22 : decode cX6_output 22 = .ok (.iadd, 1) := dk_96 (dk_at dksX6_output_0 22 rfl rfl)
theorem dX6_output_23 : decode cX6_output 23 = .ok (.iload_n 3, 1) := dk_29 (dk_at dksX6_output_0 23 rfl rfl)
theorem dX6_output_24 : decode cX6_output 24 = .ok (.iadd, 1) := dk_96 (dk_at dksX6_output_1 0 rfl rfl)
theorem dX6_output_25 : decode cX6_output 25 = .ok (.ireturn, 1) := dk_172 (dk_at dksX6_output_1 1 rfl rfl)
abbrev cX6_child : ByteArray := prog_26_method_50_code
def yX6_child : MethodName := ⟨RX6, "child", "(II)I"⟩
def dkwX6_child_0 : List UInt8 := [42, 180, 0, 202, 42, 180, 0, 199, 27, 46, 42, 180, 0, 127, 28, 46, 96, 46, 172]
abbrev dktX6_child_0 : List UInt8 := dkwX6_child_0 ++ []
theorem dksX6_child_0 : cX6_child.data.toList.drop 0 = dktX6_child_0 := by decide +kernel
theorem dX6_child_0 : decode cX6_child 0 = .ok (.aload_n 0, 1) := dk_42 (dk_at dksX6_child_0 0 rfl rfl)
theorem dX6_child_1 : decode cX6_child 1 = .ok (.getfield 202, 3) := dk_180 0 202 (dk_at dksX6_child_0 1 rfl rfl)
theorem dX6_child_4 : decode cX6_child 4 = .ok (.aload_n 0, 1) := dk_42 (dk_at dksX6_child_0 4 rfl rfl)
theorem dX6_child_5 : decode cX6_child 5 = .ok (.getfield 199, 3) := dk_180 0 199 (dk_at dksX6_child_0 5 rfl rfl)
theorem dX6_child_8 : decode cX6_child 8 = .ok (.iload_n 1, 1) := dk_27 (dk_at dksX6_child_0 8 rfl rfl)
theorem dX6_child_9 : decode cX6_child 9 = .ok (.iaload, 1) := dk_46 (dk_at dksX6_child_0 9 rfl rfl)
theorem dX6_child_10 : decode cX6_child 10 = .ok (.aload_n 0, 1) := dk_42 (dk_at dksX6_child_0 10 rfl rfl)
theorem dX6_child_11 : decode cX6_child 11 = .ok (.getfield 127, 3) := dk_180 0 127 (dk_at dksX6_child_0 11 rfl rfl)
theorem dX6_child_14 : decode cX6_child 14 = .ok (.iload_n 2, 1) := dk_28 (dk_at dksX6_child_0 14 rfl rfl)
theorem dX6_child_15 : decode cX6_child 15 = .ok (.iaload, 1) := dk_46 (dk_at dksX6_child_0 15 rfl rfl)
theorem dX6_child_16 : decode cX6_child 16 = .ok (.iadd, 1) := dk_96 (dk_at dksX6_child_0 16 rfl rfl)
theorem dX6_child_17 : decode cX6_child 17 = .ok (.iaload, 1) := dk_46 (dk_at dksX6_child_0 17 rfl rfl)
theorem dX6_child_18 : decode cX6_child 18 = .ok (.ireturn, 1) := dk_172 (dk_at dksX6_child_0 18 rfl rfl)
abbrev cX6_ordered : ByteArray := prog_26_method_58_code
def yX6_ordered : MethodName := ⟨RX6, "ordered", "()V"⟩
def dkwX6_ordered_9 : List UInt8 := [187, 1, 40, 89, 16, 7, 42, 29, 182, 1, 242, 183, 1, 42, 191, 132, 3, 1, 167, 255, 212, 177]
abbrev dktX6_ordered_9 : List UInt8 := dkwX6_ordered_9 ++ []
def dkwX6_ordered_8 : List UInt8 := [180, 0, 169, 162, 0, 42, 42, 180, 0, 230, 29, 51, 153, 0, 27, 42, 29, 29, 182, 1, 239, 153, 0, 18]
abbrev dktX6_ordered_8 : List UInt8 := dkwX6_ordered_8 ++ dktX6_ordered_9
def dkwX6_ordered_7 : List UInt8 := [180, 0, 221, 29, 51, 154, 0, 7, 4, 167, 0, 4, 3, 84, 132, 3, 1, 167, 255, 225, 3, 62, 29, 42]
abbrev dktX6_ordered_7 : List UInt8 := dkwX6_ordered_7 ++ dktX6_ordered_8
def dkwX6_ordered_6 : List UInt8 := [180, 0, 169, 160, 0, 4, 177, 3, 62, 29, 42, 180, 0, 169, 162, 0, 29, 42, 180, 0, 230, 29, 42]
abbrev dktX6_ordered_6 : List UInt8 := dkwX6_ordered_6 ++ dktX6_ordered_7
def dkwX6_ordered_5 : List UInt8 := [180, 0, 227, 27, 132, 1, 1, 29, 79, 4, 61, 132, 3, 1, 167, 255, 157, 167, 255, 146, 27, 42]
abbrev dktX6_ordered_5 : List UInt8 := dkwX6_ordered_5 ++ dktX6_ordered_6
def dkwX6_ordered_4 : List UInt8 := [54, 4, 132, 5, 1, 167, 255, 221, 21, 4, 154, 0, 6, 167, 0, 22, 42, 180, 0, 221, 29, 4, 84, 42]
abbrev dktX6_ordered_4 : List UInt8 := dkwX6_ordered_4 ++ dktX6_ordered_5
def dkwX6_ordered_3 : List UInt8 := [29, 4, 96, 46, 162, 0, 28, 21, 4, 153, 0, 23, 42, 180, 0, 221, 42, 180, 0, 215, 21, 5, 46, 51]
abbrev dktX6_ordered_3 : List UInt8 := dkwX6_ordered_3 ++ dktX6_ordered_4
def dkwX6_ordered_2 : List UInt8 := [51, 153, 0, 6, 167, 0, 79, 4, 54, 4, 42, 180, 0, 211, 29, 46, 54, 5, 21, 5, 42, 180, 0, 211]
abbrev dktX6_ordered_2 : List UInt8 := dkwX6_ordered_2 ++ dktX6_ordered_3
def dkwX6_ordered_1 : List UInt8 := [60, 4, 61, 28, 153, 0, 112, 3, 61, 3, 62, 29, 42, 180, 0, 169, 162, 0, 97, 42, 180, 0, 221, 29]
abbrev dktX6_ordered_1 : List UInt8 := dkwX6_ordered_1 ++ dktX6_ordered_2
def dkwX6_ordered_0 : List UInt8 := [3, 60, 27, 42, 180, 0, 169, 162, 0, 16, 42, 180, 0, 221, 27, 3, 84, 132, 1, 1, 167, 255, 238, 3]
abbrev dktX6_ordered_0 : List UInt8 := dkwX6_ordered_0 ++ dktX6_ordered_1
theorem dksX6_ordered_0 : cX6_ordered.data.toList.drop 0 = dktX6_ordered_0 := by decide +kernel
theorem dksX6_ordered_1 : cX6_ordered.data.toList.drop 24 = dktX6_ordered_1 := dk_seg dksX6_ordered_0 24 rfl rfl
theorem dksX6_ordered_2 : cX6_ordered.data.toList.drop 48 = dktX6_ordered_2 := dk_seg dksX6_ordered_1 24 rfl rfl
theorem dksX6_ordered_3 : cX6_ordered.data.toList.drop 72 = dktX6_ordered_3 := dk_seg dksX6_ordered_2 24 rfl rfl
theorem dksX6_ordered_4 : cX6_ordered.data.toList.drop 96 = dktX6_ordered_4 := dk_seg dksX6_ordered_3 24 rfl rfl
theorem dksX6_ordered_5 : cX6_ordered.data.toList.drop 120 = dktX6_ordered_5 := dk_seg dksX6_ordered_4 24 rfl rfl
theorem dksX6_ordered_6 : cX6_ordered.data.toList.drop 142 = dktX6_ordered_6 := dk_seg dksX6_ordered_5 22 rfl rfl
theorem dksX6_ordered_7 : cX6_ordered.data.toList.drop 165 = dktX6_ordered_7 := dk_seg dksX6_ordered_6 23 rfl rfl
theorem dksX6_ordered_8 : cX6_ordered.data.toList.drop 189 = dktX6_ordered_8 := dk_seg dksX6_ordered_7 24 rfl rfl
theorem dksX6_ordered_9 : cX6_ordered.data.toList.drop 213 = dktX6_ordered_9 := dk_seg dksX6_ordered_8 24 rfl rfl
theorem dX6_ordered_0 : decode cX6_ordered 0 = .ok (.iconst 0, 1) := dk_3 (dk_at dksX6_ordered_0 0 rfl rfl)
theorem dX6_ordered_1 : decode cX6_ordered 1 = .ok (.istore_n 1, 1) := dk_60 (dk_at dksX6_ordered_0 1 rfl rfl)
theorem dX6_ordered_2 : decode cX6_ordered 2 = .ok (.iload_n 1, 1) := dk_27 (dk_at dksX6_ordered_0 2 rfl rfl)
theorem dX6_ordered_3 : decode cX6_ordered 3 = .ok (.aload_n 0, 1) := dk_42 (dk_at dksX6_ordered_0 3 rfl rfl)
theorem dX6_ordered_4 : decode cX6_ordered 4 = .ok (.getfield 169, 3) := dk_180 0 169 (dk_at dksX6_ordered_0 4 rfl rfl)
theorem dX6_ordered_7 : decode cX6_ordered 7 = .ok (.if_icmp .ge 16, 3) := dk_162 0 16 (dk_at dksX6_ordered_0 7 rfl rfl)
theorem dX6_ordered_10 : decode cX6_ordered 10 = .ok (.aload_n 0, 1) := dk_42 (dk_at dksX6_ordered_0 10 rfl rfl)
theorem dX6_ordered_11 : decode cX6_ordered 11 = .ok (.getfield 221, 3) := dk_180 0 221 (dk_at dksX6_ordered_0 11 rfl rfl)
theorem dX6_ordered_14 : decode cX6_ordered 14 = .ok (.iload_n 1, 1) := dk_27 (dk_at dksX6_ordered_0 14 rfl rfl)
theorem dX6_ordered_15 : decode cX6_ordered 15 = .ok (.iconst 0, 1) := dk_3 (dk_at dksX6_ordered_0 15 rfl rfl)
theorem dX6_ordered_16 : decode cX6_ordered 16 = .ok (.bastore, 1) := dk_84 (dk_at dksX6_ordered_0 16 rfl rfl)
theorem dX6_ordered_17 : decode cX6_ordered 17 = .ok (.iinc 1 1, 3) := dk_132 1 1 (dk_at dksX6_ordered_0 17 rfl rfl)
theorem dX6_ordered_20 : decode cX6_ordered 20 = .ok (.goto (-18), 3) := dk_167 255 238 (dk_at dksX6_ordered_0 20 rfl rfl)
theorem dX6_ordered_23 : decode cX6_ordered 23 = .ok (.iconst 0, 1) := dk_3 (dk_at dksX6_ordered_0 23 rfl rfl)
theorem dX6_ordered_24 : decode cX6_ordered 24 = .ok (.istore_n 1, 1) := dk_60 (dk_at dksX6_ordered_1 0 rfl rfl)
theorem dX6_ordered_25 : decode cX6_ordered 25 = .ok (.iconst 1, 1) := dk_4 (dk_at dksX6_ordered_1 1 rfl rfl)
theorem dX6_ordered_26 : decode cX6_ordered 26 = .ok (.istore_n 2, 1) := dk_61 (dk_at dksX6_ordered_1 2 rfl rfl)
theorem dX6_ordered_27 : decode cX6_ordered 27 = .ok (.iload_n 2, 1) := dk_28 (dk_at dksX6_ordered_1 3 rfl rfl)
theorem dX6_ordered_28 : decode cX6_ordered 28 = .ok (.ifCond .eq 112, 3) := dk_153 0 112 (dk_at dksX6_ordered_1 4 rfl rfl)
theorem dX6_ordered_31 : decode cX6_ordered 31 = .ok (.iconst 0, 1) := dk_3 (dk_at dksX6_ordered_1 7 rfl rfl)
theorem dX6_ordered_32 : decode cX6_ordered 32 = .ok (.istore_n 2, 1) := dk_61 (dk_at dksX6_ordered_1 8 rfl rfl)
theorem dX6_ordered_33 : decode cX6_ordered 33 = .ok (.iconst 0, 1) := dk_3 (dk_at dksX6_ordered_1 9 rfl rfl)
theorem dX6_ordered_34 : decode cX6_ordered 34 = .ok (.istore_n 3, 1) := dk_62 (dk_at dksX6_ordered_1 10 rfl rfl)
theorem dX6_ordered_35 : decode cX6_ordered 35 = .ok (.iload_n 3, 1) := dk_29 (dk_at dksX6_ordered_1 11 rfl rfl)
theorem dX6_ordered_36 : decode cX6_ordered 36 = .ok (.aload_n 0, 1) := dk_42 (dk_at dksX6_ordered_1 12 rfl rfl)
theorem dX6_ordered_37 : decode cX6_ordered 37 = .ok (.getfield 169, 3) := dk_180 0 169 (dk_at dksX6_ordered_1 13 rfl rfl)
theorem dX6_ordered_40 : decode cX6_ordered 40 = .ok (.if_icmp .ge 97, 3) := dk_162 0 97 (dk_at dksX6_ordered_1 16 rfl rfl)
theorem dX6_ordered_43 : decode cX6_ordered 43 = .ok (.aload_n 0, 1) := dk_42 (dk_at dksX6_ordered_1 19 rfl rfl)
theorem dX6_ordered_44 : decode cX6_ordered 44 = .ok (.getfield 221, 3) := dk_180 0 221 (dk_at dksX6_ordered_1 20 rfl rfl)
theorem dX6_ordered_47 : decode cX6_ordered 47 = .ok (.iload_n 3, 1) := dk_29 (dk_at dksX6_ordered_1 23 rfl rfl)
theorem dX6_ordered_48 : decode cX6_ordered 48 = .ok (.baload, 1) := dk_51 (dk_at dksX6_ordered_2 0 rfl rfl)
theorem dX6_ordered_49 : decode cX6_ordered 49 = .ok (.ifCond .eq 6, 3) := dk_153 0 6 (dk_at dksX6_ordered_2 1 rfl rfl)
theorem dX6_ordered_52 : decode cX6_ordered 52 = .ok (.goto 79, 3) := dk_167 0 79 (dk_at dksX6_ordered_2 4 rfl rfl)
theorem dX6_ordered_55 : decode cX6_ordered 55 = .ok (.iconst 1, 1) := dk_4 (dk_at dksX6_ordered_2 7 rfl rfl)
theorem dX6_ordered_56 : decode cX6_ordered 56 = .ok (.istore 4, 2) := dk_54 4 (dk_at dksX6_ordered_2 8 rfl rfl)
theorem dX6_ordered_58 : decode cX6_ordered 58 = .ok (.aload_n 0, 1) := dk_42 (dk_at dksX6_ordered_2 10 rfl rfl)
theorem dX6_ordered_59 : decode cX6_ordered 59 = .ok (.getfield 211, 3) := dk_180 0 211 (dk_at dksX6_ordered_2 11 rfl rfl)
theorem dX6_ordered_62 : decode cX6_ordered 62 = .ok (.iload_n 3, 1) := dk_29 (dk_at dksX6_ordered_2 14 rfl rfl)
theorem dX6_ordered_63 : decode cX6_ordered 63 = .ok (.iaload, 1) := dk_46 (dk_at dksX6_ordered_2 15 rfl rfl)
theorem dX6_ordered_64 : decode cX6_ordered 64 = .ok (.istore 5, 2) := dk_54 5 (dk_at dksX6_ordered_2 16 rfl rfl)
theorem dX6_ordered_66 : decode cX6_ordered 66 = .ok (.iload 5, 2) := dk_21 5 (dk_at dksX6_ordered_2 18 rfl rfl)
theorem dX6_ordered_68 : decode cX6_ordered 68 = .ok (.aload_n 0, 1) := dk_42 (dk_at dksX6_ordered_2 20 rfl rfl)
theorem dX6_ordered_69 : decode cX6_ordered 69 = .ok (.getfield 211, 3) := dk_180 0 211 (dk_at dksX6_ordered_2 21 rfl rfl)
theorem dX6_ordered_72 : decode cX6_ordered 72 = .ok (.iload_n 3, 1) := dk_29 (dk_at dksX6_ordered_3 0 rfl rfl)
theorem dX6_ordered_73 : decode cX6_ordered 73 = .ok (.iconst 1, 1) := dk_4 (dk_at dksX6_ordered_3 1 rfl rfl)
theorem dX6_ordered_74 : decode cX6_ordered 74 = .ok (.iadd, 1) := dk_96 (dk_at dksX6_ordered_3 2 rfl rfl)
theorem dX6_ordered_75 : decode cX6_ordered 75 = .ok (.iaload, 1) := dk_46 (dk_at dksX6_ordered_3 3 rfl rfl)
theorem dX6_ordered_76 : decode cX6_ordered 76 = .ok (.if_icmp .ge 28, 3) := dk_162 0 28 (dk_at dksX6_ordered_3 4 rfl rfl)
theorem dX6_ordered_79 : decode cX6_ordered 79 = .ok (.iload 4, 2) := dk_21 4 (dk_at dksX6_ordered_3 7 rfl rfl)
theorem dX6_ordered_81 : decode cX6_ordered 81 = .ok (.ifCond .eq 23, 3) := dk_153 0 23 (dk_at dksX6_ordered_3 9 rfl rfl)
theorem dX6_ordered_84 : decode cX6_ordered 84 = .ok (.aload_n 0, 1) := dk_42 (dk_at dksX6_ordered_3 12 rfl rfl)
theorem dX6_ordered_85 : decode cX6_ordered 85 = .ok (.getfield 221, 3) := dk_180 0 221 (dk_at dksX6_ordered_3 13 rfl rfl)
theorem dX6_ordered_88 : decode cX6_ordered 88 = .ok (.aload_n 0, 1) := dk_42 (dk_at dksX6_ordered_3 16 rfl rfl)
theorem dX6_ordered_89 : decode cX6_ordered 89 = .ok (.getfield 215, 3) := dk_180 0 215 (dk_at dksX6_ordered_3 17 rfl rfl)
theorem dX6_ordered_92 : decode cX6_ordered 92 = .ok (.iload 5, 2) := dk_21 5 (dk_at dksX6_ordered_3 20 rfl rfl)
theorem dX6_ordered_94 : decode cX6_ordered 94 = .ok (.iaload, 1) := dk_46 (dk_at dksX6_ordered_3 22 rfl rfl)
theorem dX6_ordered_95 : decode cX6_ordered 95 = .ok (.baload, 1) := dk_51 (dk_at dksX6_ordered_3 23 rfl rfl)
theorem dX6_ordered_96 : decode cX6_ordered 96 = .ok (.istore 4, 2) := dk_54 4 (dk_at dksX6_ordered_4 0 rfl rfl)
theorem dX6_ordered_98 : decode cX6_ordered 98 = .ok (.iinc 5 1, 3) := dk_132 5 1 (dk_at dksX6_ordered_4 2 rfl rfl)
theorem dX6_ordered_101 : decode cX6_ordered 101 = .ok (.goto (-35), 3) := dk_167 255 221 (dk_at dksX6_ordered_4 5 rfl rfl)
theorem dX6_ordered_104 : decode cX6_ordered 104 = .ok (.iload 4, 2) := dk_21 4 (dk_at dksX6_ordered_4 8 rfl rfl)
theorem dX6_ordered_106 : decode cX6_ordered 106 = .ok (.ifCond .ne 6, 3) := dk_154 0 6 (dk_at dksX6_ordered_4 10 rfl rfl)
theorem dX6_ordered_109 : decode cX6_ordered 109 = .ok (.goto 22, 3) := dk_167 0 22 (dk_at dksX6_ordered_4 13 rfl rfl)
theorem dX6_ordered_112 : decode cX6_ordered 112 = .ok (.aload_n 0, 1) := dk_42 (dk_at dksX6_ordered_4 16 rfl rfl)
theorem dX6_ordered_113 : decode cX6_ordered 113 = .ok (.getfield 221, 3) := dk_180 0 221 (dk_at dksX6_ordered_4 17 rfl rfl)
theorem dX6_ordered_116 : decode cX6_ordered 116 = .ok (.iload_n 3, 1) := dk_29 (dk_at dksX6_ordered_4 20 rfl rfl)
theorem dX6_ordered_117 : decode cX6_ordered 117 = .ok (.iconst 1, 1) := dk_4 (dk_at dksX6_ordered_4 21 rfl rfl)
theorem dX6_ordered_118 : decode cX6_ordered 118 = .ok (.bastore, 1) := dk_84 (dk_at dksX6_ordered_4 22 rfl rfl)
theorem dX6_ordered_119 : decode cX6_ordered 119 = .ok (.aload_n 0, 1) := dk_42 (dk_at dksX6_ordered_4 23 rfl rfl)
theorem dX6_ordered_120 : decode cX6_ordered 120 = .ok (.getfield 227, 3) := dk_180 0 227 (dk_at dksX6_ordered_5 0 rfl rfl)
theorem dX6_ordered_123 : decode cX6_ordered 123 = .ok (.iload_n 1, 1) := dk_27 (dk_at dksX6_ordered_5 3 rfl rfl)
theorem dX6_ordered_124 : decode cX6_ordered 124 = .ok (.iinc 1 1, 3) := dk_132 1 1 (dk_at dksX6_ordered_5 4 rfl rfl)
theorem dX6_ordered_127 : decode cX6_ordered 127 = .ok (.iload_n 3, 1) := dk_29 (dk_at dksX6_ordered_5 7 rfl rfl)
theorem dX6_ordered_128 : decode cX6_ordered 128 = .ok (.iastore, 1) := dk_79 (dk_at dksX6_ordered_5 8 rfl rfl)
theorem dX6_ordered_129 : decode cX6_ordered 129 = .ok (.iconst 1, 1) := dk_4 (dk_at dksX6_ordered_5 9 rfl rfl)
theorem dX6_ordered_130 : decode cX6_ordered 130 = .ok (.istore_n 2, 1) := dk_61 (dk_at dksX6_ordered_5 10 rfl rfl)
theorem dX6_ordered_131 : decode cX6_ordered 131 = .ok (.iinc 3 1, 3) := dk_132 3 1 (dk_at dksX6_ordered_5 11 rfl rfl)
theorem dX6_ordered_134 : decode cX6_ordered 134 = .ok (.goto (-99), 3) := dk_167 255 157 (dk_at dksX6_ordered_5 14 rfl rfl)
theorem dX6_ordered_137 : decode cX6_ordered 137 = .ok (.goto (-110), 3) := dk_167 255 146 (dk_at dksX6_ordered_5 17 rfl rfl)
theorem dX6_ordered_140 : decode cX6_ordered 140 = .ok (.iload_n 1, 1) := dk_27 (dk_at dksX6_ordered_5 20 rfl rfl)
theorem dX6_ordered_141 : decode cX6_ordered 141 = .ok (.aload_n 0, 1) := dk_42 (dk_at dksX6_ordered_5 21 rfl rfl)
theorem dX6_ordered_142 : decode cX6_ordered 142 = .ok (.getfield 169, 3) := dk_180 0 169 (dk_at dksX6_ordered_6 0 rfl rfl)
theorem dX6_ordered_145 : decode cX6_ordered 145 = .ok (.if_icmp .ne 4, 3) := dk_160 0 4 (dk_at dksX6_ordered_6 3 rfl rfl)
theorem dX6_ordered_148 : decode cX6_ordered 148 = .ok (.return_, 1) := dk_177 (dk_at dksX6_ordered_6 6 rfl rfl)
theorem dX6_ordered_149 : decode cX6_ordered 149 = .ok (.iconst 0, 1) := dk_3 (dk_at dksX6_ordered_6 7 rfl rfl)
theorem dX6_ordered_150 : decode cX6_ordered 150 = .ok (.istore_n 3, 1) := dk_62 (dk_at dksX6_ordered_6 8 rfl rfl)
theorem dX6_ordered_151 : decode cX6_ordered 151 = .ok (.iload_n 3, 1) := dk_29 (dk_at dksX6_ordered_6 9 rfl rfl)
theorem dX6_ordered_152 : decode cX6_ordered 152 = .ok (.aload_n 0, 1) := dk_42 (dk_at dksX6_ordered_6 10 rfl rfl)
theorem dX6_ordered_153 : decode cX6_ordered 153 = .ok (.getfield 169, 3) := dk_180 0 169 (dk_at dksX6_ordered_6 11 rfl rfl)
theorem dX6_ordered_156 : decode cX6_ordered 156 = .ok (.if_icmp .ge 29, 3) := dk_162 0 29 (dk_at dksX6_ordered_6 14 rfl rfl)
theorem dX6_ordered_159 : decode cX6_ordered 159 = .ok (.aload_n 0, 1) := dk_42 (dk_at dksX6_ordered_6 17 rfl rfl)
theorem dX6_ordered_160 : decode cX6_ordered 160 = .ok (.getfield 230, 3) := dk_180 0 230 (dk_at dksX6_ordered_6 18 rfl rfl)
theorem dX6_ordered_163 : decode cX6_ordered 163 = .ok (.iload_n 3, 1) := dk_29 (dk_at dksX6_ordered_6 21 rfl rfl)
theorem dX6_ordered_164 : decode cX6_ordered 164 = .ok (.aload_n 0, 1) := dk_42 (dk_at dksX6_ordered_6 22 rfl rfl)
theorem dX6_ordered_165 : decode cX6_ordered 165 = .ok (.getfield 221, 3) := dk_180 0 221 (dk_at dksX6_ordered_7 0 rfl rfl)
theorem dX6_ordered_168 : decode cX6_ordered 168 = .ok (.iload_n 3, 1) := dk_29 (dk_at dksX6_ordered_7 3 rfl rfl)
theorem dX6_ordered_169 : decode cX6_ordered 169 = .ok (.baload, 1) := dk_51 (dk_at dksX6_ordered_7 4 rfl rfl)
theorem dX6_ordered_170 : decode cX6_ordered 170 = .ok (.ifCond .ne 7, 3) := dk_154 0 7 (dk_at dksX6_ordered_7 5 rfl rfl)
theorem dX6_ordered_173 : decode cX6_ordered 173 = .ok (.iconst 1, 1) := dk_4 (dk_at dksX6_ordered_7 8 rfl rfl)
theorem dX6_ordered_174 : decode cX6_ordered 174 = .ok (.goto 4, 3) := dk_167 0 4 (dk_at dksX6_ordered_7 9 rfl rfl)
theorem dX6_ordered_177 : decode cX6_ordered 177 = .ok (.iconst 0, 1) := dk_3 (dk_at dksX6_ordered_7 12 rfl rfl)
theorem dX6_ordered_178 : decode cX6_ordered 178 = .ok (.bastore, 1) := dk_84 (dk_at dksX6_ordered_7 13 rfl rfl)
theorem dX6_ordered_179 : decode cX6_ordered 179 = .ok (.iinc 3 1, 3) := dk_132 3 1 (dk_at dksX6_ordered_7 14 rfl rfl)
theorem dX6_ordered_182 : decode cX6_ordered 182 = .ok (.goto (-31), 3) := dk_167 255 225 (dk_at dksX6_ordered_7 17 rfl rfl)
theorem dX6_ordered_185 : decode cX6_ordered 185 = .ok (.iconst 0, 1) := dk_3 (dk_at dksX6_ordered_7 20 rfl rfl)
theorem dX6_ordered_186 : decode cX6_ordered 186 = .ok (.istore_n 3, 1) := dk_62 (dk_at dksX6_ordered_7 21 rfl rfl)
theorem dX6_ordered_187 : decode cX6_ordered 187 = .ok (.iload_n 3, 1) := dk_29 (dk_at dksX6_ordered_7 22 rfl rfl)
theorem dX6_ordered_188 : decode cX6_ordered 188 = .ok (.aload_n 0, 1) := dk_42 (dk_at dksX6_ordered_7 23 rfl rfl)
theorem dX6_ordered_189 : decode cX6_ordered 189 = .ok (.getfield 169, 3) := dk_180 0 169 (dk_at dksX6_ordered_8 0 rfl rfl)
theorem dX6_ordered_192 : decode cX6_ordered 192 = .ok (.if_icmp .ge 42, 3) := dk_162 0 42 (dk_at dksX6_ordered_8 3 rfl rfl)
theorem dX6_ordered_195 : decode cX6_ordered 195 = .ok (.aload_n 0, 1) := dk_42 (dk_at dksX6_ordered_8 6 rfl rfl)
theorem dX6_ordered_196 : decode cX6_ordered 196 = .ok (.getfield 230, 3) := dk_180 0 230 (dk_at dksX6_ordered_8 7 rfl rfl)
theorem dX6_ordered_199 : decode cX6_ordered 199 = .ok (.iload_n 3, 1) := dk_29 (dk_at dksX6_ordered_8 10 rfl rfl)
theorem dX6_ordered_200 : decode cX6_ordered 200 = .ok (.baload, 1) := dk_51 (dk_at dksX6_ordered_8 11 rfl rfl)
theorem dX6_ordered_201 : decode cX6_ordered 201 = .ok (.ifCond .eq 27, 3) := dk_153 0 27 (dk_at dksX6_ordered_8 12 rfl rfl)
theorem dX6_ordered_204 : decode cX6_ordered 204 = .ok (.aload_n 0, 1) := dk_42 (dk_at dksX6_ordered_8 15 rfl rfl)
theorem dX6_ordered_205 : decode cX6_ordered 205 = .ok (.iload_n 3, 1) := dk_29 (dk_at dksX6_ordered_8 16 rfl rfl)
theorem dX6_ordered_206 : decode cX6_ordered 206 = .ok (.iload_n 3, 1) := dk_29 (dk_at dksX6_ordered_8 17 rfl rfl)
theorem dX6_ordered_207 : decode cX6_ordered 207 = .ok (.invokevirtual 495, 3) := dk_182 1 239 (dk_at dksX6_ordered_8 18 rfl rfl)
theorem dX6_ordered_210 : decode cX6_ordered 210 = .ok (.ifCond .eq 18, 3) := dk_153 0 18 (dk_at dksX6_ordered_8 21 rfl rfl)
theorem dX6_ordered_213 : decode cX6_ordered 213 = .ok (.new 296, 3) := dk_187 1 40 (dk_at dksX6_ordered_9 0 rfl rfl)
theorem dX6_ordered_216 : decode cX6_ordered 216 = .ok (.dup, 1) := dk_89 (dk_at dksX6_ordered_9 3 rfl rfl)
theorem dX6_ordered_217 : decode cX6_ordered 217 = .ok (.bipush 7, 2) := dk_16 7 (dk_at dksX6_ordered_9 4 rfl rfl)
theorem dX6_ordered_219 : decode cX6_ordered 219 = .ok (.aload_n 0, 1) := dk_42 (dk_at dksX6_ordered_9 6 rfl rfl)
theorem dX6_ordered_220 : decode cX6_ordered 220 = .ok (.iload_n 3, 1) := dk_29 (dk_at dksX6_ordered_9 7 rfl rfl)
theorem dX6_ordered_221 : decode cX6_ordered 221 = .ok (.invokevirtual 498, 3) := dk_182 1 242 (dk_at dksX6_ordered_9 8 rfl rfl)
theorem dX6_ordered_224 : decode cX6_ordered 224 = .ok (.invokespecial 298, 3) := dk_183 1 42 (dk_at dksX6_ordered_9 11 rfl rfl)
theorem dX6_ordered_227 : decode cX6_ordered 227 = .ok (.athrow, 1) := dk_191 (dk_at dksX6_ordered_9 14 rfl rfl)
theorem dX6_ordered_228 : decode cX6_ordered 228 = .ok (.iinc 3 1, 3) := dk_132 3 1 (dk_at dksX6_ordered_9 15 rfl rfl)
theorem dX6_ordered_231 : decode cX6_ordered 231 = .ok (.goto (-44), 3) := dk_167 255 212 (dk_at dksX6_ordered_9 18 rfl rfl)
theorem dX6_ordered_234 : decode cX6_ordered 234 = .ok (.return_, 1) := dk_177 (dk_at dksX6_ordered_9 21 rfl rfl)
abbrev cX6_caused : ByteArray := prog_26_method_57_code
def yX6_caused : MethodName := ⟨RX6, "caused", "(II)Z"⟩
def dkwX6_caused_5 : List UInt8 := [132, 3, 1, 21, 6, 79, 132, 5, 1, 167, 255, 190, 167, 255, 163, 3, 172]
abbrev dktX6_caused_5 : List UInt8 := dkwX6_caused_5 ++ []
def dkwX6_caused_4 : List UInt8 := [21, 6, 51, 153, 0, 6, 167, 0, 22, 42, 180, 0, 221, 21, 6, 4, 84, 42, 180, 0, 224, 29]
abbrev dktX6_caused_4 : List UInt8 := dkwX6_caused_4 ++ dktX6_caused_5
def dkwX6_caused_3 : List UInt8 := [162, 0, 58, 42, 180, 0, 215, 21, 5, 46, 54, 6, 21, 6, 28, 160, 0, 5, 4, 172, 42, 180, 0, 221]
abbrev dktX6_caused_3 : List UInt8 := dkwX6_caused_3 ++ dktX6_caused_4
def dkwX6_caused_2 : List UInt8 := [54, 4, 42, 180, 0, 211, 21, 4, 46, 54, 5, 21, 5, 42, 180, 0, 211, 21, 4, 4, 96, 46]
abbrev dktX6_caused_2 : List UInt8 := dkwX6_caused_2 ++ dktX6_caused_3
def dkwX6_caused_1 : List UInt8 := [62, 42, 180, 0, 224, 29, 132, 3, 1, 27, 79, 29, 158, 0, 95, 42, 180, 0, 224, 132, 3, 255, 29, 46]
abbrev dktX6_caused_1 : List UInt8 := dkwX6_caused_1 ++ dktX6_caused_2
def dkwX6_caused_0 : List UInt8 := [3, 62, 29, 42, 180, 0, 169, 162, 0, 16, 42, 180, 0, 221, 29, 3, 84, 132, 3, 1, 167, 255, 238, 3]
abbrev dktX6_caused_0 : List UInt8 := dkwX6_caused_0 ++ dktX6_caused_1
theorem dksX6_caused_0 : cX6_caused.data.toList.drop 0 = dktX6_caused_0 := by decide +kernel
theorem dksX6_caused_1 : cX6_caused.data.toList.drop 24 = dktX6_caused_1 := dk_seg dksX6_caused_0 24 rfl rfl
theorem dksX6_caused_2 : cX6_caused.data.toList.drop 48 = dktX6_caused_2 := dk_seg dksX6_caused_1 24 rfl rfl
theorem dksX6_caused_3 : cX6_caused.data.toList.drop 70 = dktX6_caused_3 := dk_seg dksX6_caused_2 22 rfl rfl
theorem dksX6_caused_4 : cX6_caused.data.toList.drop 94 = dktX6_caused_4 := dk_seg dksX6_caused_3 24 rfl rfl
theorem dksX6_caused_5 : cX6_caused.data.toList.drop 116 = dktX6_caused_5 := dk_seg dksX6_caused_4 22 rfl rfl
theorem dX6_caused_0 : decode cX6_caused 0 = .ok (.iconst 0, 1) := dk_3 (dk_at dksX6_caused_0 0 rfl rfl)
theorem dX6_caused_1 : decode cX6_caused 1 = .ok (.istore_n 3, 1) := dk_62 (dk_at dksX6_caused_0 1 rfl rfl)
theorem dX6_caused_2 : decode cX6_caused 2 = .ok (.iload_n 3, 1) := dk_29 (dk_at dksX6_caused_0 2 rfl rfl)
theorem dX6_caused_3 : decode cX6_caused 3 = .ok (.aload_n 0, 1) := dk_42 (dk_at dksX6_caused_0 3 rfl rfl)
theorem dX6_caused_4 : decode cX6_caused 4 = .ok (.getfield 169, 3) := dk_180 0 169 (dk_at dksX6_caused_0 4 rfl rfl)
theorem dX6_caused_7 : decode cX6_caused 7 = .ok (.if_icmp .ge 16, 3) := dk_162 0 16 (dk_at dksX6_caused_0 7 rfl rfl)
theorem dX6_caused_10 : decode cX6_caused 10 = .ok (.aload_n 0, 1) := dk_42 (dk_at dksX6_caused_0 10 rfl rfl)
theorem dX6_caused_11 : decode cX6_caused 11 = .ok (.getfield 221, 3) := dk_180 0 221 (dk_at dksX6_caused_0 11 rfl rfl)
theorem dX6_caused_14 : decode cX6_caused 14 = .ok (.iload_n 3, 1) := dk_29 (dk_at dksX6_caused_0 14 rfl rfl)
theorem dX6_caused_15 : decode cX6_caused 15 = .ok (.iconst 0, 1) := dk_3 (dk_at dksX6_caused_0 15 rfl rfl)
theorem dX6_caused_16 : decode cX6_caused 16 = .ok (.bastore, 1) := dk_84 (dk_at dksX6_caused_0 16 rfl rfl)
theorem dX6_caused_17 : decode cX6_caused 17 = .ok (.iinc 3 1, 3) := dk_132 3 1 (dk_at dksX6_caused_0 17 rfl rfl)
theorem dX6_caused_20 : decode cX6_caused 20 = .ok (.goto (-18), 3) := dk_167 255 238 (dk_at dksX6_caused_0 20 rfl rfl)
theorem dX6_caused_23 : decode cX6_caused 23 = .ok (.iconst 0, 1) := dk_3 (dk_at dksX6_caused_0 23 rfl rfl)
theorem dX6_caused_24 : decode cX6_caused 24 = .ok (.istore_n 3, 1) := dk_62 (dk_at dksX6_caused_1 0 rfl rfl)
theorem dX6_caused_25 : decode cX6_caused 25 = .ok (.aload_n 0, 1) := dk_42 (dk_at dksX6_caused_1 1 rfl rfl)
theorem dX6_caused_26 : decode cX6_caused 26 = .ok (.getfield 224, 3) := dk_180 0 224 (dk_at dksX6_caused_1 2 rfl rfl)
theorem dX6_caused_29 : decode cX6_caused 29 = .ok (.iload_n 3, 1) := dk_29 (dk_at dksX6_caused_1 5 rfl rfl)
theorem dX6_caused_30 : decode cX6_caused 30 = .ok (.iinc 3 1, 3) := dk_132 3 1 (dk_at dksX6_caused_1 6 rfl rfl)
theorem dX6_caused_33 : decode cX6_caused 33 = .ok (.iload_n 1, 1) := dk_27 (dk_at dksX6_caused_1 9 rfl rfl)
theorem dX6_caused_34 : decode cX6_caused 34 = .ok (.iastore, 1) := dk_79 (dk_at dksX6_caused_1 10 rfl rfl)
theorem dX6_caused_35 : decode cX6_caused 35 = .ok (.iload_n 3, 1) := dk_29 (dk_at dksX6_caused_1 11 rfl rfl)
theorem dX6_caused_36 : decode cX6_caused 36 = .ok (.ifCond .le 95, 3) := dk_158 0 95 (dk_at dksX6_caused_1 12 rfl rfl)
theorem dX6_caused_39 : decode cX6_caused 39 = .ok (.aload_n 0, 1) := dk_42 (dk_at dksX6_caused_1 15 rfl rfl)
theorem dX6_caused_40 : decode cX6_caused 40 = .ok (.getfield 224, 3) := dk_180 0 224 (dk_at dksX6_caused_1 16 rfl rfl)
theorem dX6_caused_43 : decode cX6_caused 43 = .ok (.iinc 3 (-1), 3) := dk_132 3 255 (dk_at dksX6_caused_1 19 rfl rfl)
theorem dX6_caused_46 : decode cX6_caused 46 = .ok (.iload_n 3, 1) := dk_29 (dk_at dksX6_caused_1 22 rfl rfl)
theorem dX6_caused_47 : decode cX6_caused 47 = .ok (.iaload, 1) := dk_46 (dk_at dksX6_caused_1 23 rfl rfl)
theorem dX6_caused_48 : decode cX6_caused 48 = .ok (.istore 4, 2) := dk_54 4 (dk_at dksX6_caused_2 0 rfl rfl)
theorem dX6_caused_50 : decode cX6_caused 50 = .ok (.aload_n 0, 1) := dk_42 (dk_at dksX6_caused_2 2 rfl rfl)
theorem dX6_caused_51 : decode cX6_caused 51 = .ok (.getfield 211, 3) := dk_180 0 211 (dk_at dksX6_caused_2 3 rfl rfl)
theorem dX6_caused_54 : decode cX6_caused 54 = .ok (.iload 4, 2) := dk_21 4 (dk_at dksX6_caused_2 6 rfl rfl)
theorem dX6_caused_56 : decode cX6_caused 56 = .ok (.iaload, 1) := dk_46 (dk_at dksX6_caused_2 8 rfl rfl)
theorem dX6_caused_57 : decode cX6_caused 57 = .ok (.istore 5, 2) := dk_54 5 (dk_at dksX6_caused_2 9 rfl rfl)
theorem dX6_caused_59 : decode cX6_caused 59 = .ok (.iload 5, 2) := dk_21 5 (dk_at dksX6_caused_2 11 rfl rfl)
theorem dX6_caused_61 : decode cX6_caused 61 = .ok (.aload_n 0, 1) := dk_42 (dk_at dksX6_caused_2 13 rfl rfl)
theorem dX6_caused_62 : decode cX6_caused 62 = .ok (.getfield 211, 3) := dk_180 0 211 (dk_at dksX6_caused_2 14 rfl rfl)
theorem dX6_caused_65 : decode cX6_caused 65 = .ok (.iload 4, 2) := dk_21 4 (dk_at dksX6_caused_2 17 rfl rfl)
theorem dX6_caused_67 : decode cX6_caused 67 = .ok (.iconst 1, 1) := dk_4 (dk_at dksX6_caused_2 19 rfl rfl)
theorem dX6_caused_68 : decode cX6_caused 68 = .ok (.iadd, 1) := dk_96 (dk_at dksX6_caused_2 20 rfl rfl)
theorem dX6_caused_69 : decode cX6_caused 69 = .ok (.iaload, 1) := dk_46 (dk_at dksX6_caused_2 21 rfl rfl)
theorem dX6_caused_70 : decode cX6_caused 70 = .ok (.if_icmp .ge 58, 3) := dk_162 0 58 (dk_at dksX6_caused_3 0 rfl rfl)
theorem dX6_caused_73 : decode cX6_caused 73 = .ok (.aload_n 0, 1) := dk_42 (dk_at dksX6_caused_3 3 rfl rfl)
theorem dX6_caused_74 : decode cX6_caused 74 = .ok (.getfield 215, 3) := dk_180 0 215 (dk_at dksX6_caused_3 4 rfl rfl)
theorem dX6_caused_77 : decode cX6_caused 77 = .ok (.iload 5, 2) := dk_21 5 (dk_at dksX6_caused_3 7 rfl rfl)
theorem dX6_caused_79 : decode cX6_caused 79 = .ok (.iaload, 1) := dk_46 (dk_at dksX6_caused_3 9 rfl rfl)
theorem dX6_caused_80 : decode cX6_caused 80 = .ok (.istore 6, 2) := dk_54 6 (dk_at dksX6_caused_3 10 rfl rfl)
theorem dX6_caused_82 : decode cX6_caused 82 = .ok (.iload 6, 2) := dk_21 6 (dk_at dksX6_caused_3 12 rfl rfl)
theorem dX6_caused_84 : decode cX6_caused 84 = .ok (.iload_n 2, 1) := dk_28 (dk_at dksX6_caused_3 14 rfl rfl)
theorem dX6_caused_85 : decode cX6_caused 85 = .ok (.if_icmp .ne 5, 3) := dk_160 0 5 (dk_at dksX6_caused_3 15 rfl rfl)
theorem dX6_caused_88 : decode cX6_caused 88 = .ok (.iconst 1, 1) := dk_4 (dk_at dksX6_caused_3 18 rfl rfl)
theorem dX6_caused_89 : decode cX6_caused 89 = .ok (.ireturn, 1) := dk_172 (dk_at dksX6_caused_3 19 rfl rfl)
theorem dX6_caused_90 : decode cX6_caused 90 = .ok (.aload_n 0, 1) := dk_42 (dk_at dksX6_caused_3 20 rfl rfl)
theorem dX6_caused_91 : decode cX6_caused 91 = .ok (.getfield 221, 3) := dk_180 0 221 (dk_at dksX6_caused_3 21 rfl rfl)
theorem dX6_caused_94 : decode cX6_caused 94 = .ok (.iload 6, 2) := dk_21 6 (dk_at dksX6_caused_4 0 rfl rfl)
theorem dX6_caused_96 : decode cX6_caused 96 = .ok (.baload, 1) := dk_51 (dk_at dksX6_caused_4 2 rfl rfl)
theorem dX6_caused_97 : decode cX6_caused 97 = .ok (.ifCond .eq 6, 3) := dk_153 0 6 (dk_at dksX6_caused_4 3 rfl rfl)
theorem dX6_caused_100 : decode cX6_caused 100 = .ok (.goto 22, 3) := dk_167 0 22 (dk_at dksX6_caused_4 6 rfl rfl)
theorem dX6_caused_103 : decode cX6_caused 103 = .ok (.aload_n 0, 1) := dk_42 (dk_at dksX6_caused_4 9 rfl rfl)
theorem dX6_caused_104 : decode cX6_caused 104 = .ok (.getfield 221, 3) := dk_180 0 221 (dk_at dksX6_caused_4 10 rfl rfl)
theorem dX6_caused_107 : decode cX6_caused 107 = .ok (.iload 6, 2) := dk_21 6 (dk_at dksX6_caused_4 13 rfl rfl)
theorem dX6_caused_109 : decode cX6_caused 109 = .ok (.iconst 1, 1) := dk_4 (dk_at dksX6_caused_4 15 rfl rfl)
theorem dX6_caused_110 : decode cX6_caused 110 = .ok (.bastore, 1) := dk_84 (dk_at dksX6_caused_4 16 rfl rfl)
theorem dX6_caused_111 : decode cX6_caused 111 = .ok (.aload_n 0, 1) := dk_42 (dk_at dksX6_caused_4 17 rfl rfl)
theorem dX6_caused_112 : decode cX6_caused 112 = .ok (.getfield 224, 3) := dk_180 0 224 (dk_at dksX6_caused_4 18 rfl rfl)
theorem dX6_caused_115 : decode cX6_caused 115 = .ok (.iload_n 3, 1) := dk_29 (dk_at dksX6_caused_4 21 rfl rfl)
theorem dX6_caused_116 : decode cX6_caused 116 = .ok (.iinc 3 1, 3) := dk_132 3 1 (dk_at dksX6_caused_5 0 rfl rfl)
theorem dX6_caused_119 : decode cX6_caused 119 = .ok (.iload 6, 2) := dk_21 6 (dk_at dksX6_caused_5 3 rfl rfl)
theorem dX6_caused_121 : decode cX6_caused 121 = .ok (.iastore, 1) := dk_79 (dk_at dksX6_caused_5 5 rfl rfl)
theorem dX6_caused_122 : decode cX6_caused 122 = .ok (.iinc 5 1, 3) := dk_132 5 1 (dk_at dksX6_caused_5 6 rfl rfl)
theorem dX6_caused_125 : decode cX6_caused 125 = .ok (.goto (-66), 3) := dk_167 255 190 (dk_at dksX6_caused_5 9 rfl rfl)
theorem dX6_caused_128 : decode cX6_caused 128 = .ok (.goto (-93), 3) := dk_167 255 163 (dk_at dksX6_caused_5 12 rfl rfl)
theorem dX6_caused_131 : decode cX6_caused 131 = .ok (.iconst 0, 1) := dk_3 (dk_at dksX6_caused_5 15 rfl rfl)
theorem dX6_caused_132 : decode cX6_caused 132 = .ok (.ireturn, 1) := dk_172 (dk_at dksX6_caused_5 16 rfl rfl)
abbrev cX6_placeOfVariable : ByteArray := prog_26_method_59_code
def yX6_placeOfVariable : MethodName := ⟨RX6, "placeOfVariable", "(I)I"⟩
def dkwX6_placeOfVariable_4 : List UInt8 := [180, 0, 90, 21, 5, 46, 172]
abbrev dktX6_placeOfVariable_4 : List UInt8 := dkwX6_placeOfVariable_4 ++ []
def dkwX6_placeOfVariable_3 : List UInt8 := [42, 180, 0, 96, 21, 5, 46, 42, 180, 0, 190, 28, 46, 162, 0, 9, 132, 5, 1, 167, 255, 237, 42]
abbrev dktX6_placeOfVariable_3 : List UInt8 := dkwX6_placeOfVariable_3 ++ dktX6_placeOfVariable_4
def dkwX6_placeOfVariable_2 : List UInt8 := [21, 4, 96, 46, 46, 172, 42, 180, 0, 59, 42, 180, 0, 184, 42, 180, 0, 187, 28, 46, 46, 46, 54, 5]
abbrev dktX6_placeOfVariable_2 : List UInt8 := dkwX6_placeOfVariable_2 ++ dktX6_placeOfVariable_3
def dkwX6_placeOfVariable_1 : List UInt8 := [42, 180, 0, 53, 29, 46, 161, 0, 23, 42, 180, 0, 90, 42, 180, 0, 154, 42, 180, 0, 50, 29, 46]
abbrev dktX6_placeOfVariable_1 : List UInt8 := dkwX6_placeOfVariable_1 ++ dktX6_placeOfVariable_2
def dkwX6_placeOfVariable_0 : List UInt8 := [42, 180, 0, 205, 27, 46, 61, 42, 180, 0, 184, 28, 46, 62, 42, 180, 0, 208, 27, 46, 54, 4, 21, 4]
abbrev dktX6_placeOfVariable_0 : List UInt8 := dkwX6_placeOfVariable_0 ++ dktX6_placeOfVariable_1
theorem dksX6_placeOfVariable_0 : cX6_placeOfVariable.data.toList.drop 0 = dktX6_placeOfVariable_0 := by decide +kernel
theorem dksX6_placeOfVariable_1 : cX6_placeOfVariable.data.toList.drop 24 = dktX6_placeOfVariable_1 := dk_seg dksX6_placeOfVariable_0 24 rfl rfl
theorem dksX6_placeOfVariable_2 : cX6_placeOfVariable.data.toList.drop 47 = dktX6_placeOfVariable_2 := dk_seg dksX6_placeOfVariable_1 23 rfl rfl
theorem dksX6_placeOfVariable_3 : cX6_placeOfVariable.data.toList.drop 71 = dktX6_placeOfVariable_3 := dk_seg dksX6_placeOfVariable_2 24 rfl rfl
theorem dksX6_placeOfVariable_4 : cX6_placeOfVariable.data.toList.drop 94 = dktX6_placeOfVariable_4 := dk_seg dksX6_placeOfVariable_3 23 rfl rfl
theorem dX6_placeOfVariable_0 : decode cX6_placeOfVariable 0 = .ok (.aload_n 0, 1) := dk_42 (dk_at dksX6_placeOfVariable_0 0 rfl rfl)
theorem dX6_placeOfVariable_1 : decode cX6_placeOfVariable 1 = .ok (.getfield 205, 3) := dk_180 0 205 (dk_at dksX6_placeOfVariable_0 1 rfl rfl)
theorem dX6_placeOfVariable_4 : decode cX6_placeOfVariable 4 = .ok (.iload_n 1, 1) := dk_27 (dk_at dksX6_placeOfVariable_0 4 rfl rfl)
theorem dX6_placeOfVariable_5 : decode cX6_placeOfVariable 5 = .ok (.iaload, 1) := dk_46 (dk_at dksX6_placeOfVariable_0 5 rfl rfl)
theorem dX6_placeOfVariable_6 : decode cX6_placeOfVariable 6 = .ok (.istore_n 2, 1) := dk_61 (dk_at dksX6_placeOfVariable_0 6 rfl rfl)
theorem dX6_placeOfVariable_7 : decode cX6_placeOfVariable 7 = .ok (.aload_n 0, 1) := dk_42 (dk_at dksX6_placeOfVariable_0 7 rfl rfl)
theorem dX6_placeOfVariable_8 : decode cX6_placeOfVariable 8 = .ok (.getfield 184, 3) := dk_180 0 184 (dk_at dksX6_placeOfVariable_0 8 rfl rfl)
theorem dX6_placeOfVariable_11 : decode cX6_placeOfVariable 11 = .ok (.iload_n 2, 1) := dk_28 (dk_at dksX6_placeOfVariable_0 11 rfl rfl)
theorem dX6_placeOfVariable_12 : decode cX6_placeOfVariable 12 = .ok (.iaload, 1) := dk_46 (dk_at dksX6_placeOfVariable_0 12 rfl rfl)
theorem dX6_placeOfVariable_13 : decode cX6_placeOfVariable 13 = .ok (.istore_n 3, 1) := dk_62 (dk_at dksX6_placeOfVariable_0 13 rfl rfl)
theorem dX6_placeOfVariable_14 : decode cX6_placeOfVariable 14 = .ok (.aload_n 0, 1) := dk_42 (dk_at dksX6_placeOfVariable_0 14 rfl rfl)
theorem dX6_placeOfVariable_15 : decode cX6_placeOfVariable 15 = .ok (.getfield 208, 3) := dk_180 0 208 (dk_at dksX6_placeOfVariable_0 15 rfl rfl)
theorem dX6_placeOfVariable_18 : decode cX6_placeOfVariable 18 = .ok (.iload_n 1, 1) := dk_27 (dk_at dksX6_placeOfVariable_0 18 rfl rfl)
theorem dX6_placeOfVariable_19 : decode cX6_placeOfVariable 19 = .ok (.iaload, 1) := dk_46 (dk_at dksX6_placeOfVariable_0 19 rfl rfl)
theorem dX6_placeOfVariable_20 : decode cX6_placeOfVariable 20 = .ok (.istore 4, 2) := dk_54 4 (dk_at dksX6_placeOfVariable_0 20 rfl rfl)
theorem dX6_placeOfVariable_22 : decode cX6_placeOfVariable 22 = .ok (.iload 4, 2) := dk_21 4 (dk_at dksX6_placeOfVariable_0 22 rfl rfl)
theorem dX6_placeOfVariable_24 : decode cX6_placeOfVariable 24 = .ok (.aload_n 0, 1) := dk_42 (dk_at dksX6_placeOfVariable_1 0 rfl rfl)
theorem dX6_placeOfVariable_25 : decode cX6_placeOfVariable 25 = .ok (.getfield 53, 3) := dk_180 0 53 (dk_at dksX6_placeOfVariable_1 1 rfl rfl)
theorem dX6_placeOfVariable_28 : decode cX6_placeOfVariable 28 = .ok (.iload_n 3, 1) := dk_29 (dk_at dksX6_placeOfVariable_1 4 rfl rfl)
theorem dX6_placeOfVariable_29 : decode cX6_placeOfVariable 29 = .ok (.iaload, 1) := dk_46 (dk_at dksX6_placeOfVariable_1 5 rfl rfl)
theorem dX6_placeOfVariable_30 : decode cX6_placeOfVariable 30 = .ok (.if_icmp .lt 23, 3) := dk_161 0 23 (dk_at dksX6_placeOfVariable_1 6 rfl rfl)
theorem dX6_placeOfVariable_33 : decode cX6_placeOfVariable 33 = .ok (.aload_n 0, 1) := dk_42 (dk_at dksX6_placeOfVariable_1 9 rfl rfl)
theorem dX6_placeOfVariable_34 : decode cX6_placeOfVariable 34 = .ok (.getfield 90, 3) := dk_180 0 90 (dk_at dksX6_placeOfVariable_1 10 rfl rfl)
theorem dX6_placeOfVariable_37 : decode cX6_placeOfVariable 37 = .ok (.aload_n 0, 1) := dk_42 (dk_at dksX6_placeOfVariable_1 13 rfl rfl)
theorem dX6_placeOfVariable_38 : decode cX6_placeOfVariable 38 = .ok (.getfield 154, 3) := dk_180 0 154 (dk_at dksX6_placeOfVariable_1 14 rfl rfl)
theorem dX6_placeOfVariable_41 : decode cX6_placeOfVariable 41 = .ok (.aload_n 0, 1) := dk_42 (dk_at dksX6_placeOfVariable_1 17 rfl rfl)
theorem dX6_placeOfVariable_42 : decode cX6_placeOfVariable 42 = .ok (.getfield 50, 3) := dk_180 0 50 (dk_at dksX6_placeOfVariable_1 18 rfl rfl)
theorem dX6_placeOfVariable_45 : decode cX6_placeOfVariable 45 = .ok (.iload_n 3, 1) := dk_29 (dk_at dksX6_placeOfVariable_1 21 rfl rfl)
theorem dX6_placeOfVariable_46 : decode cX6_placeOfVariable 46 = .ok (.iaload, 1) := dk_46 (dk_at dksX6_placeOfVariable_1 22 rfl rfl)
theorem dX6_placeOfVariable_47 : decode cX6_placeOfVariable 47 = .ok (.iload 4, 2) := dk_21 4 (dk_at dksX6_placeOfVariable_2 0 rfl rfl)
theorem dX6_placeOfVariable_49 : decode cX6_placeOfVariable 49 = .ok (.iadd, 1) := dk_96 (dk_at dksX6_placeOfVariable_2 2 rfl rfl)
theorem dX6_placeOfVariable_50 : decode cX6_placeOfVariable 50 = .ok (.iaload, 1) := dk_46 (dk_at dksX6_placeOfVariable_2 3 rfl rfl)
theorem dX6_placeOfVariable_51 : decode cX6_placeOfVariable 51 = .ok (.iaload, 1) := dk_46 (dk_at dksX6_placeOfVariable_2 4 rfl rfl)
theorem dX6_placeOfVariable_52 : decode cX6_placeOfVariable 52 = .ok (.ireturn, 1) := dk_172 (dk_at dksX6_placeOfVariable_2 5 rfl rfl)
theorem dX6_placeOfVariable_53 : decode cX6_placeOfVariable 53 = .ok (.aload_n 0, 1) := dk_42 (dk_at dksX6_placeOfVariable_2 6 rfl rfl)
theorem dX6_placeOfVariable_54 : decode cX6_placeOfVariable 54 = .ok (.getfield 59, 3) := dk_180 0 59 (dk_at dksX6_placeOfVariable_2 7 rfl rfl)
theorem dX6_placeOfVariable_57 : decode cX6_placeOfVariable 57 = .ok (.aload_n 0, 1) := dk_42 (dk_at dksX6_placeOfVariable_2 10 rfl rfl)
theorem dX6_placeOfVariable_58 : decode cX6_placeOfVariable 58 = .ok (.getfield 184, 3) := dk_180 0 184 (dk_at dksX6_placeOfVariable_2 11 rfl rfl)
theorem dX6_placeOfVariable_61 : decode cX6_placeOfVariable 61 = .ok (.aload_n 0, 1) := dk_42 (dk_at dksX6_placeOfVariable_2 14 rfl rfl)
theorem dX6_placeOfVariable_62 : decode cX6_placeOfVariable 62 = .ok (.getfield 187, 3) := dk_180 0 187 (dk_at dksX6_placeOfVariable_2 15 rfl rfl)
theorem dX6_placeOfVariable_65 : decode cX6_placeOfVariable 65 = .ok (.iload_n 2, 1) := dk_28 (dk_at dksX6_placeOfVariable_2 18 rfl rfl)
theorem dX6_placeOfVariable_66 : decode cX6_placeOfVariable 66 = .ok (.iaload, 1) := dk_46 (dk_at dksX6_placeOfVariable_2 19 rfl rfl)
theorem dX6_placeOfVariable_67 : decode cX6_placeOfVariable 67 = .ok (.iaload, 1) := dk_46 (dk_at dksX6_placeOfVariable_2 20 rfl rfl)
theorem dX6_placeOfVariable_68 : decode cX6_placeOfVariable 68 = .ok (.iaload, 1) := dk_46 (dk_at dksX6_placeOfVariable_2 21 rfl rfl)
theorem dX6_placeOfVariable_69 : decode cX6_placeOfVariable 69 = .ok (.istore 5, 2) := dk_54 5 (dk_at dksX6_placeOfVariable_2 22 rfl rfl)
theorem dX6_placeOfVariable_71 : decode cX6_placeOfVariable 71 = .ok (.aload_n 0, 1) := dk_42 (dk_at dksX6_placeOfVariable_3 0 rfl rfl)
theorem dX6_placeOfVariable_72 : decode cX6_placeOfVariable 72 = .ok (.getfield 96, 3) := dk_180 0 96 (dk_at dksX6_placeOfVariable_3 1 rfl rfl)
theorem dX6_placeOfVariable_75 : decode cX6_placeOfVariable 75 = .ok (.iload 5, 2) := dk_21 5 (dk_at dksX6_placeOfVariable_3 4 rfl rfl)
theorem dX6_placeOfVariable_77 : decode cX6_placeOfVariable 77 = .ok (.iaload, 1) := dk_46 (dk_at dksX6_placeOfVariable_3 6 rfl rfl)
theorem dX6_placeOfVariable_78 : decode cX6_placeOfVariable 78 = .ok (.aload_n 0, 1) := dk_42 (dk_at dksX6_placeOfVariable_3 7 rfl rfl)
theorem dX6_placeOfVariable_79 : decode cX6_placeOfVariable 79 = .ok (.getfield 190, 3) := dk_180 0 190 (dk_at dksX6_placeOfVariable_3 8 rfl rfl)
theorem dX6_placeOfVariable_82 : decode cX6_placeOfVariable 82 = .ok (.iload_n 2, 1) := dk_28 (dk_at dksX6_placeOfVariable_3 11 rfl rfl)
theorem dX6_placeOfVariable_83 : decode cX6_placeOfVariable 83 = .ok (.iaload, 1) := dk_46 (dk_at dksX6_placeOfVariable_3 12 rfl rfl)
theorem dX6_placeOfVariable_84 : decode cX6_placeOfVariable 84 = .ok (.if_icmp .ge 9, 3) := dk_162 0 9 (dk_at dksX6_placeOfVariable_3 13 rfl rfl)
theorem dX6_placeOfVariable_87 : decode cX6_placeOfVariable 87 = .ok (.iinc 5 1, 3) := dk_132 5 1 (dk_at dksX6_placeOfVariable_3 16 rfl rfl)
theorem dX6_placeOfVariable_90 : decode cX6_placeOfVariable 90 = .ok (.goto (-19), 3) := dk_167 255 237 (dk_at dksX6_placeOfVariable_3 19 rfl rfl)
theorem dX6_placeOfVariable_93 : decode cX6_placeOfVariable 93 = .ok (.aload_n 0, 1) := dk_42 (dk_at dksX6_placeOfVariable_3 22 rfl rfl)
theorem dX6_placeOfVariable_94 : decode cX6_placeOfVariable 94 = .ok (.getfield 90, 3) := dk_180 0 90 (dk_at dksX6_placeOfVariable_4 0 rfl rfl)
theorem dX6_placeOfVariable_97 : decode cX6_placeOfVariable 97 = .ok (.iload 5, 2) := dk_21 5 (dk_at dksX6_placeOfVariable_4 3 rfl rfl)
theorem dX6_placeOfVariable_99 : decode cX6_placeOfVariable 99 = .ok (.iaload, 1) := dk_46 (dk_at dksX6_placeOfVariable_4 5 rfl rfl)
theorem dX6_placeOfVariable_100 : decode cX6_placeOfVariable 100 = .ok (.ireturn, 1) := dk_172 (dk_at dksX6_placeOfVariable_4 6 rfl rfl)
abbrev cX6_fault : ByteArray := prog_26_method_61_code
def yX6_fault : MethodName := ⟨RX6, "fault", "(I)I"⟩
def dkwX6_fault_1 : List UInt8 := [180, 0, 24, 167, 0, 4, 2, 172]
abbrev dktX6_fault_1 : List UInt8 := dkwX6_fault_1 ++ []
def dkwX6_fault_0 : List UInt8 := [42, 3, 181, 0, 18, 27, 154, 0, 10, 42, 180, 0, 21, 167, 0, 16, 27, 4, 160, 0, 10, 42]
abbrev dktX6_fault_0 : List UInt8 := dkwX6_fault_0 ++ dktX6_fault_1
theorem dksX6_fault_0 : cX6_fault.data.toList.drop 0 = dktX6_fault_0 := by decide +kernel
theorem dksX6_fault_1 : cX6_fault.data.toList.drop 22 = dktX6_fault_1 := dk_seg dksX6_fault_0 22 rfl rfl
theorem dX6_fault_0 : decode cX6_fault 0 = .ok (.aload_n 0, 1) := dk_42 (dk_at dksX6_fault_0 0 rfl rfl)
theorem dX6_fault_1 : decode cX6_fault 1 = .ok (.iconst 0, 1) := dk_3 (dk_at dksX6_fault_0 1 rfl rfl)
theorem dX6_fault_2 : decode cX6_fault 2 = .ok (.putfield 18, 3) := dk_181 0 18 (dk_at dksX6_fault_0 2 rfl rfl)
theorem dX6_fault_5 : decode cX6_fault 5 = .ok (.iload_n 1, 1) := dk_27 (dk_at dksX6_fault_0 5 rfl rfl)
theorem dX6_fault_6 : decode cX6_fault 6 = .ok (.ifCond .ne 10, 3) := dk_154 0 10 (dk_at dksX6_fault_0 6 rfl rfl)
theorem dX6_fault_9 : decode cX6_fault 9 = .ok (.aload_n 0, 1) := dk_42 (dk_at dksX6_fault_0 9 rfl rfl)
theorem dX6_fault_10 : decode cX6_fault 10 = .ok (.getfield 21, 3) := dk_180 0 21 (dk_at dksX6_fault_0 10 rfl rfl)
theorem dX6_fault_13 : decode cX6_fault 13 = .ok (.goto 16, 3) := dk_167 0 16 (dk_at dksX6_fault_0 13 rfl rfl)
theorem dX6_fault_16 : decode cX6_fault 16 = .ok (.iload_n 1, 1) := dk_27 (dk_at dksX6_fault_0 16 rfl rfl)
theorem dX6_fault_17 : decode cX6_fault 17 = .ok (.iconst 1, 1) := dk_4 (dk_at dksX6_fault_0 17 rfl rfl)
theorem dX6_fault_18 : decode cX6_fault 18 = .ok (.if_icmp .ne 10, 3) := dk_160 0 10 (dk_at dksX6_fault_0 18 rfl rfl)
theorem dX6_fault_21 : decode cX6_fault 21 = .ok (.aload_n 0, 1) := dk_42 (dk_at dksX6_fault_0 21 rfl rfl)
theorem dX6_fault_22 : decode cX6_fault 22 = .ok (.getfield 24, 3) := dk_180 0 24 (dk_at dksX6_fault_1 0 rfl rfl)
theorem dX6_fault_25 : decode cX6_fault 25 = .ok (.goto 4, 3) := dk_167 0 4 (dk_at dksX6_fault_1 3 rfl rfl)
theorem dX6_fault_28 : decode cX6_fault 28 = .ok (.iconst (-1), 1) := dk_2 (dk_at dksX6_fault_1 6 rfl rfl)
theorem dX6_fault_29 : decode cX6_fault 29 = .ok (.ireturn, 1) := dk_172 (dk_at dksX6_fault_1 7 rfl rfl)
abbrev cX6_tick : ByteArray := prog_26_method_69_code
def yX6_tick : MethodName := ⟨RX6, "tick", "(I)I"⟩
def dkwX6_tick_3 : List UInt8 := [180, 0, 233, 172]
abbrev dktX6_tick_3 : List UInt8 := dkwX6_tick_3 ++ []
def dkwX6_tick_2 : List UInt8 := [153, 0, 5, 3, 172, 3, 61, 28, 27, 162, 0, 13, 42, 182, 2, 39, 132, 2, 1, 167, 255, 244, 42]
abbrev dktX6_tick_2 : List UInt8 := dkwX6_tick_2 ++ dktX6_tick_3
def dkwX6_tick_1 : List UInt8 := [182, 1, 14, 154, 0, 23, 42, 5, 42, 180, 0, 163, 156, 0, 7, 4, 167, 0, 4, 3, 182, 1, 14]
abbrev dktX6_tick_1 : List UInt8 := dkwX6_tick_1 ++ dktX6_tick_2
def dkwX6_tick_0 : List UInt8 := [42, 3, 181, 0, 18, 42, 4, 27, 4, 161, 0, 10, 27, 17, 3, 232, 164, 0, 7, 4, 167, 0, 4, 3]
abbrev dktX6_tick_0 : List UInt8 := dkwX6_tick_0 ++ dktX6_tick_1
theorem dksX6_tick_0 : cX6_tick.data.toList.drop 0 = dktX6_tick_0 := by decide +kernel
theorem dksX6_tick_1 : cX6_tick.data.toList.drop 24 = dktX6_tick_1 := dk_seg dksX6_tick_0 24 rfl rfl
theorem dksX6_tick_2 : cX6_tick.data.toList.drop 47 = dktX6_tick_2 := dk_seg dksX6_tick_1 23 rfl rfl
theorem dksX6_tick_3 : cX6_tick.data.toList.drop 70 = dktX6_tick_3 := dk_seg dksX6_tick_2 23 rfl rfl
theorem dX6_tick_0 : decode cX6_tick 0 = .ok (.aload_n 0, 1) := dk_42 (dk_at dksX6_tick_0 0 rfl rfl)
theorem dX6_tick_1 : decode cX6_tick 1 = .ok (.iconst 0, 1) := dk_3 (dk_at dksX6_tick_0 1 rfl rfl)
theorem dX6_tick_2 : decode cX6_tick 2 = .ok (.putfield 18, 3) := dk_181 0 18 (dk_at dksX6_tick_0 2 rfl rfl)
theorem dX6_tick_5 : decode cX6_tick 5 = .ok (.aload_n 0, 1) := dk_42 (dk_at dksX6_tick_0 5 rfl rfl)
theorem dX6_tick_6 : decode cX6_tick 6 = .ok (.iconst 1, 1) := dk_4 (dk_at dksX6_tick_0 6 rfl rfl)
theorem dX6_tick_7 : decode cX6_tick 7 = .ok (.iload_n 1, 1) := dk_27 (dk_at dksX6_tick_0 7 rfl rfl)
theorem dX6_tick_8 : decode cX6_tick 8 = .ok (.iconst 1, 1) := dk_4 (dk_at dksX6_tick_0 8 rfl rfl)
theorem dX6_tick_9 : decode cX6_tick 9 = .ok (.if_icmp .lt 10, 3) := dk_161 0 10 (dk_at dksX6_tick_0 9 rfl rfl)
theorem dX6_tick_12 : decode cX6_tick 12 = .ok (.iload_n 1, 1) := dk_27 (dk_at dksX6_tick_0 12 rfl rfl)
theorem dX6_tick_13 : decode cX6_tick 13 = .ok (.sipush 1000, 3) := dk_17 3 232 (dk_at dksX6_tick_0 13 rfl rfl)
theorem dX6_tick_16 : decode cX6_tick 16 = .ok (.if_icmp .le 7, 3) := dk_164 0 7 (dk_at dksX6_tick_0 16 rfl rfl)
theorem dX6_tick_19 : decode cX6_tick 19 = .ok (.iconst 1, 1) := dk_4 (dk_at dksX6_tick_0 19 rfl rfl)
theorem dX6_tick_20 : decode cX6_tick 20 = .ok (.goto 4, 3) := dk_167 0 4 (dk_at dksX6_tick_0 20 rfl rfl)
theorem dX6_tick_23 : decode cX6_tick 23 = .ok (.iconst 0, 1) := dk_3 (dk_at dksX6_tick_0 23 rfl rfl)
theorem dX6_tick_24 : decode cX6_tick 24 = .ok (.invokevirtual 270, 3) := dk_182 1 14 (dk_at dksX6_tick_1 0 rfl rfl)
theorem dX6_tick_27 : decode cX6_tick 27 = .ok (.ifCond .ne 23, 3) := dk_154 0 23 (dk_at dksX6_tick_1 3 rfl rfl)
theorem dX6_tick_30 : decode cX6_tick 30 = .ok (.aload_n 0, 1) := dk_42 (dk_at dksX6_tick_1 6 rfl rfl)
theorem dX6_tick_31 : decode cX6_tick 31 = .ok (.iconst 2, 1) := dk_5 (dk_at dksX6_tick_1 7 rfl rfl)
theorem dX6_tick_32 : decode cX6_tick 32 = .ok (.aload_n 0, 1) := dk_42 (dk_at dksX6_tick_1 8 rfl rfl)
theorem dX6_tick_33 : decode cX6_tick 33 = .ok (.getfield 163, 3) := dk_180 0 163 (dk_at dksX6_tick_1 9 rfl rfl)
theorem dX6_tick_36 : decode cX6_tick 36 = .ok (.ifCond .ge 7, 3) := dk_156 0 7 (dk_at dksX6_tick_1 12 rfl rfl)
theorem dX6_tick_39 : decode cX6_tick 39 = .ok (.iconst 1, 1) := dk_4 (dk_at dksX6_tick_1 15 rfl rfl)
theorem dX6_tick_40 : decode cX6_tick 40 = .ok (.goto 4, 3) := dk_167 0 4 (dk_at dksX6_tick_1 16 rfl rfl)
theorem dX6_tick_43 : decode cX6_tick 43 = .ok (.iconst 0, 1) := dk_3 (dk_at dksX6_tick_1 19 rfl rfl)
theorem dX6_tick_44 : decode cX6_tick 44 = .ok (.invokevirtual 270, 3) := dk_182 1 14 (dk_at dksX6_tick_1 20 rfl rfl)
theorem dX6_tick_47 : decode cX6_tick 47 = .ok (.ifCond .eq 5, 3) := dk_153 0 5 (dk_at dksX6_tick_2 0 rfl rfl)
theorem dX6_tick_50 : decode cX6_tick 50 = .ok (.iconst 0, 1) := dk_3 (dk_at dksX6_tick_2 3 rfl rfl)
theorem dX6_tick_51 : decode cX6_tick 51 = .ok (.ireturn, 1) := dk_172 (dk_at dksX6_tick_2 4 rfl rfl)
theorem dX6_tick_52 : decode cX6_tick 52 = .ok (.iconst 0, 1) := dk_3 (dk_at dksX6_tick_2 5 rfl rfl)
theorem dX6_tick_53 : decode cX6_tick 53 = .ok (.istore_n 2, 1) := dk_61 (dk_at dksX6_tick_2 6 rfl rfl)
theorem dX6_tick_54 : decode cX6_tick 54 = .ok (.iload_n 2, 1) := dk_28 (dk_at dksX6_tick_2 7 rfl rfl)
theorem dX6_tick_55 : decode cX6_tick 55 = .ok (.iload_n 1, 1) := dk_27 (dk_at dksX6_tick_2 8 rfl rfl)
theorem dX6_tick_56 : decode cX6_tick 56 = .ok (.if_icmp .ge 13, 3) := dk_162 0 13 (dk_at dksX6_tick_2 9 rfl rfl)
theorem dX6_tick_59 : decode cX6_tick 59 = .ok (.aload_n 0, 1) := dk_42 (dk_at dksX6_tick_2 12 rfl rfl)
theorem dX6_tick_60 : decode cX6_tick 60 = .ok (.invokevirtual 551, 3) := dk_182 2 39 (dk_at dksX6_tick_2 13 rfl rfl)
theorem dX6_tick_63 : decode cX6_tick 63 = .ok (.iinc 2 1, 3) := dk_132 2 1 (dk_at dksX6_tick_2 16 rfl rfl)
theorem dX6_tick_66 : decode cX6_tick 66 = .ok (.goto (-12), 3) := dk_167 255 244 (dk_at dksX6_tick_2 19 rfl rfl)
theorem dX6_tick_69 : decode cX6_tick 69 = .ok (.aload_n 0, 1) := dk_42 (dk_at dksX6_tick_2 22 rfl rfl)
theorem dX6_tick_70 : decode cX6_tick 70 = .ok (.getfield 233, 3) := dk_180 0 233 (dk_at dksX6_tick_3 0 rfl rfl)
theorem dX6_tick_73 : decode cX6_tick 73 = .ok (.ireturn, 1) := dk_172 (dk_at dksX6_tick_3 3 rfl rfl)
abbrev cX6_instant : ByteArray := prog_26_method_67_code
def yX6_instant : MethodName := ⟨RX6, "instant", "()V"⟩
def dkwX6_instant_13 : List UInt8 := [184, 2, 30, 42, 89, 180, 0, 233, 4, 96, 181, 0, 233, 177]
abbrev dktX6_instant_13 : List UInt8 := dkwX6_instant_13 ++ []
def dkwX6_instant_12 : List UInt8 := [182, 2, 36, 132, 1, 1, 167, 255, 240, 42, 180, 0, 245, 3, 42, 180, 0, 242, 3, 42, 180, 0, 172]
abbrev dktX6_instant_12 : List UInt8 := dkwX6_instant_12 ++ dktX6_instant_13
def dkwX6_instant_11 : List UInt8 := [180, 0, 245, 3, 42, 180, 0, 172, 184, 2, 30, 3, 60, 27, 42, 180, 0, 166, 162, 0, 14, 42, 27]
abbrev dktX6_instant_11 : List UInt8 := dkwX6_instant_11 ++ dktX6_instant_12
def dkwX6_instant_10 : List UInt8 := [182, 2, 27, 79, 42, 180, 0, 251, 28, 4, 84, 132, 1, 1, 167, 255, 34, 42, 180, 0, 242, 3, 42]
abbrev dktX6_instant_10 : List UInt8 := dkwX6_instant_10 ++ dktX6_instant_11
def dkwX6_instant_9 : List UInt8 := [167, 0, 25, 42, 42, 180, 0, 187, 29, 46, 42, 42, 180, 0, 190, 29, 46, 21, 5, 182, 1, 233]
abbrev dktX6_instant_9 : List UInt8 := dkwX6_instant_9 ++ dktX6_instant_10
def dkwX6_instant_8 : List UInt8 := [167, 0, 50, 42, 180, 0, 239, 28, 42, 180, 0, 187, 29, 46, 156, 0, 13, 42, 180, 0, 236, 21, 5, 46]
abbrev dktX6_instant_8 : List UInt8 := dkwX6_instant_8 ++ dktX6_instant_9
def dkwX6_instant_7 : List UInt8 := [21, 5, 96, 46, 182, 1, 227, 46, 167, 0, 15, 42, 29, 42, 180, 0, 96, 21, 6, 46, 182, 2, 27, 79]
abbrev dktX6_instant_7 : List UInt8 := dkwX6_instant_7 ++ dktX6_instant_8
def dkwX6_instant_6 : List UInt8 := [180, 0, 239, 42, 29, 42, 180, 0, 96, 21, 6, 46, 42, 180, 0, 157, 42, 180, 0, 50, 21, 4, 46]
abbrev dktX6_instant_6 : List UInt8 := dkwX6_instant_6 ++ dktX6_instant_7
def dkwX6_instant_5 : List UInt8 := [42, 180, 0, 239, 28, 42, 180, 0, 112, 42, 180, 0, 96, 21, 6, 46, 46, 6, 160, 0, 38, 42]
abbrev dktX6_instant_5 : List UInt8 := dkwX6_instant_5 ++ dktX6_instant_6
def dkwX6_instant_4 : List UInt8 := [180, 0, 50, 21, 4, 46, 21, 5, 96, 46, 54, 6, 21, 5, 42, 180, 0, 53, 21, 4, 46, 161, 0, 75]
abbrev dktX6_instant_4 : List UInt8 := dkwX6_instant_4 ++ dktX6_instant_5
def dkwX6_instant_3 : List UInt8 := [180, 0, 50, 21, 4, 46, 21, 5, 96, 46, 182, 2, 15, 154, 0, 6, 167, 0, 158, 42, 180, 0, 154, 42]
abbrev dktX6_instant_3 : List UInt8 := dkwX6_instant_3 ++ dktX6_instant_4
def dkwX6_instant_2 : List UInt8 := [180, 0, 184, 29, 46, 54, 4, 42, 180, 0, 208, 28, 46, 54, 5, 42, 29, 42, 180, 0, 80, 42]
abbrev dktX6_instant_2 : List UInt8 := dkwX6_instant_2 ++ dktX6_instant_3
def dkwX6_instant_1 : List UInt8 := [60, 27, 42, 180, 0, 169, 162, 0, 220, 42, 180, 0, 227, 27, 46, 61, 42, 180, 0, 205, 28, 46, 62, 42]
abbrev dktX6_instant_1 : List UInt8 := dkwX6_instant_1 ++ dktX6_instant_2
def dkwX6_instant_0 : List UInt8 := [3, 60, 27, 42, 180, 0, 169, 162, 0, 16, 42, 180, 0, 251, 27, 3, 84, 132, 1, 1, 167, 255, 238, 3]
abbrev dktX6_instant_0 : List UInt8 := dkwX6_instant_0 ++ dktX6_instant_1
theorem dksX6_instant_0 : cX6_instant.data.toList.drop 0 = dktX6_instant_0 := by decide +kernel
theorem dksX6_instant_1 : cX6_instant.data.toList.drop 24 = dktX6_instant_1 := dk_seg dksX6_instant_0 24 rfl rfl
theorem dksX6_instant_2 : cX6_instant.data.toList.drop 48 = dktX6_instant_2 := dk_seg dksX6_instant_1 24 rfl rfl
theorem dksX6_instant_3 : cX6_instant.data.toList.drop 70 = dktX6_instant_3 := dk_seg dksX6_instant_2 22 rfl rfl
theorem dksX6_instant_4 : cX6_instant.data.toList.drop 94 = dktX6_instant_4 := dk_seg dksX6_instant_3 24 rfl rfl
theorem dksX6_instant_5 : cX6_instant.data.toList.drop 118 = dktX6_instant_5 := dk_seg dksX6_instant_4 24 rfl rfl
theorem dksX6_instant_6 : cX6_instant.data.toList.drop 140 = dktX6_instant_6 := dk_seg dksX6_instant_5 22 rfl rfl
theorem dksX6_instant_7 : cX6_instant.data.toList.drop 163 = dktX6_instant_7 := dk_seg dksX6_instant_6 23 rfl rfl
theorem dksX6_instant_8 : cX6_instant.data.toList.drop 187 = dktX6_instant_8 := dk_seg dksX6_instant_7 24 rfl rfl
theorem dksX6_instant_9 : cX6_instant.data.toList.drop 211 = dktX6_instant_9 := dk_seg dksX6_instant_8 24 rfl rfl
theorem dksX6_instant_10 : cX6_instant.data.toList.drop 233 = dktX6_instant_10 := dk_seg dksX6_instant_9 22 rfl rfl
theorem dksX6_instant_11 : cX6_instant.data.toList.drop 256 = dktX6_instant_11 := dk_seg dksX6_instant_10 23 rfl rfl
theorem dksX6_instant_12 : cX6_instant.data.toList.drop 279 = dktX6_instant_12 := dk_seg dksX6_instant_11 23 rfl rfl
theorem dksX6_instant_13 : cX6_instant.data.toList.drop 302 = dktX6_instant_13 := dk_seg dksX6_instant_12 23 rfl rfl
theorem dX6_instant_0 : decode cX6_instant 0 = .ok (.iconst 0, 1) := dk_3 (dk_at dksX6_instant_0 0 rfl rfl)
theorem dX6_instant_1 : decode cX6_instant 1 = .ok (.istore_n 1, 1) := dk_60 (dk_at dksX6_instant_0 1 rfl rfl)
theorem dX6_instant_2 : decode cX6_instant 2 = .ok (.iload_n 1, 1) := dk_27 (dk_at dksX6_instant_0 2 rfl rfl)
theorem dX6_instant_3 : decode cX6_instant 3 = .ok (.aload_n 0, 1) := dk_42 (dk_at dksX6_instant_0 3 rfl rfl)
theorem dX6_instant_4 : decode cX6_instant 4 = .ok (.getfield 169, 3) := dk_180 0 169 (dk_at dksX6_instant_0 4 rfl rfl)
theorem dX6_instant_7 : decode cX6_instant 7 = .ok (.if_icmp .ge 16, 3) := dk_162 0 16 (dk_at dksX6_instant_0 7 rfl rfl)
theorem dX6_instant_10 : decode cX6_instant 10 = .ok (.aload_n 0, 1) := dk_42 (dk_at dksX6_instant_0 10 rfl rfl)
theorem dX6_instant_11 : decode cX6_instant 11 = .ok (.getfield 251, 3) := dk_180 0 251 (dk_at dksX6_instant_0 11 rfl rfl)
theorem dX6_instant_14 : decode cX6_instant 14 = .ok (.iload_n 1, 1) := dk_27 (dk_at dksX6_instant_0 14 rfl rfl)
theorem dX6_instant_15 : decode cX6_instant 15 = .ok (.iconst 0, 1) := dk_3 (dk_at dksX6_instant_0 15 rfl rfl)
theorem dX6_instant_16 : decode cX6_instant 16 = .ok (.bastore, 1) := dk_84 (dk_at dksX6_instant_0 16 rfl rfl)
theorem dX6_instant_17 : decode cX6_instant 17 = .ok (.iinc 1 1, 3) := dk_132 1 1 (dk_at dksX6_instant_0 17 rfl rfl)
theorem dX6_instant_20 : decode cX6_instant 20 = .ok (.goto (-18), 3) := dk_167 255 238 (dk_at dksX6_instant_0 20 rfl rfl)
theorem dX6_instant_23 : decode cX6_instant 23 = .ok (.iconst 0, 1) := dk_3 (dk_at dksX6_instant_0 23 rfl rfl)
theorem dX6_instant_24 : decode cX6_instant 24 = .ok (.istore_n 1, 1) := dk_60 (dk_at dksX6_instant_1 0 rfl rfl)
theorem dX6_instant_25 : decode cX6_instant 25 = .ok (.iload_n 1, 1) := dk_27 (dk_at dksX6_instant_1 1 rfl rfl)
theorem dX6_instant_26 : decode cX6_instant 26 = .ok (.aload_n 0, 1) := dk_42 (dk_at dksX6_instant_1 2 rfl rfl)
theorem dX6_instant_27 : decode cX6_instant 27 = .ok (.getfield 169, 3) := dk_180 0 169 (dk_at dksX6_instant_1 3 rfl rfl)
theorem dX6_instant_30 : decode cX6_instant 30 = .ok (.if_icmp .ge 220, 3) := dk_162 0 220 (dk_at dksX6_instant_1 6 rfl rfl)
theorem dX6_instant_33 : decode cX6_instant 33 = .ok (.aload_n 0, 1) := dk_42 (dk_at dksX6_instant_1 9 rfl rfl)
theorem dX6_instant_34 : decode cX6_instant 34 = .ok (.getfield 227, 3) := dk_180 0 227 (dk_at dksX6_instant_1 10 rfl rfl)
theorem dX6_instant_37 : decode cX6_instant 37 = .ok (.iload_n 1, 1) := dk_27 (dk_at dksX6_instant_1 13 rfl rfl)
theorem dX6_instant_38 : decode cX6_instant 38 = .ok (.iaload, 1) := dk_46 (dk_at dksX6_instant_1 14 rfl rfl)
theorem dX6_instant_39 : decode cX6_instant 39 = .ok (.istore_n 2, 1) := dk_61 (dk_at dksX6_instant_1 15 rfl rfl)
theorem dX6_instant_40 : decode cX6_instant 40 = .ok (.aload_n 0, 1) := dk_42 (dk_at dksX6_instant_1 16 rfl rfl)
theorem dX6_instant_41 : decode cX6_instant 41 = .ok (.getfield 205, 3) := dk_180 0 205 (dk_at dksX6_instant_1 17 rfl rfl)
theorem dX6_instant_44 : decode cX6_instant 44 = .ok (.iload_n 2, 1) := dk_28 (dk_at dksX6_instant_1 20 rfl rfl)
theorem dX6_instant_45 : decode cX6_instant 45 = .ok (.iaload, 1) := dk_46 (dk_at dksX6_instant_1 21 rfl rfl)
theorem dX6_instant_46 : decode cX6_instant 46 = .ok (.istore_n 3, 1) := dk_62 (dk_at dksX6_instant_1 22 rfl rfl)
theorem dX6_instant_47 : decode cX6_instant 47 = .ok (.aload_n 0, 1) := dk_42 (dk_at dksX6_instant_1 23 rfl rfl)
theorem dX6_instant_48 : decode cX6_instant 48 = .ok (.getfield 184, 3) := dk_180 0 184 (dk_at dksX6_instant_2 0 rfl rfl)
theorem dX6_instant_51 : decode cX6_instant 51 = .ok (.iload_n 3, 1) := dk_29 (dk_at dksX6_instant_2 3 rfl rfl)
theorem dX6_instant_52 : decode cX6_instant 52 = .ok (.iaload, 1) := dk_46 (dk_at dksX6_instant_2 4 rfl rfl)
theorem dX6_instant_53 : decode cX6_instant 53 = .ok (.istore 4, 2) := dk_54 4 (dk_at dksX6_instant_2 5 rfl rfl)
theorem dX6_instant_55 : decode cX6_instant 55 = .ok (.aload_n 0, 1) := dk_42 (dk_at dksX6_instant_2 7 rfl rfl)
theorem dX6_instant_56 : decode cX6_instant 56 = .ok (.getfield 208, 3) := dk_180 0 208 (dk_at dksX6_instant_2 8 rfl rfl)
theorem dX6_instant_59 : decode cX6_instant 59 = .ok (.iload_n 2, 1) := dk_28 (dk_at dksX6_instant_2 11 rfl rfl)
theorem dX6_instant_60 : decode cX6_instant 60 = .ok (.iaload, 1) := dk_46 (dk_at dksX6_instant_2 12 rfl rfl)
theorem dX6_instant_61 : decode cX6_instant 61 = .ok (.istore 5, 2) := dk_54 5 (dk_at dksX6_instant_2 13 rfl rfl)
theorem dX6_instant_63 : decode cX6_instant 63 = .ok (.aload_n 0, 1) := dk_42 (dk_at dksX6_instant_2 15 rfl rfl)
theorem dX6_instant_64 : decode cX6_instant 64 = .ok (.iload_n 3, 1) := dk_29 (dk_at dksX6_instant_2 16 rfl rfl)
theorem dX6_instant_65 : decode cX6_instant 65 = .ok (.aload_n 0, 1) := dk_42 (dk_at dksX6_instant_2 17 rfl rfl)
theorem dX6_instant_66 : decode cX6_instant 66 = .ok (.getfield 80, 3) := dk_180 0 80 (dk_at dksX6_instant_2 18 rfl rfl)
theorem dX6_instant_69 : decode cX6_instant 69 = .ok (.aload_n 0, 1) := dk_42 (dk_at dksX6_instant_2 21 rfl rfl)
theorem dX6_instant_70 : decode cX6_instant 70 = .ok (.getfield 50, 3) := dk_180 0 50 (dk_at dksX6_instant_3 0 rfl rfl)
theorem dX6_instant_73 : decode cX6_instant 73 = .ok (.iload 4, 2) := dk_21 4 (dk_at dksX6_instant_3 3 rfl rfl)
theorem dX6_instant_75 : decode cX6_instant 75 = .ok (.iaload, 1) := dk_46 (dk_at dksX6_instant_3 5 rfl rfl)
theorem dX6_instant_76 : decode cX6_instant 76 = .ok (.iload 5, 2) := dk_21 5 (dk_at dksX6_instant_3 6 rfl rfl)
theorem dX6_instant_78 : decode cX6_instant 78 = .ok (.iadd, 1) := dk_96 (dk_at dksX6_instant_3 8 rfl rfl)
theorem dX6_instant_79 : decode cX6_instant 79 = .ok (.iaload, 1) := dk_46 (dk_at dksX6_instant_3 9 rfl rfl)
theorem dX6_instant_80 : decode cX6_instant 80 = .ok (.invokevirtual 527, 3) := dk_182 2 15 (dk_at dksX6_instant_3 10 rfl rfl)
theorem dX6_instant_83 : decode cX6_instant 83 = .ok (.ifCond .ne 6, 3) := dk_154 0 6 (dk_at dksX6_instant_3 13 rfl rfl)
theorem dX6_instant_86 : decode cX6_instant 86 = .ok (.goto 158, 3) := dk_167 0 158 (dk_at dksX6_instant_3 16 rfl rfl)
theorem dX6_instant_89 : decode cX6_instant 89 = .ok (.aload_n 0, 1) := dk_42 (dk_at dksX6_instant_3 19 rfl rfl)
theorem dX6_instant_90 : decode cX6_instant 90 = .ok (.getfield 154, 3) := dk_180 0 154 (dk_at dksX6_instant_3 20 rfl rfl)
theorem dX6_instant_93 : decode cX6_instant 93 = .ok (.aload_n 0, 1) := dk_42 (dk_at dksX6_instant_3 23 rfl rfl)
theorem dX6_instant_94 : decode cX6_instant 94 = .ok (.getfield 50, 3) := dk_180 0 50 (dk_at dksX6_instant_4 0 rfl rfl)
theorem dX6_instant_97 : decode cX6_instant 97 = .ok (.iload 4, 2) := dk_21 4 (dk_at dksX6_instant_4 3 rfl rfl)
theorem dX6_instant_99 : decode cX6_instant 99 = .ok (.iaload, 1) := dk_46 (dk_at dksX6_instant_4 5 rfl rfl)
theorem dX6_instant_100 : decode cX6_instant 100 = .ok (.iload 5, 2) := dk_21 5 (dk_at dksX6_instant_4 6 rfl rfl)
theorem dX6_instant_102 : decode cX6_instant 102 = .ok (.iadd, 1) := dk_96 (dk_at dksX6_instant_4 8 rfl rfl)
theorem dX6_instant_103 : decode cX6_instant 103 = .ok (.iaload, 1) := dk_46 (dk_at dksX6_instant_4 9 rfl rfl)
theorem dX6_instant_104 : decode cX6_instant 104 = .ok (.istore 6, 2) := dk_54 6 (dk_at dksX6_instant_4 10 rfl rfl)
theorem dX6_instant_106 : decode cX6_instant 106 = .ok (.iload 5, 2) := dk_21 5 (dk_at dksX6_instant_4 12 rfl rfl)
theorem dX6_instant_108 : decode cX6_instant 108 = .ok (.aload_n 0, 1) := dk_42 (dk_at dksX6_instant_4 14 rfl rfl)
theorem dX6_instant_109 : decode cX6_instant 109 = .ok (.getfield 53, 3) := dk_180 0 53 (dk_at dksX6_instant_4 15 rfl rfl)
theorem dX6_instant_112 : decode cX6_instant 112 = .ok (.iload 4, 2) := dk_21 4 (dk_at dksX6_instant_4 18 rfl rfl)
theorem dX6_instant_114 : decode cX6_instant 114 = .ok (.iaload, 1) := dk_46 (dk_at dksX6_instant_4 20 rfl rfl)
theorem dX6_instant_115 : decode cX6_instant 115 = .ok (.if_icmp .lt 75, 3) := dk_161 0 75 (dk_at dksX6_instant_4 21 rfl rfl)
theorem dX6_instant_118 : decode cX6_instant 118 = .ok (.aload_n 0, 1) := dk_42 (dk_at dksX6_instant_5 0 rfl rfl)
theorem dX6_instant_119 : decode cX6_instant 119 = .ok (.getfield 239, 3) := dk_180 0 239 (dk_at dksX6_instant_5 1 rfl rfl)
theorem dX6_instant_122 : decode cX6_instant 122 = .ok (.iload_n 2, 1) := dk_28 (dk_at dksX6_instant_5 4 rfl rfl)
theorem dX6_instant_123 : decode cX6_instant 123 = .ok (.aload_n 0, 1) := dk_42 (dk_at dksX6_instant_5 5 rfl rfl)
theorem dX6_instant_124 : decode cX6_instant 124 = .ok (.getfield 112, 3) := dk_180 0 112 (dk_at dksX6_instant_5 6 rfl rfl)
theorem dX6_instant_127 : decode cX6_instant 127 = .ok (.aload_n 0, 1) := dk_42 (dk_at dksX6_instant_5 9 rfl rfl)
theorem dX6_instant_128 : decode cX6_instant 128 = .ok (.getfield 96, 3) := dk_180 0 96 (dk_at dksX6_instant_5 10 rfl rfl)
theorem dX6_instant_131 : decode cX6_instant 131 = .ok (.iload 6, 2) := dk_21 6 (dk_at dksX6_instant_5 13 rfl rfl)
theorem dX6_instant_133 : decode cX6_instant 133 = .ok (.iaload, 1) := dk_46 (dk_at dksX6_instant_5 15 rfl rfl)
theorem dX6_instant_134 : decode cX6_instant 134 = .ok (.iaload, 1) := dk_46 (dk_at dksX6_instant_5 16 rfl rfl)
theorem dX6_instant_135 : decode cX6_instant 135 = .ok (.iconst 3, 1) := dk_6 (dk_at dksX6_instant_5 17 rfl rfl)
theorem dX6_instant_136 : decode cX6_instant 136 = .ok (.if_icmp .ne 38, 3) := dk_160 0 38 (dk_at dksX6_instant_5 18 rfl rfl)
theorem dX6_instant_139 : decode cX6_instant 139 = .ok (.aload_n 0, 1) := dk_42 (dk_at dksX6_instant_5 21 rfl rfl)
theorem dX6_instant_140 : decode cX6_instant 140 = .ok (.getfield 239, 3) := dk_180 0 239 (dk_at dksX6_instant_6 0 rfl rfl)
theorem dX6_instant_143 : decode cX6_instant 143 = .ok (.aload_n 0, 1) := dk_42 (dk_at dksX6_instant_6 3 rfl rfl)
theorem dX6_instant_144 : decode cX6_instant 144 = .ok (.iload_n 3, 1) := dk_29 (dk_at dksX6_instant_6 4 rfl rfl)
theorem dX6_instant_145 : decode cX6_instant 145 = .ok (.aload_n 0, 1) := dk_42 (dk_at dksX6_instant_6 5 rfl rfl)
theorem dX6_instant_146 : decode cX6_instant 146 = .ok (.getfield 96, 3) := dk_180 0 96 (dk_at dksX6_instant_6 6 rfl rfl)
theorem dX6_instant_149 : decode cX6_instant 149 = .ok (.iload 6, 2) := dk_21 6 (dk_at dksX6_instant_6 9 rfl rfl)
theorem dX6_instant_151 : decode cX6_instant 151 = .ok (.iaload, 1) := dk_46 (dk_at dksX6_instant_6 11 rfl rfl)
theorem dX6_instant_152 : decode cX6_instant 152 = .ok (.aload_n 0, 1) := dk_42 (dk_at dksX6_instant_6 12 rfl rfl)
theorem dX6_instant_153 : decode cX6_instant 153 = .ok (.getfield 157, 3) := dk_180 0 157 (dk_at dksX6_instant_6 13 rfl rfl)
theorem dX6_instant_156 : decode cX6_instant 156 = .ok (.aload_n 0, 1) := dk_42 (dk_at dksX6_instant_6 16 rfl rfl)
theorem dX6_instant_157 : decode cX6_instant 157 = .ok (.getfield 50, 3) := dk_180 0 50 (dk_at dksX6_instant_6 17 rfl rfl)
theorem dX6_instant_160 : decode cX6_instant 160 = .ok (.iload 4, 2) := dk_21 4 (dk_at dksX6_instant_6 20 rfl rfl)
theorem dX6_instant_162 : decode cX6_instant 162 = .ok (.iaload, 1) := dk_46 (dk_at dksX6_instant_6 22 rfl rfl)
theorem dX6_instant_163 : decode cX6_instant 163 = .ok (.iload 5, 2) := dk_21 5 (dk_at dksX6_instant_7 0 rfl rfl)
theorem dX6_instant_165 : decode cX6_instant 165 = .ok (.iadd, 1) := dk_96 (dk_at dksX6_instant_7 2 rfl rfl)
theorem dX6_instant_166 : decode cX6_instant 166 = .ok (.iaload, 1) := dk_46 (dk_at dksX6_instant_7 3 rfl rfl)
theorem dX6_instant_167 : decode cX6_instant 167 = .ok (.invokevirtual 483, 3) := dk_182 1 227 (dk_at dksX6_instant_7 4 rfl rfl)
theorem dX6_instant_170 : decode cX6_instant 170 = .ok (.iaload, 1) := dk_46 (dk_at dksX6_instant_7 7 rfl rfl)
theorem dX6_instant_171 : decode cX6_instant 171 = .ok (.goto 15, 3) := dk_167 0 15 (dk_at dksX6_instant_7 8 rfl rfl)
theorem dX6_instant_174 : decode cX6_instant 174 = .ok (.aload_n 0, 1) := dk_42 (dk_at dksX6_instant_7 11 rfl rfl)
theorem dX6_instant_175 : decode cX6_instant 175 = .ok (.iload_n 3, 1) := dk_29 (dk_at dksX6_instant_7 12 rfl rfl)
theorem dX6_instant_176 : decode cX6_instant 176 = .ok (.aload_n 0, 1) := dk_42 (dk_at dksX6_instant_7 13 rfl rfl)
theorem dX6_instant_177 : decode cX6_instant 177 = .ok (.getfield 96, 3) := dk_180 0 96 (dk_at dksX6_instant_7 14 rfl rfl)
theorem dX6_instant_180 : decode cX6_instant 180 = .ok (.iload 6, 2) := dk_21 6 (dk_at dksX6_instant_7 17 rfl rfl)
theorem dX6_instant_182 : decode cX6_instant 182 = .ok (.iaload, 1) := dk_46 (dk_at dksX6_instant_7 19 rfl rfl)
theorem dX6_instant_183 : decode cX6_instant 183 = .ok (.invokevirtual 539, 3) := dk_182 2 27 (dk_at dksX6_instant_7 20 rfl rfl)
theorem dX6_instant_186 : decode cX6_instant 186 = .ok (.iastore, 1) := dk_79 (dk_at dksX6_instant_7 23 rfl rfl)
theorem dX6_instant_187 : decode cX6_instant 187 = .ok (.goto 50, 3) := dk_167 0 50 (dk_at dksX6_instant_8 0 rfl rfl)
theorem dX6_instant_190 : decode cX6_instant 190 = .ok (.aload_n 0, 1) := dk_42 (dk_at dksX6_instant_8 3 rfl rfl)
theorem dX6_instant_191 : decode cX6_instant 191 = .ok (.getfield 239, 3) := dk_180 0 239 (dk_at dksX6_instant_8 4 rfl rfl)
theorem dX6_instant_194 : decode cX6_instant 194 = .ok (.iload_n 2, 1) := dk_28 (dk_at dksX6_instant_8 7 rfl rfl)
theorem dX6_instant_195 : decode cX6_instant 195 = .ok (.aload_n 0, 1) := dk_42 (dk_at dksX6_instant_8 8 rfl rfl)
theorem dX6_instant_196 : decode cX6_instant 196 = .ok (.getfield 187, 3) := dk_180 0 187 (dk_at dksX6_instant_8 9 rfl rfl)
theorem dX6_instant_199 : decode cX6_instant 199 = .ok (.iload_n 3, 1) := dk_29 (dk_at dksX6_instant_8 12 rfl rfl)
theorem dX6_instant_200 : decode cX6_instant 200 = .ok (.iaload, 1) := dk_46 (dk_at dksX6_instant_8 13 rfl rfl)
theorem dX6_instant_201 : decode cX6_instant 201 = .ok (.ifCond .ge 13, 3) := dk_156 0 13 (dk_at dksX6_instant_8 14 rfl rfl)
theorem dX6_instant_204 : decode cX6_instant 204 = .ok (.aload_n 0, 1) := dk_42 (dk_at dksX6_instant_8 17 rfl rfl)
theorem dX6_instant_205 : decode cX6_instant 205 = .ok (.getfield 236, 3) := dk_180 0 236 (dk_at dksX6_instant_8 18 rfl rfl)
theorem dX6_instant_208 : decode cX6_instant 208 = .ok (.iload 5, 2) := dk_21 5 (dk_at dksX6_instant_8 21 rfl rfl)
theorem dX6_instant_210 : decode cX6_instant 210 = .ok (.iaload, 1) := dk_46 (dk_at dksX6_instant_8 23 rfl rfl)
theorem dX6_instant_211 : decode cX6_instant 211 = .ok (.goto 25, 3) := dk_167 0 25 (dk_at dksX6_instant_9 0 rfl rfl)
theorem dX6_instant_214 : decode cX6_instant 214 = .ok (.aload_n 0, 1) := dk_42 (dk_at dksX6_instant_9 3 rfl rfl)
theorem dX6_instant_215 : decode cX6_instant 215 = .ok (.aload_n 0, 1) := dk_42 (dk_at dksX6_instant_9 4 rfl rfl)
theorem dX6_instant_216 : decode cX6_instant 216 = .ok (.getfield 187, 3) := dk_180 0 187 (dk_at dksX6_instant_9 5 rfl rfl)
theorem dX6_instant_219 : decode cX6_instant 219 = .ok (.iload_n 3, 1) := dk_29 (dk_at dksX6_instant_9 8 rfl rfl)
theorem dX6_instant_220 : decode cX6_instant 220 = .ok (.iaload, 1) := dk_46 (dk_at dksX6_instant_9 9 rfl rfl)
theorem dX6_instant_221 : decode cX6_instant 221 = .ok (.aload_n 0, 1) := dk_42 (dk_at dksX6_instant_9 10 rfl rfl)
theorem dX6_instant_222 : decode cX6_instant 222 = .ok (.aload_n 0, 1) := dk_42 (dk_at dksX6_instant_9 11 rfl rfl)
theorem dX6_instant_223 : decode cX6_instant 223 = .ok (.getfield 190, 3) := dk_180 0 190 (dk_at dksX6_instant_9 12 rfl rfl)
theorem dX6_instant_226 : decode cX6_instant 226 = .ok (.iload_n 3, 1) := dk_29 (dk_at dksX6_instant_9 15 rfl rfl)
theorem dX6_instant_227 : decode cX6_instant 227 = .ok (.iaload, 1) := dk_46 (dk_at dksX6_instant_9 16 rfl rfl)
theorem dX6_instant_228 : decode cX6_instant 228 = .ok (.iload 5, 2) := dk_21 5 (dk_at dksX6_instant_9 17 rfl rfl)
theorem dX6_instant_230 : decode cX6_instant 230 = .ok (.invokevirtual 489, 3) := dk_182 1 233 (dk_at dksX6_instant_9 19 rfl rfl)
theorem dX6_instant_233 : decode cX6_instant 233 = .ok (.invokevirtual 539, 3) := dk_182 2 27 (dk_at dksX6_instant_10 0 rfl rfl)
theorem dX6_instant_236 : decode cX6_instant 236 = .ok (.iastore, 1) := dk_79 (dk_at dksX6_instant_10 3 rfl rfl)
theorem dX6_instant_237 : decode cX6_instant 237 = .ok (.aload_n 0, 1) := dk_42 (dk_at dksX6_instant_10 4 rfl rfl)
theorem dX6_instant_238 : decode cX6_instant 238 = .ok (.getfield 251, 3) := dk_180 0 251 (dk_at dksX6_instant_10 5 rfl rfl)
theorem dX6_instant_241 : decode cX6_instant 241 = .ok (.iload_n 2, 1) := dk_28 (dk_at dksX6_instant_10 8 rfl rfl)
theorem dX6_instant_242 : decode cX6_instant 242 = .ok (.iconst 1, 1) := dk_4 (dk_at dksX6_instant_10 9 rfl rfl)
theorem dX6_instant_243 : decode cX6_instant 243 = .ok (.bastore, 1) := dk_84 (dk_at dksX6_instant_10 10 rfl rfl)
theorem dX6_instant_244 : decode cX6_instant 244 = .ok (.iinc 1 1, 3) := dk_132 1 1 (dk_at dksX6_instant_10 11 rfl rfl)
theorem dX6_instant_247 : decode cX6_instant 247 = .ok (.goto (-222), 3) := dk_167 255 34 (dk_at dksX6_instant_10 14 rfl rfl)
theorem dX6_instant_250 : decode cX6_instant 250 = .ok (.aload_n 0, 1) := dk_42 (dk_at dksX6_instant_10 17 rfl rfl)
theorem dX6_instant_251 : decode cX6_instant 251 = .ok (.getfield 242, 3) := dk_180 0 242 (dk_at dksX6_instant_10 18 rfl rfl)
theorem dX6_instant_254 : decode cX6_instant 254 = .ok (.iconst 0, 1) := dk_3 (dk_at dksX6_instant_10 21 rfl rfl)
theorem dX6_instant_255 : decode cX6_instant 255 = .ok (.aload_n 0, 1) := dk_42 (dk_at dksX6_instant_10 22 rfl rfl)
theorem dX6_instant_256 : decode cX6_instant 256 = .ok (.getfield 245, 3) := dk_180 0 245 (dk_at dksX6_instant_11 0 rfl rfl)
theorem dX6_instant_259 : decode cX6_instant 259 = .ok (.iconst 0, 1) := dk_3 (dk_at dksX6_instant_11 3 rfl rfl)
theorem dX6_instant_260 : decode cX6_instant 260 = .ok (.aload_n 0, 1) := dk_42 (dk_at dksX6_instant_11 4 rfl rfl)
theorem dX6_instant_261 : decode cX6_instant 261 = .ok (.getfield 172, 3) := dk_180 0 172 (dk_at dksX6_instant_11 5 rfl rfl)
theorem dX6_instant_264 : decode cX6_instant 264 = .ok (.invokestatic 542, 3) := dk_184 2 30 (dk_at dksX6_instant_11 8 rfl rfl)
theorem dX6_instant_267 : decode cX6_instant 267 = .ok (.iconst 0, 1) := dk_3 (dk_at dksX6_instant_11 11 rfl rfl)
theorem dX6_instant_268 : decode cX6_instant 268 = .ok (.istore_n 1, 1) := dk_60 (dk_at dksX6_instant_11 12 rfl rfl)
theorem dX6_instant_269 : decode cX6_instant 269 = .ok (.iload_n 1, 1) := dk_27 (dk_at dksX6_instant_11 13 rfl rfl)
theorem dX6_instant_270 : decode cX6_instant 270 = .ok (.aload_n 0, 1) := dk_42 (dk_at dksX6_instant_11 14 rfl rfl)
theorem dX6_instant_271 : decode cX6_instant 271 = .ok (.getfield 166, 3) := dk_180 0 166 (dk_at dksX6_instant_11 15 rfl rfl)
theorem dX6_instant_274 : decode cX6_instant 274 = .ok (.if_icmp .ge 14, 3) := dk_162 0 14 (dk_at dksX6_instant_11 18 rfl rfl)
theorem dX6_instant_277 : decode cX6_instant 277 = .ok (.aload_n 0, 1) := dk_42 (dk_at dksX6_instant_11 21 rfl rfl)
theorem dX6_instant_278 : decode cX6_instant 278 = .ok (.iload_n 1, 1) := dk_27 (dk_at dksX6_instant_11 22 rfl rfl)
theorem dX6_instant_279 : decode cX6_instant 279 = .ok (.invokevirtual 548, 3) := dk_182 2 36 (dk_at dksX6_instant_12 0 rfl rfl)
theorem dX6_instant_282 : decode cX6_instant 282 = .ok (.iinc 1 1, 3) := dk_132 1 1 (dk_at dksX6_instant_12 3 rfl rfl)
theorem dX6_instant_285 : decode cX6_instant 285 = .ok (.goto (-16), 3) := dk_167 255 240 (dk_at dksX6_instant_12 6 rfl rfl)
theorem dX6_instant_288 : decode cX6_instant 288 = .ok (.aload_n 0, 1) := dk_42 (dk_at dksX6_instant_12 9 rfl rfl)
theorem dX6_instant_289 : decode cX6_instant 289 = .ok (.getfield 245, 3) := dk_180 0 245 (dk_at dksX6_instant_12 10 rfl rfl)
theorem dX6_instant_292 : decode cX6_instant 292 = .ok (.iconst 0, 1) := dk_3 (dk_at dksX6_instant_12 13 rfl rfl)
theorem dX6_instant_293 : decode cX6_instant 293 = .ok (.aload_n 0, 1) := dk_42 (dk_at dksX6_instant_12 14 rfl rfl)
theorem dX6_instant_294 : decode cX6_instant 294 = .ok (.getfield 242, 3) := dk_180 0 242 (dk_at dksX6_instant_12 15 rfl rfl)
theorem dX6_instant_297 : decode cX6_instant 297 = .ok (.iconst 0, 1) := dk_3 (dk_at dksX6_instant_12 18 rfl rfl)
theorem dX6_instant_298 : decode cX6_instant 298 = .ok (.aload_n 0, 1) := dk_42 (dk_at dksX6_instant_12 19 rfl rfl)
theorem dX6_instant_299 : decode cX6_instant 299 = .ok (.getfield 172, 3) := dk_180 0 172 (dk_at dksX6_instant_12 20 rfl rfl)
theorem dX6_instant_302 : decode cX6_instant 302 = .ok (.invokestatic 542, 3) := dk_184 2 30 (dk_at dksX6_instant_13 0 rfl rfl)
theorem dX6_instant_305 : decode cX6_instant 305 = .ok (.aload_n 0, 1) := dk_42 (dk_at dksX6_instant_13 3 rfl rfl)
theorem dX6_instant_306 : decode cX6_instant 306 = .ok (.dup, 1) := dk_89 (dk_at dksX6_instant_13 4 rfl rfl)
theorem dX6_instant_307 : decode cX6_instant 307 = .ok (.getfield 233, 3) := dk_180 0 233 (dk_at dksX6_instant_13 5 rfl rfl)
theorem dX6_instant_310 : decode cX6_instant 310 = .ok (.iconst 1, 1) := dk_4 (dk_at dksX6_instant_13 8 rfl rfl)
theorem dX6_instant_311 : decode cX6_instant 311 = .ok (.iadd, 1) := dk_96 (dk_at dksX6_instant_13 9 rfl rfl)
theorem dX6_instant_312 : decode cX6_instant 312 = .ok (.putfield 233, 3) := dk_181 0 233 (dk_at dksX6_instant_13 10 rfl rfl)
theorem dX6_instant_315 : decode cX6_instant 315 = .ok (.return_, 1) := dk_177 (dk_at dksX6_instant_13 13 rfl rfl)
abbrev cX6_present : ByteArray := prog_26_method_62_code
def yX6_present : MethodName := ⟨RX6, "present", "(II)Z"⟩
def dkwX6_present_3 : List UInt8 := [46, 28, 4, 126, 160, 0, 7, 4, 167, 0, 4, 3, 172]
abbrev dktX6_present_3 : List UInt8 := dkwX6_present_3 ++ []
def dkwX6_present_2 : List UInt8 := [180, 0, 193, 27, 46, 28, 5, 108, 96, 62, 42, 180, 0, 251, 29, 51, 153, 0, 19, 42, 180, 0, 239, 29]
abbrev dktX6_present_2 : List UInt8 := dkwX6_present_2 ++ dktX6_present_3
def dkwX6_present_1 : List UInt8 := [180, 0, 145, 42, 180, 0, 190, 27, 46, 46, 182, 2, 15, 153, 0, 7, 4, 167, 0, 4, 3, 172, 42]
abbrev dktX6_present_1 : List UInt8 := dkwX6_present_1 ++ dktX6_present_2
def dkwX6_present_0 : List UInt8 := [28, 2, 160, 0, 42, 42, 180, 0, 187, 27, 46, 155, 0, 27, 42, 42, 180, 0, 187, 27, 46, 42]
abbrev dktX6_present_0 : List UInt8 := dkwX6_present_0 ++ dktX6_present_1
theorem dksX6_present_0 : cX6_present.data.toList.drop 0 = dktX6_present_0 := by decide +kernel
theorem dksX6_present_1 : cX6_present.data.toList.drop 22 = dktX6_present_1 := dk_seg dksX6_present_0 22 rfl rfl
theorem dksX6_present_2 : cX6_present.data.toList.drop 45 = dktX6_present_2 := dk_seg dksX6_present_1 23 rfl rfl
theorem dksX6_present_3 : cX6_present.data.toList.drop 69 = dktX6_present_3 := dk_seg dksX6_present_2 24 rfl rfl
theorem dX6_present_0 : decode cX6_present 0 = .ok (.iload_n 2, 1) := dk_28 (dk_at dksX6_present_0 0 rfl rfl)
theorem dX6_present_1 : decode cX6_present 1 = .ok (.iconst (-1), 1) := dk_2 (dk_at dksX6_present_0 1 rfl rfl)
theorem dX6_present_2 : decode cX6_present 2 = .ok (.if_icmp .ne 42, 3) := dk_160 0 42 (dk_at dksX6_present_0 2 rfl rfl)
theorem dX6_present_5 : decode cX6_present 5 = .ok (.aload_n 0, 1) := dk_42 (dk_at dksX6_present_0 5 rfl rfl)
theorem dX6_present_6 : decode cX6_present 6 = .ok (.getfield 187, 3) := dk_180 0 187 (dk_at dksX6_present_0 6 rfl rfl)
theorem dX6_present_9 : decode cX6_present 9 = .ok (.iload_n 1, 1) := dk_27 (dk_at dksX6_present_0 9 rfl rfl)
theorem dX6_present_10 : decode cX6_present 10 = .ok (.iaload, 1) := dk_46 (dk_at dksX6_present_0 10 rfl rfl)
theorem dX6_present_11 : decode cX6_present 11 = .ok (.ifCond .lt 27, 3) := dk_155 0 27 (dk_at dksX6_present_0 11 rfl rfl)
theorem dX6_present_14 : decode cX6_present 14 = .ok (.aload_n 0, 1) := dk_42 (dk_at dksX6_present_0 14 rfl rfl)
theorem dX6_present_15 : decode cX6_present 15 = .ok (.aload_n 0, 1) := dk_42 (dk_at dksX6_present_0 15 rfl rfl)
theorem dX6_present_16 : decode cX6_present 16 = .ok (.getfield 187, 3) := dk_180 0 187 (dk_at dksX6_present_0 16 rfl rfl)
theorem dX6_present_19 : decode cX6_present 19 = .ok (.iload_n 1, 1) := dk_27 (dk_at dksX6_present_0 19 rfl rfl)
theorem dX6_present_20 : decode cX6_present 20 = .ok (.iaload, 1) := dk_46 (dk_at dksX6_present_0 20 rfl rfl)
theorem dX6_present_21 : decode cX6_present 21 = .ok (.aload_n 0, 1) := dk_42 (dk_at dksX6_present_0 21 rfl rfl)
theorem dX6_present_22 : decode cX6_present 22 = .ok (.getfield 145, 3) := dk_180 0 145 (dk_at dksX6_present_1 0 rfl rfl)
theorem dX6_present_25 : decode cX6_present 25 = .ok (.aload_n 0, 1) := dk_42 (dk_at dksX6_present_1 3 rfl rfl)
theorem dX6_present_26 : decode cX6_present 26 = .ok (.getfield 190, 3) := dk_180 0 190 (dk_at dksX6_present_1 4 rfl rfl)
theorem dX6_present_29 : decode cX6_present 29 = .ok (.iload_n 1, 1) := dk_27 (dk_at dksX6_present_1 7 rfl rfl)
theorem dX6_present_30 : decode cX6_present 30 = .ok (.iaload, 1) := dk_46 (dk_at dksX6_present_1 8 rfl rfl)
theorem dX6_present_31 : decode cX6_present 31 = .ok (.iaload, 1) := dk_46 (dk_at dksX6_present_1 9 rfl rfl)
theorem dX6_present_32 : decode cX6_present 32 = .ok (.invokevirtual 527, 3) := dk_182 2 15 (dk_at dksX6_present_1 10 rfl rfl)
theorem dX6_present_35 : decode cX6_present 35 = .ok (.ifCond .eq 7, 3) := dk_153 0 7 (dk_at dksX6_present_1 13 rfl rfl)
theorem dX6_present_38 : decode cX6_present 38 = .ok (.iconst 1, 1) := dk_4 (dk_at dksX6_present_1 16 rfl rfl)
theorem dX6_present_39 : decode cX6_present 39 = .ok (.goto 4, 3) := dk_167 0 4 (dk_at dksX6_present_1 17 rfl rfl)
theorem dX6_present_42 : decode cX6_present 42 = .ok (.iconst 0, 1) := dk_3 (dk_at dksX6_present_1 20 rfl rfl)
theorem dX6_present_43 : decode cX6_present 43 = .ok (.ireturn, 1) := dk_172 (dk_at dksX6_present_1 21 rfl rfl)
theorem dX6_present_44 : decode cX6_present 44 = .ok (.aload_n 0, 1) := dk_42 (dk_at dksX6_present_1 22 rfl rfl)
theorem dX6_present_45 : decode cX6_present 45 = .ok (.getfield 193, 3) := dk_180 0 193 (dk_at dksX6_present_2 0 rfl rfl)
theorem dX6_present_48 : decode cX6_present 48 = .ok (.iload_n 1, 1) := dk_27 (dk_at dksX6_present_2 3 rfl rfl)
theorem dX6_present_49 : decode cX6_present 49 = .ok (.iaload, 1) := dk_46 (dk_at dksX6_present_2 4 rfl rfl)
theorem dX6_present_50 : decode cX6_present 50 = .ok (.iload_n 2, 1) := dk_28 (dk_at dksX6_present_2 5 rfl rfl)
theorem dX6_present_51 : decode cX6_present 51 = .ok (.iconst 2, 1) := dk_5 (dk_at dksX6_present_2 6 rfl rfl)
theorem dX6_present_52 : decode cX6_present 52 = .ok (.idiv, 1) := dk_108 (dk_at dksX6_present_2 7 rfl rfl)
theorem dX6_present_53 : decode cX6_present 53 = .ok (.iadd, 1) := dk_96 (dk_at dksX6_present_2 8 rfl rfl)
theorem dX6_present_54 : decode cX6_present 54 = .ok (.istore_n 3, 1) := dk_62 (dk_at dksX6_present_2 9 rfl rfl)
theorem dX6_present_55 : decode cX6_present 55 = .ok (.aload_n 0, 1) := dk_42 (dk_at dksX6_present_2 10 rfl rfl)
theorem dX6_present_56 : decode cX6_present 56 = .ok (.getfield 251, 3) := dk_180 0 251 (dk_at dksX6_present_2 11 rfl rfl)
theorem dX6_present_59 : decode cX6_present 59 = .ok (.iload_n 3, 1) := dk_29 (dk_at dksX6_present_2 14 rfl rfl)
theorem dX6_present_60 : decode cX6_present 60 = .ok (.baload, 1) := dk_51 (dk_at dksX6_present_2 15 rfl rfl)
theorem dX6_present_61 : decode cX6_present 61 = .ok (.ifCond .eq 19, 3) := dk_153 0 19 (dk_at dksX6_present_2 16 rfl rfl)
theorem dX6_present_64 : decode cX6_present 64 = .ok (.aload_n 0, 1) := dk_42 (dk_at dksX6_present_2 19 rfl rfl)
theorem dX6_present_65 : decode cX6_present 65 = .ok (.getfield 239, 3) := dk_180 0 239 (dk_at dksX6_present_2 20 rfl rfl)
theorem dX6_present_68 : decode cX6_present 68 = .ok (.iload_n 3, 1) := dk_29 (dk_at dksX6_present_2 23 rfl rfl)
theorem dX6_present_69 : decode cX6_present 69 = .ok (.iaload, 1) := dk_46 (dk_at dksX6_present_3 0 rfl rfl)
theorem dX6_present_70 : decode cX6_present 70 = .ok (.iload_n 2, 1) := dk_28 (dk_at dksX6_present_3 1 rfl rfl)
theorem dX6_present_71 : decode cX6_present 71 = .ok (.iconst 1, 1) := dk_4 (dk_at dksX6_present_3 2 rfl rfl)
theorem dX6_present_72 : decode cX6_present 72 = .ok (.iand, 1) := dk_126 (dk_at dksX6_present_3 3 rfl rfl)
theorem dX6_present_73 : decode cX6_present 73 = .ok (.if_icmp .ne 7, 3) := dk_160 0 7 (dk_at dksX6_present_3 4 rfl rfl)
theorem dX6_present_76 : decode cX6_present 76 = .ok (.iconst 1, 1) := dk_4 (dk_at dksX6_present_3 7 rfl rfl)
theorem dX6_present_77 : decode cX6_present 77 = .ok (.goto 4, 3) := dk_167 0 4 (dk_at dksX6_present_3 8 rfl rfl)
theorem dX6_present_80 : decode cX6_present 80 = .ok (.iconst 0, 1) := dk_3 (dk_at dksX6_present_3 11 rfl rfl)
theorem dX6_present_81 : decode cX6_present 81 = .ok (.ireturn, 1) := dk_172 (dk_at dksX6_present_3 12 rfl rfl)
abbrev cX6_partOf : ByteArray := prog_26_method_66_code
def yX6_partOf : MethodName := ⟨RX6, "partOf", "(II)I"⟩
def dkwX6_partOf_2 : List UInt8 := [42, 180, 0, 248, 28, 46, 172]
abbrev dktX6_partOf_2 : List UInt8 := dkwX6_partOf_2 ++ []
def dkwX6_partOf_1 : List UInt8 := [42, 180, 0, 145, 29, 46, 182, 2, 15, 153, 0, 9, 42, 27, 29, 182, 2, 24, 132, 3, 1, 167, 255, 218]
abbrev dktX6_partOf_1 : List UInt8 := dkwX6_partOf_1 ++ dktX6_partOf_2
def dkwX6_partOf_0 : List UInt8 := [42, 180, 0, 151, 28, 46, 62, 29, 28, 163, 0, 39, 42, 180, 0, 148, 29, 46, 28, 160, 0, 23, 42, 27]
abbrev dktX6_partOf_0 : List UInt8 := dkwX6_partOf_0 ++ dktX6_partOf_1
theorem dksX6_partOf_0 : cX6_partOf.data.toList.drop 0 = dktX6_partOf_0 := by decide +kernel
theorem dksX6_partOf_1 : cX6_partOf.data.toList.drop 24 = dktX6_partOf_1 := dk_seg dksX6_partOf_0 24 rfl rfl
theorem dksX6_partOf_2 : cX6_partOf.data.toList.drop 48 = dktX6_partOf_2 := dk_seg dksX6_partOf_1 24 rfl rfl
theorem dX6_partOf_0 : decode cX6_partOf 0 = .ok (.aload_n 0, 1) := dk_42 (dk_at dksX6_partOf_0 0 rfl rfl)
theorem dX6_partOf_1 : decode cX6_partOf 1 = .ok (.getfield 151, 3) := dk_180 0 151 (dk_at dksX6_partOf_0 1 rfl rfl)
theorem dX6_partOf_4 : decode cX6_partOf 4 = .ok (.iload_n 2, 1) := dk_28 (dk_at dksX6_partOf_0 4 rfl rfl)
theorem dX6_partOf_5 : decode cX6_partOf 5 = .ok (.iaload, 1) := dk_46 (dk_at dksX6_partOf_0 5 rfl rfl)
theorem dX6_partOf_6 : decode cX6_partOf 6 = .ok (.istore_n 3, 1) := dk_62 (dk_at dksX6_partOf_0 6 rfl rfl)
theorem dX6_partOf_7 : decode cX6_partOf 7 = .ok (.iload_n 3, 1) := dk_29 (dk_at dksX6_partOf_0 7 rfl rfl)
theorem dX6_partOf_8 : decode cX6_partOf 8 = .ok (.iload_n 2, 1) := dk_28 (dk_at dksX6_partOf_0 8 rfl rfl)
theorem dX6_partOf_9 : decode cX6_partOf 9 = .ok (.if_icmp .gt 39, 3) := dk_163 0 39 (dk_at dksX6_partOf_0 9 rfl rfl)
theorem dX6_partOf_12 : decode cX6_partOf 12 = .ok (.aload_n 0, 1) := dk_42 (dk_at dksX6_partOf_0 12 rfl rfl)
theorem dX6_partOf_13 : decode cX6_partOf 13 = .ok (.getfield 148, 3) := dk_180 0 148 (dk_at dksX6_partOf_0 13 rfl rfl)
theorem dX6_partOf_16 : decode cX6_partOf 16 = .ok (.iload_n 3, 1) := dk_29 (dk_at dksX6_partOf_0 16 rfl rfl)
theorem dX6_partOf_17 : decode cX6_partOf 17 = .ok (.iaload, 1) := dk_46 (dk_at dksX6_partOf_0 17 rfl rfl)
theorem dX6_partOf_18 : decode cX6_partOf 18 = .ok (.iload_n 2, 1) := dk_28 (dk_at dksX6_partOf_0 18 rfl rfl)
theorem dX6_partOf_19 : decode cX6_partOf 19 = .ok (.if_icmp .ne 23, 3) := dk_160 0 23 (dk_at dksX6_partOf_0 19 rfl rfl)
theorem dX6_partOf_22 : decode cX6_partOf 22 = .ok (.aload_n 0, 1) := dk_42 (dk_at dksX6_partOf_0 22 rfl rfl)
theorem dX6_partOf_23 : decode cX6_partOf 23 = .ok (.iload_n 1, 1) := dk_27 (dk_at dksX6_partOf_0 23 rfl rfl)
theorem dX6_partOf_24 : decode cX6_partOf 24 = .ok (.aload_n 0, 1) := dk_42 (dk_at dksX6_partOf_1 0 rfl rfl)
theorem dX6_partOf_25 : decode cX6_partOf 25 = .ok (.getfield 145, 3) := dk_180 0 145 (dk_at dksX6_partOf_1 1 rfl rfl)
theorem dX6_partOf_28 : decode cX6_partOf 28 = .ok (.iload_n 3, 1) := dk_29 (dk_at dksX6_partOf_1 4 rfl rfl)
theorem dX6_partOf_29 : decode cX6_partOf 29 = .ok (.iaload, 1) := dk_46 (dk_at dksX6_partOf_1 5 rfl rfl)
theorem dX6_partOf_30 : decode cX6_partOf 30 = .ok (.invokevirtual 527, 3) := dk_182 2 15 (dk_at dksX6_partOf_1 6 rfl rfl)
theorem dX6_partOf_33 : decode cX6_partOf 33 = .ok (.ifCond .eq 9, 3) := dk_153 0 9 (dk_at dksX6_partOf_1 9 rfl rfl)
theorem dX6_partOf_36 : decode cX6_partOf 36 = .ok (.aload_n 0, 1) := dk_42 (dk_at dksX6_partOf_1 12 rfl rfl)
theorem dX6_partOf_37 : decode cX6_partOf 37 = .ok (.iload_n 1, 1) := dk_27 (dk_at dksX6_partOf_1 13 rfl rfl)
theorem dX6_partOf_38 : decode cX6_partOf 38 = .ok (.iload_n 3, 1) := dk_29 (dk_at dksX6_partOf_1 14 rfl rfl)
theorem dX6_partOf_39 : decode cX6_partOf 39 = .ok (.invokevirtual 536, 3) := dk_182 2 24 (dk_at dksX6_partOf_1 15 rfl rfl)
theorem dX6_partOf_42 : decode cX6_partOf 42 = .ok (.iinc 3 1, 3) := dk_132 3 1 (dk_at dksX6_partOf_1 18 rfl rfl)
theorem dX6_partOf_45 : decode cX6_partOf 45 = .ok (.goto (-38), 3) := dk_167 255 218 (dk_at dksX6_partOf_1 21 rfl rfl)
theorem dX6_partOf_48 : decode cX6_partOf 48 = .ok (.aload_n 0, 1) := dk_42 (dk_at dksX6_partOf_2 0 rfl rfl)
theorem dX6_partOf_49 : decode cX6_partOf 49 = .ok (.getfield 248, 3) := dk_180 0 248 (dk_at dksX6_partOf_2 1 rfl rfl)
theorem dX6_partOf_52 : decode cX6_partOf 52 = .ok (.iload_n 2, 1) := dk_28 (dk_at dksX6_partOf_2 4 rfl rfl)
theorem dX6_partOf_53 : decode cX6_partOf 53 = .ok (.iaload, 1) := dk_46 (dk_at dksX6_partOf_2 5 rfl rfl)
theorem dX6_partOf_54 : decode cX6_partOf 54 = .ok (.ireturn, 1) := dk_172 (dk_at dksX6_partOf_2 6 rfl rfl)
abbrev cX6_work : ByteArray := prog_26_method_63_code
def yX6_work : MethodName := ⟨RX6, "work", "(II)V"⟩
def dkwX6_work_15 : List UInt8 := [180, 0, 112, 28, 46, 42, 180, 0, 248, 29, 46, 42, 180, 0, 248, 21, 4, 46, 184, 2, 18, 79, 177]
abbrev dktX6_work_15 : List UInt8 := dkwX6_work_15 ++ []
def dkwX6_work_14 : List UInt8 := [167, 0, 46, 42, 180, 0, 248, 28, 42, 180, 0, 248, 29, 46, 79, 167, 0, 31, 42, 180, 0, 248, 28, 42]
abbrev dktX6_work_14 : List UInt8 := dkwX6_work_14 ++ dktX6_work_15
def dkwX6_work_13 : List UInt8 := [46, 182, 2, 15, 153, 0, 12, 42, 180, 0, 248, 29, 46, 167, 0, 10, 42, 180, 0, 242, 21, 5, 46, 79]
abbrev dktX6_work_13 : List UInt8 := dkwX6_work_13 ++ dktX6_work_14
def dkwX6_work_12 : List UInt8 := [28, 42, 180, 0, 242, 21, 5, 46, 79, 167, 0, 85, 42, 180, 0, 248, 28, 42, 27, 42, 180, 0, 145, 29]
abbrev dktX6_work_12 : List UInt8 := dkwX6_work_12 ++ dktX6_work_13
def dkwX6_work_11 : List UInt8 := [167, 0, 118, 42, 180, 0, 248, 28, 4, 42, 180, 0, 248, 29, 46, 100, 79, 167, 0, 101, 42, 180, 0, 248]
abbrev dktX6_work_11 : List UInt8 := dkwX6_work_11 ++ dktX6_work_12
def dkwX6_work_10 : List UInt8 := [42, 180, 0, 248, 29, 46, 79, 167, 0, 134, 42, 180, 0, 248, 28, 42, 180, 0, 248, 29, 46, 116, 79]
abbrev dktX6_work_10 : List UInt8 := dkwX6_work_10 ++ dktX6_work_11
def dkwX6_work_9 : List UInt8 := [28, 42, 180, 0, 242, 21, 5, 4, 96, 46, 4, 160, 0, 13, 42, 180, 0, 242, 21, 5, 46, 167, 0, 9]
abbrev dktX6_work_9 : List UInt8 := dkwX6_work_9 ++ dktX6_work_10
def dkwX6_work_8 : List UInt8 := [42, 180, 0, 248, 21, 4, 46, 167, 0, 9, 42, 180, 0, 248, 29, 46, 79, 167, 0, 172, 42, 180, 0, 248]
abbrev dktX6_work_8 : List UInt8 := dkwX6_work_8 ++ dktX6_work_9
def dkwX6_work_7 : List UInt8 := [21, 4, 46, 46, 79, 167, 0, 208, 42, 180, 0, 248, 28, 42, 180, 0, 242, 21, 5, 46, 4, 160, 0, 13]
abbrev dktX6_work_7 : List UInt8 := dkwX6_work_7 ++ dktX6_work_8
def dkwX6_work_6 : List UInt8 := [29, 46, 4, 160, 0, 13, 42, 180, 0, 248, 21, 4, 46, 167, 0, 15, 42, 180, 0, 248, 42, 180, 0, 121]
abbrev dktX6_work_6 : List UInt8 := dkwX6_work_6 ++ dktX6_work_7
def dkwX6_work_5 : List UInt8 := [180, 0, 239, 42, 27, 28, 3, 182, 1, 227, 46, 79, 167, 0, 249, 42, 180, 0, 248, 28, 42, 180, 0, 248]
abbrev dktX6_work_5 : List UInt8 := dkwX6_work_5 ++ dktX6_work_6
def dkwX6_work_4 : List UInt8 := [42, 180, 0, 193, 27, 46, 42, 180, 0, 115, 28, 46, 96, 46, 79, 167, 1, 14, 42, 180, 0, 248, 28, 42]
abbrev dktX6_work_4 : List UInt8 := dkwX6_work_4 ++ dktX6_work_5
def dkwX6_work_3 : List UInt8 := [42, 180, 0, 248, 28, 42, 180, 0, 115, 28, 46, 79, 167, 1, 41, 42, 180, 0, 248, 28, 42, 180, 0, 239]
abbrev dktX6_work_3 : List UInt8 := dkwX6_work_3 ++ dktX6_work_4
def dkwX6_work_2 : List UInt8 := [170, 0, 0, 0, 0, 0, 1, 149, 0, 0, 0, 0, 0, 0, 0, 26, 0, 0, 0, 124, 0, 0, 0, 124, 0, 0, 0, 139, 0, 0, 0, 166, 0, 0, 0, 187, 0, 0, 0, 228, 0, 0, 1, 8, 0, 0, 1, 149, 0, 0, 1, 149, 0, 0, 1, 149, 0, 0, 1, 149, 0, 0, 1, 149, 0, 0, 1, 149, 0, 0, 1, 149, 0, 0, 1, 149, 0, 0, 1, 149, 0, 0, 1, 149, 0, 0, 1, 149, 0, 0, 1, 149, 0, 0, 1, 149, 0, 0, 1, 149, 0, 0, 1, 149, 0, 0, 1, 46, 0, 0, 1, 62, 0, 0, 1, 79, 0, 0, 1, 95, 0, 0, 1, 134]
abbrev dktX6_work_2 : List UInt8 := dkwX6_work_2 ++ dktX6_work_3
def dkwX6_work_1 : List UInt8 := [180, 0, 196, 27, 46, 42, 180, 0, 127, 28, 46, 96, 54, 5, 42, 180, 0, 112, 28, 46]
abbrev dktX6_work_1 : List UInt8 := dkwX6_work_1 ++ dktX6_work_2
def dkwX6_work_0 : List UInt8 := [42, 180, 0, 118, 28, 46, 62, 29, 156, 0, 7, 2, 167, 0, 9, 42, 180, 0, 121, 29, 46, 54, 4, 42]
abbrev dktX6_work_0 : List UInt8 := dkwX6_work_0 ++ dktX6_work_1
theorem dksX6_work_0 : cX6_work.data.toList.drop 0 = dktX6_work_0 := by decide +kernel
theorem dksX6_work_1 : cX6_work.data.toList.drop 24 = dktX6_work_1 := dk_seg dksX6_work_0 24 rfl rfl
theorem dksX6_work_2 : cX6_work.data.toList.drop 44 = dktX6_work_2 := dk_seg dksX6_work_1 20 rfl rfl
theorem dksX6_work_3 : cX6_work.data.toList.drop 168 = dktX6_work_3 := dk_seg dksX6_work_2 124 rfl rfl
theorem dksX6_work_4 : cX6_work.data.toList.drop 192 = dktX6_work_4 := dk_seg dksX6_work_3 24 rfl rfl
theorem dksX6_work_5 : cX6_work.data.toList.drop 216 = dktX6_work_5 := dk_seg dksX6_work_4 24 rfl rfl
theorem dksX6_work_6 : cX6_work.data.toList.drop 240 = dktX6_work_6 := dk_seg dksX6_work_5 24 rfl rfl
theorem dksX6_work_7 : cX6_work.data.toList.drop 264 = dktX6_work_7 := dk_seg dksX6_work_6 24 rfl rfl
theorem dksX6_work_8 : cX6_work.data.toList.drop 288 = dktX6_work_8 := dk_seg dksX6_work_7 24 rfl rfl
theorem dksX6_work_9 : cX6_work.data.toList.drop 312 = dktX6_work_9 := dk_seg dksX6_work_8 24 rfl rfl
theorem dksX6_work_10 : cX6_work.data.toList.drop 336 = dktX6_work_10 := dk_seg dksX6_work_9 24 rfl rfl
theorem dksX6_work_11 : cX6_work.data.toList.drop 359 = dktX6_work_11 := dk_seg dksX6_work_10 23 rfl rfl
theorem dksX6_work_12 : cX6_work.data.toList.drop 383 = dktX6_work_12 := dk_seg dksX6_work_11 24 rfl rfl
theorem dksX6_work_13 : cX6_work.data.toList.drop 407 = dktX6_work_13 := dk_seg dksX6_work_12 24 rfl rfl
theorem dksX6_work_14 : cX6_work.data.toList.drop 431 = dktX6_work_14 := dk_seg dksX6_work_13 24 rfl rfl
theorem dksX6_work_15 : cX6_work.data.toList.drop 455 = dktX6_work_15 := dk_seg dksX6_work_14 24 rfl rfl
theorem dX6_work_0 : decode cX6_work 0 = .ok (.aload_n 0, 1) := dk_42 (dk_at dksX6_work_0 0 rfl rfl)
theorem dX6_work_1 : decode cX6_work 1 = .ok (.getfield 118, 3) := dk_180 0 118 (dk_at dksX6_work_0 1 rfl rfl)
theorem dX6_work_4 : decode cX6_work 4 = .ok (.iload_n 2, 1) := dk_28 (dk_at dksX6_work_0 4 rfl rfl)
theorem dX6_work_5 : decode cX6_work 5 = .ok (.iaload, 1) := dk_46 (dk_at dksX6_work_0 5 rfl rfl)
theorem dX6_work_6 : decode cX6_work 6 = .ok (.istore_n 3, 1) := dk_62 (dk_at dksX6_work_0 6 rfl rfl)
theorem dX6_work_7 : decode cX6_work 7 = .ok (.iload_n 3, 1) := dk_29 (dk_at dksX6_work_0 7 rfl rfl)
theorem dX6_work_8 : decode cX6_work 8 = .ok (.ifCond .ge 7, 3) := dk_156 0 7 (dk_at dksX6_work_0 8 rfl rfl)
theorem dX6_work_11 : decode cX6_work 11 = .ok (.iconst (-1), 1) := dk_2 (dk_at dksX6_work_0 11 rfl rfl)
theorem dX6_work_12 : decode cX6_work 12 = .ok (.goto 9, 3) := dk_167 0 9 (dk_at dksX6_work_0 12 rfl rfl)
theorem dX6_work_15 : decode cX6_work 15 = .ok (.aload_n 0, 1) := dk_42 (dk_at dksX6_work_0 15 rfl rfl)
theorem dX6_work_16 : decode cX6_work 16 = .ok (.getfield 121, 3) := dk_180 0 121 (dk_at dksX6_work_0 16 rfl rfl)
theorem dX6_work_19 : decode cX6_work 19 = .ok (.iload_n 3, 1) := dk_29 (dk_at dksX6_work_0 19 rfl rfl)
theorem dX6_work_20 : decode cX6_work 20 = .ok (.iaload, 1) := dk_46 (dk_at dksX6_work_0 20 rfl rfl)
theorem dX6_work_21 : decode cX6_work 21 = .ok (.istore 4, 2) := dk_54 4 (dk_at dksX6_work_0 21 rfl rfl)
theorem dX6_work_23 : decode cX6_work 23 = .ok (.aload_n 0, 1) := dk_42 (dk_at dksX6_work_0 23 rfl rfl)
theorem dX6_work_24 : decode cX6_work 24 = .ok (.getfield 196, 3) := dk_180 0 196 (dk_at dksX6_work_1 0 rfl rfl)
theorem dX6_work_27 : decode cX6_work 27 = .ok (.iload_n 1, 1) := dk_27 (dk_at dksX6_work_1 3 rfl rfl)
theorem dX6_work_28 : decode cX6_work 28 = .ok (.iaload, 1) := dk_46 (dk_at dksX6_work_1 4 rfl rfl)
theorem dX6_work_29 : decode cX6_work 29 = .ok (.aload_n 0, 1) := dk_42 (dk_at dksX6_work_1 5 rfl rfl)
theorem dX6_work_30 : decode cX6_work 30 = .ok (.getfield 127, 3) := dk_180 0 127 (dk_at dksX6_work_1 6 rfl rfl)
theorem dX6_work_33 : decode cX6_work 33 = .ok (.iload_n 2, 1) := dk_28 (dk_at dksX6_work_1 9 rfl rfl)
theorem dX6_work_34 : decode cX6_work 34 = .ok (.iaload, 1) := dk_46 (dk_at dksX6_work_1 10 rfl rfl)
theorem dX6_work_35 : decode cX6_work 35 = .ok (.iadd, 1) := dk_96 (dk_at dksX6_work_1 11 rfl rfl)
theorem dX6_work_36 : decode cX6_work 36 = .ok (.istore 5, 2) := dk_54 5 (dk_at dksX6_work_1 12 rfl rfl)
theorem dX6_work_38 : decode cX6_work 38 = .ok (.aload_n 0, 1) := dk_42 (dk_at dksX6_work_1 14 rfl rfl)
theorem dX6_work_39 : decode cX6_work 39 = .ok (.getfield 112, 3) := dk_180 0 112 (dk_at dksX6_work_1 15 rfl rfl)
theorem dX6_work_42 : decode cX6_work 42 = .ok (.iload_n 2, 1) := dk_28 (dk_at dksX6_work_1 18 rfl rfl)
theorem dX6_work_43 : decode cX6_work 43 = .ok (.iaload, 1) := dk_46 (dk_at dksX6_work_1 19 rfl rfl)
theorem dX6_work_44 : decode cX6_work 44 = .ok (.tableswitch 405 0 26 #[124, 124, 139, 166, 187, 228, 264, 405, 405, 405, 405, 405, 405, 405, 405, 405, 405, 405, 405, 405, 405, 405, 302, 318, 335, 351, 390], 124) := by decide +kernel
theorem dX6_work_168 : decode cX6_work 168 = .ok (.aload_n 0, 1) := dk_42 (dk_at dksX6_work_3 0 rfl rfl)
theorem dX6_work_169 : decode cX6_work 169 = .ok (.getfield 248, 3) := dk_180 0 248 (dk_at dksX6_work_3 1 rfl rfl)
theorem dX6_work_172 : decode cX6_work 172 = .ok (.iload_n 2, 1) := dk_28 (dk_at dksX6_work_3 4 rfl rfl)
theorem dX6_work_173 : decode cX6_work 173 = .ok (.aload_n 0, 1) := dk_42 (dk_at dksX6_work_3 5 rfl rfl)
theorem dX6_work_174 : decode cX6_work 174 = .ok (.getfield 115, 3) := dk_180 0 115 (dk_at dksX6_work_3 6 rfl rfl)
theorem dX6_work_177 : decode cX6_work 177 = .ok (.iload_n 2, 1) := dk_28 (dk_at dksX6_work_3 9 rfl rfl)
theorem dX6_work_178 : decode cX6_work 178 = .ok (.iaload, 1) := dk_46 (dk_at dksX6_work_3 10 rfl rfl)
theorem dX6_work_179 : decode cX6_work 179 = .ok (.iastore, 1) := dk_79 (dk_at dksX6_work_3 11 rfl rfl)
theorem dX6_work_180 : decode cX6_work 180 = .ok (.goto 297, 3) := dk_167 1 41 (dk_at dksX6_work_3 12 rfl rfl)
theorem dX6_work_183 : decode cX6_work 183 = .ok (.aload_n 0, 1) := dk_42 (dk_at dksX6_work_3 15 rfl rfl)
theorem dX6_work_184 : decode cX6_work 184 = .ok (.getfield 248, 3) := dk_180 0 248 (dk_at dksX6_work_3 16 rfl rfl)
theorem dX6_work_187 : decode cX6_work 187 = .ok (.iload_n 2, 1) := dk_28 (dk_at dksX6_work_3 19 rfl rfl)
theorem dX6_work_188 : decode cX6_work 188 = .ok (.aload_n 0, 1) := dk_42 (dk_at dksX6_work_3 20 rfl rfl)
theorem dX6_work_189 : decode cX6_work 189 = .ok (.getfield 239, 3) := dk_180 0 239 (dk_at dksX6_work_3 21 rfl rfl)
theorem dX6_work_192 : decode cX6_work 192 = .ok (.aload_n 0, 1) := dk_42 (dk_at dksX6_work_4 0 rfl rfl)
theorem dX6_work_193 : decode cX6_work 193 = .ok (.getfield 193, 3) := dk_180 0 193 (dk_at dksX6_work_4 1 rfl rfl)
theorem dX6_work_196 : decode cX6_work 196 = .ok (.iload_n 1, 1) := dk_27 (dk_at dksX6_work_4 4 rfl rfl)
theorem dX6_work_197 : decode cX6_work 197 = .ok (.iaload, 1) := dk_46 (dk_at dksX6_work_4 5 rfl rfl)
theorem dX6_work_198 : decode cX6_work 198 = .ok (.aload_n 0, 1) := dk_42 (dk_at dksX6_work_4 6 rfl rfl)
theorem dX6_work_199 : decode cX6_work 199 = .ok (.getfield 115, 3) := dk_180 0 115 (dk_at dksX6_work_4 7 rfl rfl)
theorem dX6_work_202 : decode cX6_work 202 = .ok (.iload_n 2, 1) := dk_28 (dk_at dksX6_work_4 10 rfl rfl)
theorem dX6_work_203 : decode cX6_work 203 = .ok (.iaload, 1) := dk_46 (dk_at dksX6_work_4 11 rfl rfl)
theorem dX6_work_204 : decode cX6_work 204 = .ok (.iadd, 1) := dk_96 (dk_at dksX6_work_4 12 rfl rfl)
theorem dX6_work_205 : decode cX6_work 205 = .ok (.iaload, 1) := dk_46 (dk_at dksX6_work_4 13 rfl rfl)
theorem dX6_work_206 : decode cX6_work 206 = .ok (.iastore, 1) := dk_79 (dk_at dksX6_work_4 14 rfl rfl)
theorem dX6_work_207 : decode cX6_work 207 = .ok (.goto 270, 3) := dk_167 1 14 (dk_at dksX6_work_4 15 rfl rfl)
theorem dX6_work_210 : decode cX6_work 210 = .ok (.aload_n 0, 1) := dk_42 (dk_at dksX6_work_4 18 rfl rfl)
theorem dX6_work_211 : decode cX6_work 211 = .ok (.getfield 248, 3) := dk_180 0 248 (dk_at dksX6_work_4 19 rfl rfl)
theorem dX6_work_214 : decode cX6_work 214 = .ok (.iload_n 2, 1) := dk_28 (dk_at dksX6_work_4 22 rfl rfl)
theorem dX6_work_215 : decode cX6_work 215 = .ok (.aload_n 0, 1) := dk_42 (dk_at dksX6_work_4 23 rfl rfl)
theorem dX6_work_216 : decode cX6_work 216 = .ok (.getfield 239, 3) := dk_180 0 239 (dk_at dksX6_work_5 0 rfl rfl)
theorem dX6_work_219 : decode cX6_work 219 = .ok (.aload_n 0, 1) := dk_42 (dk_at dksX6_work_5 3 rfl rfl)
theorem dX6_work_220 : decode cX6_work 220 = .ok (.iload_n 1, 1) := dk_27 (dk_at dksX6_work_5 4 rfl rfl)
theorem dX6_work_221 : decode cX6_work 221 = .ok (.iload_n 2, 1) := dk_28 (dk_at dksX6_work_5 5 rfl rfl)
theorem dX6_work_222 : decode cX6_work 222 = .ok (.iconst 0, 1) := dk_3 (dk_at dksX6_work_5 6 rfl rfl)
theorem dX6_work_223 : decode cX6_work 223 = .ok (.invokevirtual 483, 3) := dk_182 1 227 (dk_at dksX6_work_5 7 rfl rfl)
theorem dX6_work_226 : decode cX6_work 226 = .ok (.iaload, 1) := dk_46 (dk_at dksX6_work_5 10 rfl rfl)
theorem dX6_work_227 : decode cX6_work 227 = .ok (.iastore, 1) := dk_79 (dk_at dksX6_work_5 11 rfl rfl)
theorem dX6_work_228 : decode cX6_work 228 = .ok (.goto 249, 3) := dk_167 0 249 (dk_at dksX6_work_5 12 rfl rfl)
theorem dX6_work_231 : decode cX6_work 231 = .ok (.aload_n 0, 1) := dk_42 (dk_at dksX6_work_5 15 rfl rfl)
theorem dX6_work_232 : decode cX6_work 232 = .ok (.getfield 248, 3) := dk_180 0 248 (dk_at dksX6_work_5 16 rfl rfl)
theorem dX6_work_235 : decode cX6_work 235 = .ok (.iload_n 2, 1) := dk_28 (dk_at dksX6_work_5 19 rfl rfl)
theorem dX6_work_236 : decode cX6_work 236 = .ok (.aload_n 0, 1) := dk_42 (dk_at dksX6_work_5 20 rfl rfl)
theorem dX6_work_237 : decode cX6_work 237 = .ok (.getfield 248, 3) := dk_180 0 248 (dk_at dksX6_work_5 21 rfl rfl)
theorem dX6_work_240 : decode cX6_work 240 = .ok (.iload_n 3, 1) := dk_29 (dk_at dksX6_work_6 0 rfl rfl)
theorem dX6_work_241 : decode cX6_work 241 = .ok (.iaload, 1) := dk_46 (dk_at dksX6_work_6 1 rfl rfl)
theorem dX6_work_242 : decode cX6_work 242 = .ok (.iconst 1, 1) := dk_4 (dk_at dksX6_work_6 2 rfl rfl)
theorem dX6_work_243 : decode cX6_work 243 = .ok (.if_icmp .ne 13, 3) := dk_160 0 13 (dk_at dksX6_work_6 3 rfl rfl)
theorem dX6_work_246 : decode cX6_work 246 = .ok (.aload_n 0, 1) := dk_42 (dk_at dksX6_work_6 6 rfl rfl)
theorem dX6_work_247 : decode cX6_work 247 = .ok (.getfield 248, 3) := dk_180 0 248 (dk_at dksX6_work_6 7 rfl rfl)
theorem dX6_work_250 : decode cX6_work 250 = .ok (.iload 4, 2) := dk_21 4 (dk_at dksX6_work_6 10 rfl rfl)
theorem dX6_work_252 : decode cX6_work 252 = .ok (.iaload, 1) := dk_46 (dk_at dksX6_work_6 12 rfl rfl)
theorem dX6_work_253 : decode cX6_work 253 = .ok (.goto 15, 3) := dk_167 0 15 (dk_at dksX6_work_6 13 rfl rfl)
theorem dX6_work_256 : decode cX6_work 256 = .ok (.aload_n 0, 1) := dk_42 (dk_at dksX6_work_6 16 rfl rfl)
theorem dX6_work_257 : decode cX6_work 257 = .ok (.getfield 248, 3) := dk_180 0 248 (dk_at dksX6_work_6 17 rfl rfl)
theorem dX6_work_260 : decode cX6_work 260 = .ok (.aload_n 0, 1) := dk_42 (dk_at dksX6_work_6 20 rfl rfl)
theorem dX6_work_261 : decode cX6_work 261 = .ok (.getfield 121, 3) := dk_180 0 121 (dk_at dksX6_work_6 21 rfl rfl)
theorem dX6_work_264 : decode cX6_work 264 = .ok (.iload 4, 2) := dk_21 4 (dk_at dksX6_work_7 0 rfl rfl)
theorem dX6_work_266 : decode cX6_work 266 = .ok (.iaload, 1) := dk_46 (dk_at dksX6_work_7 2 rfl rfl)
theorem dX6_work_267 : decode cX6_work 267 = .ok (.iaload, 1) := dk_46 (dk_at dksX6_work_7 3 rfl rfl)
theorem dX6_work_268 : decode cX6_work 268 = .ok (.iastore, 1) := dk_79 (dk_at dksX6_work_7 4 rfl rfl)
theorem dX6_work_269 : decode cX6_work 269 = .ok (.goto 208, 3) := dk_167 0 208 (dk_at dksX6_work_7 5 rfl rfl)
theorem dX6_work_272 : decode cX6_work 272 = .ok (.aload_n 0, 1) := dk_42 (dk_at dksX6_work_7 8 rfl rfl)
theorem dX6_work_273 : decode cX6_work 273 = .ok (.getfield 248, 3) := dk_180 0 248 (dk_at dksX6_work_7 9 rfl rfl)
theorem dX6_work_276 : decode cX6_work 276 = .ok (.iload_n 2, 1) := dk_28 (dk_at dksX6_work_7 12 rfl rfl)
theorem dX6_work_277 : decode cX6_work 277 = .ok (.aload_n 0, 1) := dk_42 (dk_at dksX6_work_7 13 rfl rfl)
theorem dX6_work_278 : decode cX6_work 278 = .ok (.getfield 242, 3) := dk_180 0 242 (dk_at dksX6_work_7 14 rfl rfl)
theorem dX6_work_281 : decode cX6_work 281 = .ok (.iload 5, 2) := dk_21 5 (dk_at dksX6_work_7 17 rfl rfl)
theorem dX6_work_283 : decode cX6_work 283 = .ok (.iaload, 1) := dk_46 (dk_at dksX6_work_7 19 rfl rfl)
theorem dX6_work_284 : decode cX6_work 284 = .ok (.iconst 1, 1) := dk_4 (dk_at dksX6_work_7 20 rfl rfl)
theorem dX6_work_285 : decode cX6_work 285 = .ok (.if_icmp .ne 13, 3) := dk_160 0 13 (dk_at dksX6_work_7 21 rfl rfl)
theorem dX6_work_288 : decode cX6_work 288 = .ok (.aload_n 0, 1) := dk_42 (dk_at dksX6_work_8 0 rfl rfl)
theorem dX6_work_289 : decode cX6_work 289 = .ok (.getfield 248, 3) := dk_180 0 248 (dk_at dksX6_work_8 1 rfl rfl)
theorem dX6_work_292 : decode cX6_work 292 = .ok (.iload 4, 2) := dk_21 4 (dk_at dksX6_work_8 4 rfl rfl)
theorem dX6_work_294 : decode cX6_work 294 = .ok (.iaload, 1) := dk_46 (dk_at dksX6_work_8 6 rfl rfl)
theorem dX6_work_295 : decode cX6_work 295 = .ok (.goto 9, 3) := dk_167 0 9 (dk_at dksX6_work_8 7 rfl rfl)
theorem dX6_work_298 : decode cX6_work 298 = .ok (.aload_n 0, 1) := dk_42 (dk_at dksX6_work_8 10 rfl rfl)
theorem dX6_work_299 : decode cX6_work 299 = .ok (.getfield 248, 3) := dk_180 0 248 (dk_at dksX6_work_8 11 rfl rfl)
theorem dX6_work_302 : decode cX6_work 302 = .ok (.iload_n 3, 1) := dk_29 (dk_at dksX6_work_8 14 rfl rfl)
theorem dX6_work_303 : decode cX6_work 303 = .ok (.iaload, 1) := dk_46 (dk_at dksX6_work_8 15 rfl rfl)
theorem dX6_work_304 : decode cX6_work 304 = .ok (.iastore, 1) := dk_79 (dk_at dksX6_work_8 16 rfl rfl)
theorem dX6_work_305 : decode cX6_work 305 = .ok (.goto 172, 3) := dk_167 0 172 (dk_at dksX6_work_8 17 rfl rfl)
theorem dX6_work_308 : decode cX6_work 308 = .ok (.aload_n 0, 1) := dk_42 (dk_at dksX6_work_8 20 rfl rfl)
theorem dX6_work_309 : decode cX6_work 309 = .ok (.getfield 248, 3) := dk_180 0 248 (dk_at dksX6_work_8 21 rfl rfl)
theorem dX6_work_312 : decode cX6_work 312 = .ok (.iload_n 2, 1) := dk_28 (dk_at dksX6_work_9 0 rfl rfl)
theorem dX6_work_313 : decode cX6_work 313 = .ok (.aload_n 0, 1) := dk_42 (dk_at dksX6_work_9 1 rfl rfl)
theorem dX6_work_314 : decode cX6_work 314 = .ok (.getfield 242, 3) := dk_180 0 242 (dk_at dksX6_work_9 2 rfl rfl)
theorem dX6_work_317 : decode cX6_work 317 = .ok (.iload 5, 2) := dk_21 5 (dk_at dksX6_work_9 5 rfl rfl)
theorem dX6_work_319 : decode cX6_work 319 = .ok (.iconst 1, 1) := dk_4 (dk_at dksX6_work_9 7 rfl rfl)
theorem dX6_work_320 : decode cX6_work 320 = .ok (.iadd, 1) := dk_96 (dk_at dksX6_work_9 8 rfl rfl)
theorem dX6_work_321 : decode cX6_work 321 = .ok (.iaload, 1) := dk_46 (dk_at dksX6_work_9 9 rfl rfl)
theorem dX6_work_322 : decode cX6_work 322 = .ok (.iconst 1, 1) := dk_4 (dk_at dksX6_work_9 10 rfl rfl)
theorem dX6_work_323 : decode cX6_work 323 = .ok (.if_icmp .ne 13, 3) := dk_160 0 13 (dk_at dksX6_work_9 11 rfl rfl)
theorem dX6_work_326 : decode cX6_work 326 = .ok (.aload_n 0, 1) := dk_42 (dk_at dksX6_work_9 14 rfl rfl)
theorem dX6_work_327 : decode cX6_work 327 = .ok (.getfield 242, 3) := dk_180 0 242 (dk_at dksX6_work_9 15 rfl rfl)
theorem dX6_work_330 : decode cX6_work 330 = .ok (.iload 5, 2) := dk_21 5 (dk_at dksX6_work_9 18 rfl rfl)
theorem dX6_work_332 : decode cX6_work 332 = .ok (.iaload, 1) := dk_46 (dk_at dksX6_work_9 20 rfl rfl)
theorem dX6_work_333 : decode cX6_work 333 = .ok (.goto 9, 3) := dk_167 0 9 (dk_at dksX6_work_9 21 rfl rfl)
theorem dX6_work_336 : decode cX6_work 336 = .ok (.aload_n 0, 1) := dk_42 (dk_at dksX6_work_10 0 rfl rfl)
theorem dX6_work_337 : decode cX6_work 337 = .ok (.getfield 248, 3) := dk_180 0 248 (dk_at dksX6_work_10 1 rfl rfl)
theorem dX6_work_340 : decode cX6_work 340 = .ok (.iload_n 3, 1) := dk_29 (dk_at dksX6_work_10 4 rfl rfl)
theorem dX6_work_341 : decode cX6_work 341 = .ok (.iaload, 1) := dk_46 (dk_at dksX6_work_10 5 rfl rfl)
theorem dX6_work_342 : decode cX6_work 342 = .ok (.iastore, 1) := dk_79 (dk_at dksX6_work_10 6 rfl rfl)
theorem dX6_work_343 : decode cX6_work 343 = .ok (.goto 134, 3) := dk_167 0 134 (dk_at dksX6_work_10 7 rfl rfl)
theorem dX6_work_346 : decode cX6_work 346 = .ok (.aload_n 0, 1) := dk_42 (dk_at dksX6_work_10 10 rfl rfl)
theorem dX6_work_347 : decode cX6_work 347 = .ok (.getfield 248, 3) := dk_180 0 248 (dk_at dksX6_work_10 11 rfl rfl)
theorem dX6_work_350 : decode cX6_work 350 = .ok (.iload_n 2, 1) := dk_28 (dk_at dksX6_work_10 14 rfl rfl)
theorem dX6_work_351 : decode cX6_work 351 = .ok (.aload_n 0, 1) := dk_42 (dk_at dksX6_work_10 15 rfl rfl)
theorem dX6_work_352 : decode cX6_work 352 = .ok (.getfield 248, 3) := dk_180 0 248 (dk_at dksX6_work_10 16 rfl rfl)
theorem dX6_work_355 : decode cX6_work 355 = .ok (.iload_n 3, 1) := dk_29 (dk_at dksX6_work_10 19 rfl rfl)
theorem dX6_work_356 : decode cX6_work 356 = .ok (.iaload, 1) := dk_46 (dk_at dksX6_work_10 20 rfl rfl)
theorem dX6_work_357 : decode cX6_work 357 = .ok (.ineg, 1) := dk_116 (dk_at dksX6_work_10 21 rfl rfl)
theorem dX6_work_358 : decode cX6_work 358 = .ok (.iastore, 1) := dk_79 (dk_at dksX6_work_10 22 rfl rfl)
theorem dX6_work_359 : decode cX6_work 359 = .ok (.goto 118, 3) := dk_167 0 118 (dk_at dksX6_work_11 0 rfl rfl)
theorem dX6_work_362 : decode cX6_work 362 = .ok (.aload_n 0, 1) := dk_42 (dk_at dksX6_work_11 3 rfl rfl)
theorem dX6_work_363 : decode cX6_work 363 = .ok (.getfield 248, 3) := dk_180 0 248 (dk_at dksX6_work_11 4 rfl rfl)
theorem dX6_work_366 : decode cX6_work 366 = .ok (.iload_n 2, 1) := dk_28 (dk_at dksX6_work_11 7 rfl rfl)
theorem dX6_work_367 : decode cX6_work 367 = .ok (.iconst 1, 1) := dk_4 (dk_at dksX6_work_11 8 rfl rfl)
theorem dX6_work_368 : decode cX6_work 368 = .ok (.aload_n 0, 1) := dk_42 (dk_at dksX6_work_11 9 rfl rfl)
theorem dX6_work_369 : decode cX6_work 369 = .ok (.getfield 248, 3) := dk_180 0 248 (dk_at dksX6_work_11 10 rfl rfl)
theorem dX6_work_372 : decode cX6_work 372 = .ok (.iload_n 3, 1) := dk_29 (dk_at dksX6_work_11 13 rfl rfl)
theorem dX6_work_373 : decode cX6_work 373 = .ok (.iaload, 1) := dk_46 (dk_at dksX6_work_11 14 rfl rfl)
theorem dX6_work_374 : decode cX6_work 374 = .ok (.isub, 1) := dk_100 (dk_at dksX6_work_11 15 rfl rfl)
theorem dX6_work_375 : decode cX6_work 375 = .ok (.iastore, 1) := dk_79 (dk_at dksX6_work_11 16 rfl rfl)
theorem dX6_work_376 : decode cX6_work 376 = .ok (.goto 101, 3) := dk_167 0 101 (dk_at dksX6_work_11 17 rfl rfl)
theorem dX6_work_379 : decode cX6_work 379 = .ok (.aload_n 0, 1) := dk_42 (dk_at dksX6_work_11 20 rfl rfl)
theorem dX6_work_380 : decode cX6_work 380 = .ok (.getfield 248, 3) := dk_180 0 248 (dk_at dksX6_work_11 21 rfl rfl)
theorem dX6_work_383 : decode cX6_work 383 = .ok (.iload_n 2, 1) := dk_28 (dk_at dksX6_work_12 0 rfl rfl)
theorem dX6_work_384 : decode cX6_work 384 = .ok (.aload_n 0, 1) := dk_42 (dk_at dksX6_work_12 1 rfl rfl)
theorem dX6_work_385 : decode cX6_work 385 = .ok (.getfield 242, 3) := dk_180 0 242 (dk_at dksX6_work_12 2 rfl rfl)
theorem dX6_work_388 : decode cX6_work 388 = .ok (.iload 5, 2) := dk_21 5 (dk_at dksX6_work_12 5 rfl rfl)
theorem dX6_work_390 : decode cX6_work 390 = .ok (.iaload, 1) := dk_46 (dk_at dksX6_work_12 7 rfl rfl)
theorem dX6_work_391 : decode cX6_work 391 = .ok (.iastore, 1) := dk_79 (dk_at dksX6_work_12 8 rfl rfl)
theorem dX6_work_392 : decode cX6_work 392 = .ok (.goto 85, 3) := dk_167 0 85 (dk_at dksX6_work_12 9 rfl rfl)
theorem dX6_work_395 : decode cX6_work 395 = .ok (.aload_n 0, 1) := dk_42 (dk_at dksX6_work_12 12 rfl rfl)
theorem dX6_work_396 : decode cX6_work 396 = .ok (.getfield 248, 3) := dk_180 0 248 (dk_at dksX6_work_12 13 rfl rfl)
theorem dX6_work_399 : decode cX6_work 399 = .ok (.iload_n 2, 1) := dk_28 (dk_at dksX6_work_12 16 rfl rfl)
theorem dX6_work_400 : decode cX6_work 400 = .ok (.aload_n 0, 1) := dk_42 (dk_at dksX6_work_12 17 rfl rfl)
theorem dX6_work_401 : decode cX6_work 401 = .ok (.iload_n 1, 1) := dk_27 (dk_at dksX6_work_12 18 rfl rfl)
theorem dX6_work_402 : decode cX6_work 402 = .ok (.aload_n 0, 1) := dk_42 (dk_at dksX6_work_12 19 rfl rfl)
theorem dX6_work_403 : decode cX6_work 403 = .ok (.getfield 145, 3) := dk_180 0 145 (dk_at dksX6_work_12 20 rfl rfl)
theorem dX6_work_406 : decode cX6_work 406 = .ok (.iload_n 3, 1) := dk_29 (dk_at dksX6_work_12 23 rfl rfl)
theorem dX6_work_407 : decode cX6_work 407 = .ok (.iaload, 1) := dk_46 (dk_at dksX6_work_13 0 rfl rfl)
theorem dX6_work_408 : decode cX6_work 408 = .ok (.invokevirtual 527, 3) := dk_182 2 15 (dk_at dksX6_work_13 1 rfl rfl)
theorem dX6_work_411 : decode cX6_work 411 = .ok (.ifCond .eq 12, 3) := dk_153 0 12 (dk_at dksX6_work_13 4 rfl rfl)
theorem dX6_work_414 : decode cX6_work 414 = .ok (.aload_n 0, 1) := dk_42 (dk_at dksX6_work_13 7 rfl rfl)
theorem dX6_work_415 : decode cX6_work 415 = .ok (.getfield 248, 3) := dk_180 0 248 (dk_at dksX6_work_13 8 rfl rfl)
theorem dX6_work_418 : decode cX6_work 418 = .ok (.iload_n 3, 1) := dk_29 (dk_at dksX6_work_13 11 rfl rfl)
theorem dX6_work_419 : decode cX6_work 419 = .ok (.iaload, 1) := dk_46 (dk_at dksX6_work_13 12 rfl rfl)
theorem dX6_work_420 : decode cX6_work 420 = .ok (.goto 10, 3) := dk_167 0 10 (dk_at dksX6_work_13 13 rfl rfl)
theorem dX6_work_423 : decode cX6_work 423 = .ok (.aload_n 0, 1) := dk_42 (dk_at dksX6_work_13 16 rfl rfl)
theorem dX6_work_424 : decode cX6_work 424 = .ok (.getfield 242, 3) := dk_180 0 242 (dk_at dksX6_work_13 17 rfl rfl)
theorem dX6_work_427 : decode cX6_work 427 = .ok (.iload 5, 2) := dk_21 5 (dk_at dksX6_work_13 20 rfl rfl)
theorem dX6_work_429 : decode cX6_work 429 = .ok (.iaload, 1) := dk_46 (dk_at dksX6_work_13 22 rfl rfl)
theorem dX6_work_430 : decode cX6_work 430 = .ok (.iastore, 1) := dk_79 (dk_at dksX6_work_13 23 rfl rfl)
theorem dX6_work_431 : decode cX6_work 431 = .ok (.goto 46, 3) := dk_167 0 46 (dk_at dksX6_work_14 0 rfl rfl)
theorem dX6_work_434 : decode cX6_work 434 = .ok (.aload_n 0, 1) := dk_42 (dk_at dksX6_work_14 3 rfl rfl)
theorem dX6_work_435 : decode cX6_work 435 = .ok (.getfield 248, 3) := dk_180 0 248 (dk_at dksX6_work_14 4 rfl rfl)
theorem dX6_work_438 : decode cX6_work 438 = .ok (.iload_n 2, 1) := dk_28 (dk_at dksX6_work_14 7 rfl rfl)
theorem dX6_work_439 : decode cX6_work 439 = .ok (.aload_n 0, 1) := dk_42 (dk_at dksX6_work_14 8 rfl rfl)
theorem dX6_work_440 : decode cX6_work 440 = .ok (.getfield 248, 3) := dk_180 0 248 (dk_at dksX6_work_14 9 rfl rfl)
theorem dX6_work_443 : decode cX6_work 443 = .ok (.iload_n 3, 1) := dk_29 (dk_at dksX6_work_14 12 rfl rfl)
theorem dX6_work_444 : decode cX6_work 444 = .ok (.iaload, 1) := dk_46 (dk_at dksX6_work_14 13 rfl rfl)
theorem dX6_work_445 : decode cX6_work 445 = .ok (.iastore, 1) := dk_79 (dk_at dksX6_work_14 14 rfl rfl)
theorem dX6_work_446 : decode cX6_work 446 = .ok (.goto 31, 3) := dk_167 0 31 (dk_at dksX6_work_14 15 rfl rfl)
theorem dX6_work_449 : decode cX6_work 449 = .ok (.aload_n 0, 1) := dk_42 (dk_at dksX6_work_14 18 rfl rfl)
theorem dX6_work_450 : decode cX6_work 450 = .ok (.getfield 248, 3) := dk_180 0 248 (dk_at dksX6_work_14 19 rfl rfl)
theorem dX6_work_453 : decode cX6_work 453 = .ok (.iload_n 2, 1) := dk_28 (dk_at dksX6_work_14 22 rfl rfl)
theorem dX6_work_454 : decode cX6_work 454 = .ok (.aload_n 0, 1) := dk_42 (dk_at dksX6_work_14 23 rfl rfl)
theorem dX6_work_455 : decode cX6_work 455 = .ok (.getfield 112, 3) := dk_180 0 112 (dk_at dksX6_work_15 0 rfl rfl)
theorem dX6_work_458 : decode cX6_work 458 = .ok (.iload_n 2, 1) := dk_28 (dk_at dksX6_work_15 3 rfl rfl)
theorem dX6_work_459 : decode cX6_work 459 = .ok (.iaload, 1) := dk_46 (dk_at dksX6_work_15 4 rfl rfl)
theorem dX6_work_460 : decode cX6_work 460 = .ok (.aload_n 0, 1) := dk_42 (dk_at dksX6_work_15 5 rfl rfl)
theorem dX6_work_461 : decode cX6_work 461 = .ok (.getfield 248, 3) := dk_180 0 248 (dk_at dksX6_work_15 6 rfl rfl)
theorem dX6_work_464 : decode cX6_work 464 = .ok (.iload_n 3, 1) := dk_29 (dk_at dksX6_work_15 9 rfl rfl)
theorem dX6_work_465 : decode cX6_work 465 = .ok (.iaload, 1) := dk_46 (dk_at dksX6_work_15 10 rfl rfl)
theorem dX6_work_466 : decode cX6_work 466 = .ok (.aload_n 0, 1) := dk_42 (dk_at dksX6_work_15 11 rfl rfl)
theorem dX6_work_467 : decode cX6_work 467 = .ok (.getfield 248, 3) := dk_180 0 248 (dk_at dksX6_work_15 12 rfl rfl)
theorem dX6_work_470 : decode cX6_work 470 = .ok (.iload 4, 2) := dk_21 4 (dk_at dksX6_work_15 15 rfl rfl)
theorem dX6_work_472 : decode cX6_work 472 = .ok (.iaload, 1) := dk_46 (dk_at dksX6_work_15 17 rfl rfl)
theorem dX6_work_473 : decode cX6_work 473 = .ok (.invokestatic 530, 3) := dk_184 2 18 (dk_at dksX6_work_15 18 rfl rfl)
theorem dX6_work_476 : decode cX6_work 476 = .ok (.iastore, 1) := dk_79 (dk_at dksX6_work_15 21 rfl rfl)
theorem dX6_work_477 : decode cX6_work 477 = .ok (.return_, 1) := dk_177 (dk_at dksX6_work_15 22 rfl rfl)
abbrev cX6_joined : ByteArray := prog_26_method_65_code
def yX6_joined : MethodName := ⟨RX6, "joined", "(III)I"⟩
def dkwX6_joined_8 : List UInt8 := [154, 0, 7, 3, 167, 0, 6, 27, 28, 112, 172]
abbrev dktX6_joined_8 : List UInt8 := dkwX6_joined_8 ++ []
def dkwX6_joined_7 : List UInt8 := [96, 172, 27, 28, 100, 172, 27, 28, 104, 172, 28, 154, 0, 7, 3, 167, 0, 6, 27, 28, 108, 172, 28]
abbrev dktX6_joined_7 : List UInt8 := dkwX6_joined_7 ++ dktX6_joined_8
def dkwX6_joined_6 : List UInt8 := [167, 0, 4, 3, 184, 2, 21, 172, 27, 28, 161, 0, 7, 4, 167, 0, 4, 3, 184, 2, 21, 172, 27, 28]
abbrev dktX6_joined_6 : List UInt8 := dkwX6_joined_6 ++ dktX6_joined_7
def dkwX6_joined_5 : List UInt8 := [184, 2, 21, 172, 27, 28, 163, 0, 7, 4, 167, 0, 4, 3, 184, 2, 21, 172, 27, 28, 164, 0, 7, 4]
abbrev dktX6_joined_5 : List UInt8 := dkwX6_joined_5 ++ dktX6_joined_6
def dkwX6_joined_4 : List UInt8 := [159, 0, 7, 4, 167, 0, 4, 3, 184, 2, 21, 172, 27, 28, 162, 0, 7, 4, 167, 0, 4, 3]
abbrev dktX6_joined_4 : List UInt8 := dkwX6_joined_4 ++ dktX6_joined_5
def dkwX6_joined_3 : List UInt8 := [130, 172, 27, 28, 126, 172, 27, 28, 160, 0, 7, 4, 167, 0, 4, 3, 184, 2, 21, 172, 27, 28]
abbrev dktX6_joined_3 : List UInt8 := dkwX6_joined_3 ++ dktX6_joined_4
def dkwX6_joined_2 : List UInt8 := [27, 153, 0, 8, 28, 4, 160, 0, 7, 4, 167, 0, 4, 3, 184, 2, 21, 172, 27, 28, 128, 172, 27, 28]
abbrev dktX6_joined_2 : List UInt8 := dkwX6_joined_2 ++ dktX6_joined_3
def dkwX6_joined_1 : List UInt8 := [170, 0, 0, 0, 0, 0, 209, 0, 0, 0, 7, 0, 0, 0, 20, 0, 0, 0, 71, 0, 0, 0, 89, 0, 0, 0, 93, 0, 0, 0, 97, 0, 0, 0, 101, 0, 0, 0, 115, 0, 0, 0, 129, 0, 0, 0, 143, 0, 0, 0, 157, 0, 0, 0, 171, 0, 0, 0, 185, 0, 0, 0, 189, 0, 0, 0, 193, 0, 0, 0, 197]
abbrev dktX6_joined_1 : List UInt8 := dkwX6_joined_1 ++ dktX6_joined_2
def dkwX6_joined_0 : List UInt8 := [26]
abbrev dktX6_joined_0 : List UInt8 := dkwX6_joined_0 ++ dktX6_joined_1
theorem dksX6_joined_0 : cX6_joined.data.toList.drop 0 = dktX6_joined_0 := by decide +kernel
theorem dksX6_joined_1 : cX6_joined.data.toList.drop 1 = dktX6_joined_1 := dk_seg dksX6_joined_0 1 rfl rfl
theorem dksX6_joined_2 : cX6_joined.data.toList.drop 72 = dktX6_joined_2 := dk_seg dksX6_joined_1 71 rfl rfl
theorem dksX6_joined_3 : cX6_joined.data.toList.drop 96 = dktX6_joined_3 := dk_seg dksX6_joined_2 24 rfl rfl
theorem dksX6_joined_4 : cX6_joined.data.toList.drop 118 = dktX6_joined_4 := dk_seg dksX6_joined_3 22 rfl rfl
theorem dksX6_joined_5 : cX6_joined.data.toList.drop 140 = dktX6_joined_5 := dk_seg dksX6_joined_4 22 rfl rfl
theorem dksX6_joined_6 : cX6_joined.data.toList.drop 164 = dktX6_joined_6 := dk_seg dksX6_joined_5 24 rfl rfl
theorem dksX6_joined_7 : cX6_joined.data.toList.drop 188 = dktX6_joined_7 := dk_seg dksX6_joined_6 24 rfl rfl
theorem dksX6_joined_8 : cX6_joined.data.toList.drop 211 = dktX6_joined_8 := dk_seg dksX6_joined_7 23 rfl rfl
theorem dX6_joined_0 : decode cX6_joined 0 = .ok (.iload_n 0, 1) := dk_26 (dk_at dksX6_joined_0 0 rfl rfl)
theorem dX6_joined_1 : decode cX6_joined 1 = .ok (.tableswitch 209 7 20 #[71, 89, 93, 97, 101, 115, 129, 143, 157, 171, 185, 189, 193, 197], 71) := by decide +kernel
theorem dX6_joined_72 : decode cX6_joined 72 = .ok (.iload_n 1, 1) := dk_27 (dk_at dksX6_joined_2 0 rfl rfl)
theorem dX6_joined_73 : decode cX6_joined 73 = .ok (.ifCond .eq 8, 3) := dk_153 0 8 (dk_at dksX6_joined_2 1 rfl rfl)
theorem dX6_joined_76 : decode cX6_joined 76 = .ok (.iload_n 2, 1) := dk_28 (dk_at dksX6_joined_2 4 rfl rfl)
theorem dX6_joined_77 : decode cX6_joined 77 = .ok (.iconst 1, 1) := dk_4 (dk_at dksX6_joined_2 5 rfl rfl)
theorem dX6_joined_78 : decode cX6_joined 78 = .ok (.if_icmp .ne 7, 3) := dk_160 0 7 (dk_at dksX6_joined_2 6 rfl rfl)
theorem dX6_joined_81 : decode cX6_joined 81 = .ok (.iconst 1, 1) := dk_4 (dk_at dksX6_joined_2 9 rfl rfl)
theorem dX6_joined_82 : decode cX6_joined 82 = .ok (.goto 4, 3) := dk_167 0 4 (dk_at dksX6_joined_2 10 rfl rfl)
theorem dX6_joined_85 : decode cX6_joined 85 = .ok (.iconst 0, 1) := dk_3 (dk_at dksX6_joined_2 13 rfl rfl)
theorem dX6_joined_86 : decode cX6_joined 86 = .ok (.invokestatic 533, 3) := dk_184 2 21 (dk_at dksX6_joined_2 14 rfl rfl)
theorem dX6_joined_89 : decode cX6_joined 89 = .ok (.ireturn, 1) := dk_172 (dk_at dksX6_joined_2 17 rfl rfl)
theorem dX6_joined_90 : decode cX6_joined 90 = .ok (.iload_n 1, 1) := dk_27 (dk_at dksX6_joined_2 18 rfl rfl)
theorem dX6_joined_91 : decode cX6_joined 91 = .ok (.iload_n 2, 1) := dk_28 (dk_at dksX6_joined_2 19 rfl rfl)
theorem dX6_joined_92 : decode cX6_joined 92 = .ok (.ior, 1) := dk_128 (dk_at dksX6_joined_2 20 rfl rfl)
theorem dX6_joined_93 : decode cX6_joined 93 = .ok (.ireturn, 1) := dk_172 (dk_at dksX6_joined_2 21 rfl rfl)
theorem dX6_joined_94 : decode cX6_joined 94 = .ok (.iload_n 1, 1) := dk_27 (dk_at dksX6_joined_2 22 rfl rfl)
theorem dX6_joined_95 : decode cX6_joined 95 = .ok (.iload_n 2, 1) := dk_28 (dk_at dksX6_joined_2 23 rfl rfl)
theorem dX6_joined_96 : decode cX6_joined 96 = .ok (.ixor, 1) := dk_130 (dk_at dksX6_joined_3 0 rfl rfl)
theorem dX6_joined_97 : decode cX6_joined 97 = .ok (.ireturn, 1) := dk_172 (dk_at dksX6_joined_3 1 rfl rfl)
theorem dX6_joined_98 : decode cX6_joined 98 = .ok (.iload_n 1, 1) := dk_27 (dk_at dksX6_joined_3 2 rfl rfl)
theorem dX6_joined_99 : decode cX6_joined 99 = .ok (.iload_n 2, 1) := dk_28 (dk_at dksX6_joined_3 3 rfl rfl)
theorem dX6_joined_100 : decode cX6_joined 100 = .ok (.iand, 1) := dk_126 (dk_at dksX6_joined_3 4 rfl rfl)
theorem dX6_joined_101 : decode cX6_joined 101 = .ok (.ireturn, 1) := dk_172 (dk_at dksX6_joined_3 5 rfl rfl)
theorem dX6_joined_102 : decode cX6_joined 102 = .ok (.iload_n 1, 1) := dk_27 (dk_at dksX6_joined_3 6 rfl rfl)
theorem dX6_joined_103 : decode cX6_joined 103 = .ok (.iload_n 2, 1) := dk_28 (dk_at dksX6_joined_3 7 rfl rfl)
theorem dX6_joined_104 : decode cX6_joined 104 = .ok (.if_icmp .ne 7, 3) := dk_160 0 7 (dk_at dksX6_joined_3 8 rfl rfl)
theorem dX6_joined_107 : decode cX6_joined 107 = .ok (.iconst 1, 1) := dk_4 (dk_at dksX6_joined_3 11 rfl rfl)
theorem dX6_joined_108 : decode cX6_joined 108 = .ok (.goto 4, 3) := dk_167 0 4 (dk_at dksX6_joined_3 12 rfl rfl)
theorem dX6_joined_111 : decode cX6_joined 111 = .ok (.iconst 0, 1) := dk_3 (dk_at dksX6_joined_3 15 rfl rfl)
theorem dX6_joined_112 : decode cX6_joined 112 = .ok (.invokestatic 533, 3) := dk_184 2 21 (dk_at dksX6_joined_3 16 rfl rfl)
theorem dX6_joined_115 : decode cX6_joined 115 = .ok (.ireturn, 1) := dk_172 (dk_at dksX6_joined_3 19 rfl rfl)
theorem dX6_joined_116 : decode cX6_joined 116 = .ok (.iload_n 1, 1) := dk_27 (dk_at dksX6_joined_3 20 rfl rfl)
theorem dX6_joined_117 : decode cX6_joined 117 = .ok (.iload_n 2, 1) := dk_28 (dk_at dksX6_joined_3 21 rfl rfl)
theorem dX6_joined_118 : decode cX6_joined 118 = .ok (.if_icmp .eq 7, 3) := dk_159 0 7 (dk_at dksX6_joined_4 0 rfl rfl)
theorem dX6_joined_121 : decode cX6_joined 121 = .ok (.iconst 1, 1) := dk_4 (dk_at dksX6_joined_4 3 rfl rfl)
theorem dX6_joined_122 : decode cX6_joined 122 = .ok (.goto 4, 3) := dk_167 0 4 (dk_at dksX6_joined_4 4 rfl rfl)
theorem dX6_joined_125 : decode cX6_joined 125 = .ok (.iconst 0, 1) := dk_3 (dk_at dksX6_joined_4 7 rfl rfl)
theorem dX6_joined_126 : decode cX6_joined 126 = .ok (.invokestatic 533, 3) := dk_184 2 21 (dk_at dksX6_joined_4 8 rfl rfl)
theorem dX6_joined_129 : decode cX6_joined 129 = .ok (.ireturn, 1) := dk_172 (dk_at dksX6_joined_4 11 rfl rfl)
theorem dX6_joined_130 : decode cX6_joined 130 = .ok (.iload_n 1, 1) := dk_27 (dk_at dksX6_joined_4 12 rfl rfl)
theorem dX6_joined_131 : decode cX6_joined 131 = .ok (.iload_n 2, 1) := dk_28 (dk_at dksX6_joined_4 13 rfl rfl)
theorem dX6_joined_132 : decode cX6_joined 132 = .ok (.if_icmp .ge 7, 3) := dk_162 0 7 (dk_at dksX6_joined_4 14 rfl rfl)
theorem dX6_joined_135 : decode cX6_joined 135 = .ok (.iconst 1, 1) := dk_4 (dk_at dksX6_joined_4 17 rfl rfl)
theorem dX6_joined_136 : decode cX6_joined 136 = .ok (.goto 4, 3) := dk_167 0 4 (dk_at dksX6_joined_4 18 rfl rfl)
theorem dX6_joined_139 : decode cX6_joined 139 = .ok (.iconst 0, 1) := dk_3 (dk_at dksX6_joined_4 21 rfl rfl)
theorem dX6_joined_140 : decode cX6_joined 140 = .ok (.invokestatic 533, 3) := dk_184 2 21 (dk_at dksX6_joined_5 0 rfl rfl)
theorem dX6_joined_143 : decode cX6_joined 143 = .ok (.ireturn, 1) := dk_172 (dk_at dksX6_joined_5 3 rfl rfl)
theorem dX6_joined_144 : decode cX6_joined 144 = .ok (.iload_n 1, 1) := dk_27 (dk_at dksX6_joined_5 4 rfl rfl)
theorem dX6_joined_145 : decode cX6_joined 145 = .ok (.iload_n 2, 1) := dk_28 (dk_at dksX6_joined_5 5 rfl rfl)
theorem dX6_joined_146 : decode cX6_joined 146 = .ok (.if_icmp .gt 7, 3) := dk_163 0 7 (dk_at dksX6_joined_5 6 rfl rfl)
theorem dX6_joined_149 : decode cX6_joined 149 = .ok (.iconst 1, 1) := dk_4 (dk_at dksX6_joined_5 9 rfl rfl)
theorem dX6_joined_150 : decode cX6_joined 150 = .ok (.goto 4, 3) := dk_167 0 4 (dk_at dksX6_joined_5 10 rfl rfl)
theorem dX6_joined_153 : decode cX6_joined 153 = .ok (.iconst 0, 1) := dk_3 (dk_at dksX6_joined_5 13 rfl rfl)
theorem dX6_joined_154 : decode cX6_joined 154 = .ok (.invokestatic 533, 3) := dk_184 2 21 (dk_at dksX6_joined_5 14 rfl rfl)
theorem dX6_joined_157 : decode cX6_joined 157 = .ok (.ireturn, 1) := dk_172 (dk_at dksX6_joined_5 17 rfl rfl)
theorem dX6_joined_158 : decode cX6_joined 158 = .ok (.iload_n 1, 1) := dk_27 (dk_at dksX6_joined_5 18 rfl rfl)
theorem dX6_joined_159 : decode cX6_joined 159 = .ok (.iload_n 2, 1) := dk_28 (dk_at dksX6_joined_5 19 rfl rfl)
theorem dX6_joined_160 : decode cX6_joined 160 = .ok (.if_icmp .le 7, 3) := dk_164 0 7 (dk_at dksX6_joined_5 20 rfl rfl)
theorem dX6_joined_163 : decode cX6_joined 163 = .ok (.iconst 1, 1) := dk_4 (dk_at dksX6_joined_5 23 rfl rfl)
theorem dX6_joined_164 : decode cX6_joined 164 = .ok (.goto 4, 3) := dk_167 0 4 (dk_at dksX6_joined_6 0 rfl rfl)
theorem dX6_joined_167 : decode cX6_joined 167 = .ok (.iconst 0, 1) := dk_3 (dk_at dksX6_joined_6 3 rfl rfl)
theorem dX6_joined_168 : decode cX6_joined 168 = .ok (.invokestatic 533, 3) := dk_184 2 21 (dk_at dksX6_joined_6 4 rfl rfl)
theorem dX6_joined_171 : decode cX6_joined 171 = .ok (.ireturn, 1) := dk_172 (dk_at dksX6_joined_6 7 rfl rfl)
theorem dX6_joined_172 : decode cX6_joined 172 = .ok (.iload_n 1, 1) := dk_27 (dk_at dksX6_joined_6 8 rfl rfl)
theorem dX6_joined_173 : decode cX6_joined 173 = .ok (.iload_n 2, 1) := dk_28 (dk_at dksX6_joined_6 9 rfl rfl)
theorem dX6_joined_174 : decode cX6_joined 174 = .ok (.if_icmp .lt 7, 3) := dk_161 0 7 (dk_at dksX6_joined_6 10 rfl rfl)
theorem dX6_joined_177 : decode cX6_joined 177 = .ok (.iconst 1, 1) := dk_4 (dk_at dksX6_joined_6 13 rfl rfl)
theorem dX6_joined_178 : decode cX6_joined 178 = .ok (.goto 4, 3) := dk_167 0 4 (dk_at dksX6_joined_6 14 rfl rfl)
theorem dX6_joined_181 : decode cX6_joined 181 = .ok (.iconst 0, 1) := dk_3 (dk_at dksX6_joined_6 17 rfl rfl)
theorem dX6_joined_182 : decode cX6_joined 182 = .ok (.invokestatic 533, 3) := dk_184 2 21 (dk_at dksX6_joined_6 18 rfl rfl)
theorem dX6_joined_185 : decode cX6_joined 185 = .ok (.ireturn, 1) := dk_172 (dk_at dksX6_joined_6 21 rfl rfl)
theorem dX6_joined_186 : decode cX6_joined 186 = .ok (.iload_n 1, 1) := dk_27 (dk_at dksX6_joined_6 22 rfl rfl)
theorem dX6_joined_187 : decode cX6_joined 187 = .ok (.iload_n 2, 1) := dk_28 (dk_at dksX6_joined_6 23 rfl rfl)
theorem dX6_joined_188 : decode cX6_joined 188 = .ok (.iadd, 1) := dk_96 (dk_at dksX6_joined_7 0 rfl rfl)
theorem dX6_joined_189 : decode cX6_joined 189 = .ok (.ireturn, 1) := dk_172 (dk_at dksX6_joined_7 1 rfl rfl)
theorem dX6_joined_190 : decode cX6_joined 190 = .ok (.iload_n 1, 1) := dk_27 (dk_at dksX6_joined_7 2 rfl rfl)
theorem dX6_joined_191 : decode cX6_joined 191 = .ok (.iload_n 2, 1) := dk_28 (dk_at dksX6_joined_7 3 rfl rfl)
theorem dX6_joined_192 : decode cX6_joined 192 = .ok (.isub, 1) := dk_100 (dk_at dksX6_joined_7 4 rfl rfl)
theorem dX6_joined_193 : decode cX6_joined 193 = .ok (.ireturn, 1) := dk_172 (dk_at dksX6_joined_7 5 rfl rfl)
theorem dX6_joined_194 : decode cX6_joined 194 = .ok (.iload_n 1, 1) := dk_27 (dk_at dksX6_joined_7 6 rfl rfl)
theorem dX6_joined_195 : decode cX6_joined 195 = .ok (.iload_n 2, 1) := dk_28 (dk_at dksX6_joined_7 7 rfl rfl)
theorem dX6_joined_196 : decode cX6_joined 196 = .ok (.imul, 1) := dk_104 (dk_at dksX6_joined_7 8 rfl rfl)
theorem dX6_joined_197 : decode cX6_joined 197 = .ok (.ireturn, 1) := dk_172 (dk_at dksX6_joined_7 9 rfl rfl)
theorem dX6_joined_198 : decode cX6_joined 198 = .ok (.iload_n 2, 1) := dk_28 (dk_at dksX6_joined_7 10 rfl rfl)
theorem dX6_joined_199 : decode cX6_joined 199 = .ok (.ifCond .ne 7, 3) := dk_154 0 7 (dk_at dksX6_joined_7 11 rfl rfl)
theorem dX6_joined_202 : decode cX6_joined 202 = .ok (.iconst 0, 1) := dk_3 (dk_at dksX6_joined_7 14 rfl rfl)
theorem dX6_joined_203 : decode cX6_joined 203 = .ok (.goto 6, 3) := dk_167 0 6 (dk_at dksX6_joined_7 15 rfl rfl)
theorem dX6_joined_206 : decode cX6_joined 206 = .ok (.iload_n 1, 1) := dk_27 (dk_at dksX6_joined_7 18 rfl rfl)
theorem dX6_joined_207 : decode cX6_joined 207 = .ok (.iload_n 2, 1) := dk_28 (dk_at dksX6_joined_7 19 rfl rfl)
theorem dX6_joined_208 : decode cX6_joined 208 = .ok (.idiv, 1) := dk_108 (dk_at dksX6_joined_7 20 rfl rfl)
theorem dX6_joined_209 : decode cX6_joined 209 = .ok (.ireturn, 1) := dk_172 (dk_at dksX6_joined_7 21 rfl rfl)
theorem dX6_joined_210 : decode cX6_joined 210 = .ok (.iload_n 2, 1) := dk_28 (dk_at dksX6_joined_7 22 rfl rfl)
theorem dX6_joined_211 : decode cX6_joined 211 = .ok (.ifCond .ne 7, 3) := dk_154 0 7 (dk_at dksX6_joined_8 0 rfl rfl)
theorem dX6_joined_214 : decode cX6_joined 214 = .ok (.iconst 0, 1) := dk_3 (dk_at dksX6_joined_8 3 rfl rfl)
theorem dX6_joined_215 : decode cX6_joined 215 = .ok (.goto 6, 3) := dk_167 0 6 (dk_at dksX6_joined_8 4 rfl rfl)
theorem dX6_joined_218 : decode cX6_joined 218 = .ok (.iload_n 1, 1) := dk_27 (dk_at dksX6_joined_8 7 rfl rfl)
theorem dX6_joined_219 : decode cX6_joined 219 = .ok (.iload_n 2, 1) := dk_28 (dk_at dksX6_joined_8 8 rfl rfl)
theorem dX6_joined_220 : decode cX6_joined 220 = .ok (.irem, 1) := dk_112 (dk_at dksX6_joined_8 9 rfl rfl)
theorem dX6_joined_221 : decode cX6_joined 221 = .ok (.ireturn, 1) := dk_172 (dk_at dksX6_joined_8 10 rfl rfl)
abbrev cX6_truth : ByteArray := prog_26_method_64_code
def yX6_truth : MethodName := ⟨RX6, "truth", "(Z)I"⟩
def dkwX6_truth_0 : List UInt8 := [26, 153, 0, 7, 4, 167, 0, 4, 3, 172]
abbrev dktX6_truth_0 : List UInt8 := dkwX6_truth_0 ++ []
theorem dksX6_truth_0 : cX6_truth.data.toList.drop 0 = dktX6_truth_0 := by decide +kernel
theorem dX6_truth_0 : decode cX6_truth 0 = .ok (.iload_n 0, 1) := dk_26 (dk_at dksX6_truth_0 0 rfl rfl)
theorem dX6_truth_1 : decode cX6_truth 1 = .ok (.ifCond .eq 7, 3) := dk_153 0 7 (dk_at dksX6_truth_0 1 rfl rfl)
theorem dX6_truth_4 : decode cX6_truth 4 = .ok (.iconst 1, 1) := dk_4 (dk_at dksX6_truth_0 4 rfl rfl)
theorem dX6_truth_5 : decode cX6_truth 5 = .ok (.goto 4, 3) := dk_167 0 4 (dk_at dksX6_truth_0 5 rfl rfl)
theorem dX6_truth_8 : decode cX6_truth 8 = .ok (.iconst 0, 1) := dk_3 (dk_at dksX6_truth_0 8 rfl rfl)
theorem dX6_truth_9 : decode cX6_truth 9 = .ok (.ireturn, 1) := dk_172 (dk_at dksX6_truth_0 9 rfl rfl)
abbrev cX6_remember : ByteArray := prog_26_method_68_code
def yX6_remember : MethodName := ⟨RX6, "remember", "(I)V"⟩
def dkwX6_remember_10 : List UInt8 := [167, 255, 36, 177]
abbrev dktX6_remember_10 : List UInt8 := dkwX6_remember_10 ++ []
def dkwX6_remember_9 : List UInt8 := [46, 46, 79, 42, 180, 0, 245, 21, 5, 4, 96, 4, 79, 132, 4, 1, 167, 255, 62, 132, 3, 1]
abbrev dktX6_remember_9 : List UInt8 := dkwX6_remember_9 ++ dktX6_remember_10
def dkwX6_remember_8 : List UInt8 := [16, 6, 159, 0, 6, 167, 0, 32, 42, 180, 0, 245, 21, 5, 42, 180, 0, 248, 42, 180, 0, 121, 21, 6]
abbrev dktX6_remember_8 : List UInt8 := dkwX6_remember_8 ++ dktX6_remember_9
def dkwX6_remember_7 : List UInt8 := [153, 0, 17, 42, 180, 0, 245, 21, 5, 42, 180, 0, 248, 21, 6, 46, 79, 42, 180, 0, 112, 21, 4, 46]
abbrev dktX6_remember_7 : List UInt8 := dkwX6_remember_7 ++ dktX6_remember_8
def dkwX6_remember_6 : List UInt8 := [180, 0, 112, 21, 4, 46, 16, 25, 160, 0, 32, 42, 27, 42, 180, 0, 145, 21, 6, 46, 182, 2, 15]
abbrev dktX6_remember_6 : List UInt8 := dkwX6_remember_6 ++ dktX6_remember_7
def dkwX6_remember_5 : List UInt8 := [46, 79, 42, 180, 0, 112, 21, 4, 46, 8, 160, 0, 11, 42, 180, 0, 245, 21, 5, 4, 79, 42]
abbrev dktX6_remember_5 : List UInt8 := dkwX6_remember_5 ++ dktX6_remember_6
def dkwX6_remember_4 : List UInt8 := [42, 180, 0, 112, 21, 4, 46, 16, 24, 160, 0, 17, 42, 180, 0, 245, 21, 5, 42, 180, 0, 248, 21, 6]
abbrev dktX6_remember_4 : List UInt8 := dkwX6_remember_4 ++ dktX6_remember_5
def dkwX6_remember_3 : List UInt8 := [180, 0, 196, 27, 46, 42, 180, 0, 127, 21, 4, 46, 96, 54, 5, 42, 180, 0, 118, 21, 4, 46, 54, 6]
abbrev dktX6_remember_3 : List UInt8 := dkwX6_remember_3 ++ dktX6_remember_4
def dkwX6_remember_2 : List UInt8 := [42, 180, 0, 145, 21, 4, 46, 182, 2, 15, 154, 0, 6, 167, 0, 165, 42, 27, 21, 4, 182, 2, 24, 42]
abbrev dktX6_remember_2 : List UInt8 := dkwX6_remember_2 ++ dktX6_remember_3
def dkwX6_remember_1 : List UInt8 := [162, 0, 214, 42, 180, 0, 103, 29, 46, 54, 4, 21, 4, 42, 180, 0, 96, 29, 46, 163, 0, 189, 42, 27]
abbrev dktX6_remember_1 : List UInt8 := dkwX6_remember_1 ++ dktX6_remember_2
def dkwX6_remember_0 : List UInt8 := [42, 180, 0, 184, 27, 46, 61, 42, 180, 0, 59, 28, 46, 62, 29, 42, 180, 0, 59, 28, 4, 96, 46]
abbrev dktX6_remember_0 : List UInt8 := dkwX6_remember_0 ++ dktX6_remember_1
theorem dksX6_remember_0 : cX6_remember.data.toList.drop 0 = dktX6_remember_0 := by decide +kernel
theorem dksX6_remember_1 : cX6_remember.data.toList.drop 23 = dktX6_remember_1 := dk_seg dksX6_remember_0 23 rfl rfl
theorem dksX6_remember_2 : cX6_remember.data.toList.drop 47 = dktX6_remember_2 := dk_seg dksX6_remember_1 24 rfl rfl
theorem dksX6_remember_3 : cX6_remember.data.toList.drop 71 = dktX6_remember_3 := dk_seg dksX6_remember_2 24 rfl rfl
theorem dksX6_remember_4 : cX6_remember.data.toList.drop 95 = dktX6_remember_4 := dk_seg dksX6_remember_3 24 rfl rfl
theorem dksX6_remember_5 : cX6_remember.data.toList.drop 119 = dktX6_remember_5 := dk_seg dksX6_remember_4 24 rfl rfl
theorem dksX6_remember_6 : cX6_remember.data.toList.drop 141 = dktX6_remember_6 := dk_seg dksX6_remember_5 22 rfl rfl
theorem dksX6_remember_7 : cX6_remember.data.toList.drop 164 = dktX6_remember_7 := dk_seg dksX6_remember_6 23 rfl rfl
theorem dksX6_remember_8 : cX6_remember.data.toList.drop 188 = dktX6_remember_8 := dk_seg dksX6_remember_7 24 rfl rfl
theorem dksX6_remember_9 : cX6_remember.data.toList.drop 212 = dktX6_remember_9 := dk_seg dksX6_remember_8 24 rfl rfl
theorem dksX6_remember_10 : cX6_remember.data.toList.drop 234 = dktX6_remember_10 := dk_seg dksX6_remember_9 22 rfl rfl
theorem dX6_remember_0 : decode cX6_remember 0 = .ok (.aload_n 0, 1) := dk_42 (dk_at dksX6_remember_0 0 rfl rfl)
theorem dX6_remember_1 : decode cX6_remember 1 = .ok (.getfield 184, 3) := dk_180 0 184 (dk_at dksX6_remember_0 1 rfl rfl)
theorem dX6_remember_4 : decode cX6_remember 4 = .ok (.iload_n 1, 1) := dk_27 (dk_at dksX6_remember_0 4 rfl rfl)
theorem dX6_remember_5 : decode cX6_remember 5 = .ok (.iaload, 1) := dk_46 (dk_at dksX6_remember_0 5 rfl rfl)
theorem dX6_remember_6 : decode cX6_remember 6 = .ok (.istore_n 2, 1) := dk_61 (dk_at dksX6_remember_0 6 rfl rfl)
theorem dX6_remember_7 : decode cX6_remember 7 = .ok (.aload_n 0, 1) := dk_42 (dk_at dksX6_remember_0 7 rfl rfl)
theorem dX6_remember_8 : decode cX6_remember 8 = .ok (.getfield 59, 3) := dk_180 0 59 (dk_at dksX6_remember_0 8 rfl rfl)
theorem dX6_remember_11 : decode cX6_remember 11 = .ok (.iload_n 2, 1) := dk_28 (dk_at dksX6_remember_0 11 rfl rfl)
theorem dX6_remember_12 : decode cX6_remember 12 = .ok (.iaload, 1) := dk_46 (dk_at dksX6_remember_0 12 rfl rfl)
theorem dX6_remember_13 : decode cX6_remember 13 = .ok (.istore_n 3, 1) := dk_62 (dk_at dksX6_remember_0 13 rfl rfl)
theorem dX6_remember_14 : decode cX6_remember 14 = .ok (.iload_n 3, 1) := dk_29 (dk_at dksX6_remember_0 14 rfl rfl)
theorem dX6_remember_15 : decode cX6_remember 15 = .ok (.aload_n 0, 1) := dk_42 (dk_at dksX6_remember_0 15 rfl rfl)
theorem dX6_remember_16 : decode cX6_remember 16 = .ok (.getfield 59, 3) := dk_180 0 59 (dk_at dksX6_remember_0 16 rfl rfl)
theorem dX6_remember_19 : decode cX6_remember 19 = .ok (.iload_n 2, 1) := dk_28 (dk_at dksX6_remember_0 19 rfl rfl)
theorem dX6_remember_20 : decode cX6_remember 20 = .ok (.iconst 1, 1) := dk_4 (dk_at dksX6_remember_0 20 rfl rfl)
theorem dX6_remember_21 : decode cX6_remember 21 = .ok (.iadd, 1) := dk_96 (dk_at dksX6_remember_0 21 rfl rfl)
theorem dX6_remember_22 : decode cX6_remember 22 = .ok (.iaload, 1) := dk_46 (dk_at dksX6_remember_0 22 rfl rfl)
theorem dX6_remember_23 : decode cX6_remember 23 = .ok (.if_icmp .ge 214, 3) := dk_162 0 214 (dk_at dksX6_remember_1 0 rfl rfl)
theorem dX6_remember_26 : decode cX6_remember 26 = .ok (.aload_n 0, 1) := dk_42 (dk_at dksX6_remember_1 3 rfl rfl)
theorem dX6_remember_27 : decode cX6_remember 27 = .ok (.getfield 103, 3) := dk_180 0 103 (dk_at dksX6_remember_1 4 rfl rfl)
theorem dX6_remember_30 : decode cX6_remember 30 = .ok (.iload_n 3, 1) := dk_29 (dk_at dksX6_remember_1 7 rfl rfl)
theorem dX6_remember_31 : decode cX6_remember 31 = .ok (.iaload, 1) := dk_46 (dk_at dksX6_remember_1 8 rfl rfl)
theorem dX6_remember_32 : decode cX6_remember 32 = .ok (.istore 4, 2) := dk_54 4 (dk_at dksX6_remember_1 9 rfl rfl)
theorem dX6_remember_34 : decode cX6_remember 34 = .ok (.iload 4, 2) := dk_21 4 (dk_at dksX6_remember_1 11 rfl rfl)
theorem dX6_remember_36 : decode cX6_remember 36 = .ok (.aload_n 0, 1) := dk_42 (dk_at dksX6_remember_1 13 rfl rfl)
theorem dX6_remember_37 : decode cX6_remember 37 = .ok (.getfield 96, 3) := dk_180 0 96 (dk_at dksX6_remember_1 14 rfl rfl)
theorem dX6_remember_40 : decode cX6_remember 40 = .ok (.iload_n 3, 1) := dk_29 (dk_at dksX6_remember_1 17 rfl rfl)
theorem dX6_remember_41 : decode cX6_remember 41 = .ok (.iaload, 1) := dk_46 (dk_at dksX6_remember_1 18 rfl rfl)
theorem dX6_remember_42 : decode cX6_remember 42 = .ok (.if_icmp .gt 189, 3) := dk_163 0 189 (dk_at dksX6_remember_1 19 rfl rfl)
theorem dX6_remember_45 : decode cX6_remember 45 = .ok (.aload_n 0, 1) := dk_42 (dk_at dksX6_remember_1 22 rfl rfl)
theorem dX6_remember_46 : decode cX6_remember 46 = .ok (.iload_n 1, 1) := dk_27 (dk_at dksX6_remember_1 23 rfl rfl)
theorem dX6_remember_47 : decode cX6_remember 47 = .ok (.aload_n 0, 1) := dk_42 (dk_at dksX6_remember_2 0 rfl rfl)
theorem dX6_remember_48 : decode cX6_remember 48 = .ok (.getfield 145, 3) := dk_180 0 145 (dk_at dksX6_remember_2 1 rfl rfl)
theorem dX6_remember_51 : decode cX6_remember 51 = .ok (.iload 4, 2) := dk_21 4 (dk_at dksX6_remember_2 4 rfl rfl)
theorem dX6_remember_53 : decode cX6_remember 53 = .ok (.iaload, 1) := dk_46 (dk_at dksX6_remember_2 6 rfl rfl)
theorem dX6_remember_54 : decode cX6_remember 54 = .ok (.invokevirtual 527, 3) := dk_182 2 15 (dk_at dksX6_remember_2 7 rfl rfl)
theorem dX6_remember_57 : decode cX6_remember 57 = .ok (.ifCond .ne 6, 3) := dk_154 0 6 (dk_at dksX6_remember_2 10 rfl rfl)
theorem dX6_remember_60 : decode cX6_remember 60 = .ok (.goto 165, 3) := dk_167 0 165 (dk_at dksX6_remember_2 13 rfl rfl)
theorem dX6_remember_63 : decode cX6_remember 63 = .ok (.aload_n 0, 1) := dk_42 (dk_at dksX6_remember_2 16 rfl rfl)
theorem dX6_remember_64 : decode cX6_remember 64 = .ok (.iload_n 1, 1) := dk_27 (dk_at dksX6_remember_2 17 rfl rfl)
theorem dX6_remember_65 : decode cX6_remember 65 = .ok (.iload 4, 2) := dk_21 4 (dk_at dksX6_remember_2 18 rfl rfl)
theorem dX6_remember_67 : decode cX6_remember 67 = .ok (.invokevirtual 536, 3) := dk_182 2 24 (dk_at dksX6_remember_2 20 rfl rfl)
theorem dX6_remember_70 : decode cX6_remember 70 = .ok (.aload_n 0, 1) := dk_42 (dk_at dksX6_remember_2 23 rfl rfl)
theorem dX6_remember_71 : decode cX6_remember 71 = .ok (.getfield 196, 3) := dk_180 0 196 (dk_at dksX6_remember_3 0 rfl rfl)
theorem dX6_remember_74 : decode cX6_remember 74 = .ok (.iload_n 1, 1) := dk_27 (dk_at dksX6_remember_3 3 rfl rfl)
theorem dX6_remember_75 : decode cX6_remember 75 = .ok (.iaload, 1) := dk_46 (dk_at dksX6_remember_3 4 rfl rfl)
theorem dX6_remember_76 : decode cX6_remember 76 = .ok (.aload_n 0, 1) := dk_42 (dk_at dksX6_remember_3 5 rfl rfl)
theorem dX6_remember_77 : decode cX6_remember 77 = .ok (.getfield 127, 3) := dk_180 0 127 (dk_at dksX6_remember_3 6 rfl rfl)
theorem dX6_remember_80 : decode cX6_remember 80 = .ok (.iload 4, 2) := dk_21 4 (dk_at dksX6_remember_3 9 rfl rfl)
theorem dX6_remember_82 : decode cX6_remember 82 = .ok (.iaload, 1) := dk_46 (dk_at dksX6_remember_3 11 rfl rfl)
theorem dX6_remember_83 : decode cX6_remember 83 = .ok (.iadd, 1) := dk_96 (dk_at dksX6_remember_3 12 rfl rfl)
theorem dX6_remember_84 : decode cX6_remember 84 = .ok (.istore 5, 2) := dk_54 5 (dk_at dksX6_remember_3 13 rfl rfl)
theorem dX6_remember_86 : decode cX6_remember 86 = .ok (.aload_n 0, 1) := dk_42 (dk_at dksX6_remember_3 15 rfl rfl)
theorem dX6_remember_87 : decode cX6_remember 87 = .ok (.getfield 118, 3) := dk_180 0 118 (dk_at dksX6_remember_3 16 rfl rfl)
theorem dX6_remember_90 : decode cX6_remember 90 = .ok (.iload 4, 2) := dk_21 4 (dk_at dksX6_remember_3 19 rfl rfl)
theorem dX6_remember_92 : decode cX6_remember 92 = .ok (.iaload, 1) := dk_46 (dk_at dksX6_remember_3 21 rfl rfl)
theorem dX6_remember_93 : decode cX6_remember 93 = .ok (.istore 6, 2) := dk_54 6 (dk_at dksX6_remember_3 22 rfl rfl)
theorem dX6_remember_95 : decode cX6_remember 95 = .ok (.aload_n 0, 1) := dk_42 (dk_at dksX6_remember_4 0 rfl rfl)
theorem dX6_remember_96 : decode cX6_remember 96 = .ok (.getfield 112, 3) := dk_180 0 112 (dk_at dksX6_remember_4 1 rfl rfl)
theorem dX6_remember_99 : decode cX6_remember 99 = .ok (.iload 4, 2) := dk_21 4 (dk_at dksX6_remember_4 4 rfl rfl)
theorem dX6_remember_101 : decode cX6_remember 101 = .ok (.iaload, 1) := dk_46 (dk_at dksX6_remember_4 6 rfl rfl)
theorem dX6_remember_102 : decode cX6_remember 102 = .ok (.bipush 24, 2) := dk_16 24 (dk_at dksX6_remember_4 7 rfl rfl)
theorem dX6_remember_104 : decode cX6_remember 104 = .ok (.if_icmp .ne 17, 3) := dk_160 0 17 (dk_at dksX6_remember_4 9 rfl rfl)
theorem dX6_remember_107 : decode cX6_remember 107 = .ok (.aload_n 0, 1) := dk_42 (dk_at dksX6_remember_4 12 rfl rfl)
theorem dX6_remember_108 : decode cX6_remember 108 = .ok (.getfield 245, 3) := dk_180 0 245 (dk_at dksX6_remember_4 13 rfl rfl)
theorem dX6_remember_111 : decode cX6_remember 111 = .ok (.iload 5, 2) := dk_21 5 (dk_at dksX6_remember_4 16 rfl rfl)
theorem dX6_remember_113 : decode cX6_remember 113 = .ok (.aload_n 0, 1) := dk_42 (dk_at dksX6_remember_4 18 rfl rfl)
theorem dX6_remember_114 : decode cX6_remember 114 = .ok (.getfield 248, 3) := dk_180 0 248 (dk_at dksX6_remember_4 19 rfl rfl)
theorem dX6_remember_117 : decode cX6_remember 117 = .ok (.iload 6, 2) := dk_21 6 (dk_at dksX6_remember_4 22 rfl rfl)
theorem dX6_remember_119 : decode cX6_remember 119 = .ok (.iaload, 1) := dk_46 (dk_at dksX6_remember_5 0 rfl rfl)
theorem dX6_remember_120 : decode cX6_remember 120 = .ok (.iastore, 1) := dk_79 (dk_at dksX6_remember_5 1 rfl rfl)
theorem dX6_remember_121 : decode cX6_remember 121 = .ok (.aload_n 0, 1) := dk_42 (dk_at dksX6_remember_5 2 rfl rfl)
theorem dX6_remember_122 : decode cX6_remember 122 = .ok (.getfield 112, 3) := dk_180 0 112 (dk_at dksX6_remember_5 3 rfl rfl)
theorem dX6_remember_125 : decode cX6_remember 125 = .ok (.iload 4, 2) := dk_21 4 (dk_at dksX6_remember_5 6 rfl rfl)
theorem dX6_remember_127 : decode cX6_remember 127 = .ok (.iaload, 1) := dk_46 (dk_at dksX6_remember_5 8 rfl rfl)
theorem dX6_remember_128 : decode cX6_remember 128 = .ok (.iconst 5, 1) := dk_8 (dk_at dksX6_remember_5 9 rfl rfl)
theorem dX6_remember_129 : decode cX6_remember 129 = .ok (.if_icmp .ne 11, 3) := dk_160 0 11 (dk_at dksX6_remember_5 10 rfl rfl)
theorem dX6_remember_132 : decode cX6_remember 132 = .ok (.aload_n 0, 1) := dk_42 (dk_at dksX6_remember_5 13 rfl rfl)
theorem dX6_remember_133 : decode cX6_remember 133 = .ok (.getfield 245, 3) := dk_180 0 245 (dk_at dksX6_remember_5 14 rfl rfl)
theorem dX6_remember_136 : decode cX6_remember 136 = .ok (.iload 5, 2) := dk_21 5 (dk_at dksX6_remember_5 17 rfl rfl)
theorem dX6_remember_138 : decode cX6_remember 138 = .ok (.iconst 1, 1) := dk_4 (dk_at dksX6_remember_5 19 rfl rfl)
theorem dX6_remember_139 : decode cX6_remember 139 = .ok (.iastore, 1) := dk_79 (dk_at dksX6_remember_5 20 rfl rfl)
theorem dX6_remember_140 : decode cX6_remember 140 = .ok (.aload_n 0, 1) := dk_42 (dk_at dksX6_remember_5 21 rfl rfl)
theorem dX6_remember_141 : decode cX6_remember 141 = .ok (.getfield 112, 3) := dk_180 0 112 (dk_at dksX6_remember_6 0 rfl rfl)
theorem dX6_remember_144 : decode cX6_remember 144 = .ok (.iload 4, 2) := dk_21 4 (dk_at dksX6_remember_6 3 rfl rfl)
theorem dX6_remember_146 : decode cX6_remember 146 = .ok (.iaload, 1) := dk_46 (dk_at dksX6_remember_6 5 rfl rfl)
theorem dX6_remember_147 : decode cX6_remember 147 = .ok (.bipush 25, 2) := dk_16 25 (dk_at dksX6_remember_6 6 rfl rfl)
theorem dX6_remember_149 : decode cX6_remember 149 = .ok (.if_icmp .ne 32, 3) := dk_160 0 32 (dk_at dksX6_remember_6 8 rfl rfl)
theorem dX6_remember_152 : decode cX6_remember 152 = .ok (.aload_n 0, 1) := dk_42 (dk_at dksX6_remember_6 11 rfl rfl)
theorem dX6_remember_153 : decode cX6_remember 153 = .ok (.iload_n 1, 1) := dk_27 (dk_at dksX6_remember_6 12 rfl rfl)
theorem dX6_remember_154 : decode cX6_remember 154 = .ok (.aload_n 0, 1) := dk_42 (dk_at dksX6_remember_6 13 rfl rfl)
theorem dX6_remember_155 : decode cX6_remember 155 = .ok (.getfield 145, 3) := dk_180 0 145 (dk_at dksX6_remember_6 14 rfl rfl)
theorem dX6_remember_158 : decode cX6_remember 158 = .ok (.iload 6, 2) := dk_21 6 (dk_at dksX6_remember_6 17 rfl rfl)
theorem dX6_remember_160 : decode cX6_remember 160 = .ok (.iaload, 1) := dk_46 (dk_at dksX6_remember_6 19 rfl rfl)
theorem dX6_remember_161 : decode cX6_remember 161 = .ok (.invokevirtual 527, 3) := dk_182 2 15 (dk_at dksX6_remember_6 20 rfl rfl)
theorem dX6_remember_164 : decode cX6_remember 164 = .ok (.ifCond .eq 17, 3) := dk_153 0 17 (dk_at dksX6_remember_7 0 rfl rfl)
theorem dX6_remember_167 : decode cX6_remember 167 = .ok (.aload_n 0, 1) := dk_42 (dk_at dksX6_remember_7 3 rfl rfl)
theorem dX6_remember_168 : decode cX6_remember 168 = .ok (.getfield 245, 3) := dk_180 0 245 (dk_at dksX6_remember_7 4 rfl rfl)
theorem dX6_remember_171 : decode cX6_remember 171 = .ok (.iload 5, 2) := dk_21 5 (dk_at dksX6_remember_7 7 rfl rfl)
theorem dX6_remember_173 : decode cX6_remember 173 = .ok (.aload_n 0, 1) := dk_42 (dk_at dksX6_remember_7 9 rfl rfl)
theorem dX6_remember_174 : decode cX6_remember 174 = .ok (.getfield 248, 3) := dk_180 0 248 (dk_at dksX6_remember_7 10 rfl rfl)
theorem dX6_remember_177 : decode cX6_remember 177 = .ok (.iload 6, 2) := dk_21 6 (dk_at dksX6_remember_7 13 rfl rfl)
theorem dX6_remember_179 : decode cX6_remember 179 = .ok (.iaload, 1) := dk_46 (dk_at dksX6_remember_7 15 rfl rfl)
theorem dX6_remember_180 : decode cX6_remember 180 = .ok (.iastore, 1) := dk_79 (dk_at dksX6_remember_7 16 rfl rfl)
theorem dX6_remember_181 : decode cX6_remember 181 = .ok (.aload_n 0, 1) := dk_42 (dk_at dksX6_remember_7 17 rfl rfl)
theorem dX6_remember_182 : decode cX6_remember 182 = .ok (.getfield 112, 3) := dk_180 0 112 (dk_at dksX6_remember_7 18 rfl rfl)
theorem dX6_remember_185 : decode cX6_remember 185 = .ok (.iload 4, 2) := dk_21 4 (dk_at dksX6_remember_7 21 rfl rfl)
theorem dX6_remember_187 : decode cX6_remember 187 = .ok (.iaload, 1) := dk_46 (dk_at dksX6_remember_7 23 rfl rfl)
theorem dX6_remember_188 : decode cX6_remember 188 = .ok (.bipush 6, 2) := dk_16 6 (dk_at dksX6_remember_8 0 rfl rfl)
theorem dX6_remember_190 : decode cX6_remember 190 = .ok (.if_icmp .eq 6, 3) := dk_159 0 6 (dk_at dksX6_remember_8 2 rfl rfl)
theorem dX6_remember_193 : decode cX6_remember 193 = .ok (.goto 32, 3) := dk_167 0 32 (dk_at dksX6_remember_8 5 rfl rfl)
theorem dX6_remember_196 : decode cX6_remember 196 = .ok (.aload_n 0, 1) := dk_42 (dk_at dksX6_remember_8 8 rfl rfl)
theorem dX6_remember_197 : decode cX6_remember 197 = .ok (.getfield 245, 3) := dk_180 0 245 (dk_at dksX6_remember_8 9 rfl rfl)
theorem dX6_remember_200 : decode cX6_remember 200 = .ok (.iload 5, 2) := dk_21 5 (dk_at dksX6_remember_8 12 rfl rfl)
theorem dX6_remember_202 : decode cX6_remember 202 = .ok (.aload_n 0, 1) := dk_42 (dk_at dksX6_remember_8 14 rfl rfl)
theorem dX6_remember_203 : decode cX6_remember 203 = .ok (.getfield 248, 3) := dk_180 0 248 (dk_at dksX6_remember_8 15 rfl rfl)
theorem dX6_remember_206 : decode cX6_remember 206 = .ok (.aload_n 0, 1) := dk_42 (dk_at dksX6_remember_8 18 rfl rfl)
theorem dX6_remember_207 : decode cX6_remember 207 = .ok (.getfield 121, 3) := dk_180 0 121 (dk_at dksX6_remember_8 19 rfl rfl)
theorem dX6_remember_210 : decode cX6_remember 210 = .ok (.iload 6, 2) := dk_21 6 (dk_at dksX6_remember_8 22 rfl rfl)
theorem dX6_remember_212 : decode cX6_remember 212 = .ok (.iaload, 1) := dk_46 (dk_at dksX6_remember_9 0 rfl rfl)
theorem dX6_remember_213 : decode cX6_remember 213 = .ok (.iaload, 1) := dk_46 (dk_at dksX6_remember_9 1 rfl rfl)
theorem dX6_remember_214 : decode cX6_remember 214 = .ok (.iastore, 1) := dk_79 (dk_at dksX6_remember_9 2 rfl rfl)
theorem dX6_remember_215 : decode cX6_remember 215 = .ok (.aload_n 0, 1) := dk_42 (dk_at dksX6_remember_9 3 rfl rfl)
theorem dX6_remember_216 : decode cX6_remember 216 = .ok (.getfield 245, 3) := dk_180 0 245 (dk_at dksX6_remember_9 4 rfl rfl)
theorem dX6_remember_219 : decode cX6_remember 219 = .ok (.iload 5, 2) := dk_21 5 (dk_at dksX6_remember_9 7 rfl rfl)
theorem dX6_remember_221 : decode cX6_remember 221 = .ok (.iconst 1, 1) := dk_4 (dk_at dksX6_remember_9 9 rfl rfl)
theorem dX6_remember_222 : decode cX6_remember 222 = .ok (.iadd, 1) := dk_96 (dk_at dksX6_remember_9 10 rfl rfl)
theorem dX6_remember_223 : decode cX6_remember 223 = .ok (.iconst 1, 1) := dk_4 (dk_at dksX6_remember_9 11 rfl rfl)
theorem dX6_remember_224 : decode cX6_remember 224 = .ok (.iastore, 1) := dk_79 (dk_at dksX6_remember_9 12 rfl rfl)
theorem dX6_remember_225 : decode cX6_remember 225 = .ok (.iinc 4 1, 3) := dk_132 4 1 (dk_at dksX6_remember_9 13 rfl rfl)
theorem dX6_remember_228 : decode cX6_remember 228 = .ok (.goto (-194), 3) := dk_167 255 62 (dk_at dksX6_remember_9 16 rfl rfl)
theorem dX6_remember_231 : decode cX6_remember 231 = .ok (.iinc 3 1, 3) := dk_132 3 1 (dk_at dksX6_remember_9 19 rfl rfl)
theorem dX6_remember_234 : decode cX6_remember 234 = .ok (.goto (-220), 3) := dk_167 255 36 (dk_at dksX6_remember_10 0 rfl rfl)
theorem dX6_remember_237 : decode cX6_remember 237 = .ok (.return_, 1) := dk_177 (dk_at dksX6_remember_10 3 rfl rfl)
abbrev cX6_input : ByteArray := prog_26_method_71_code
def yX6_input : MethodName := ⟨RX6, "input", "(II)I"⟩
def dkwX6_input_4 : List UInt8 := [153, 0, 5, 3, 172, 42, 180, 0, 236, 27, 46, 62, 42, 180, 0, 236, 27, 28, 79, 29, 172]
abbrev dktX6_input_4 : List UInt8 := dkwX6_input_4 ++ []
def dkwX6_input_3 : List UInt8 := [46, 27, 96, 51, 153, 0, 16, 28, 155, 0, 8, 28, 4, 164, 0, 7, 4, 167, 0, 4, 3, 182, 1, 14]
abbrev dktX6_input_3 : List UInt8 := dkwX6_input_3 ++ dktX6_input_4
def dkwX6_input_2 : List UInt8 := [167, 0, 4, 3, 182, 1, 14, 154, 0, 44, 42, 5, 42, 180, 0, 86, 42, 180, 0, 50, 42, 180, 0, 163]
abbrev dktX6_input_2 : List UInt8 := dkwX6_input_2 ++ dktX6_input_3
def dkwX6_input_1 : List UInt8 := [182, 1, 14, 154, 0, 70, 42, 4, 27, 42, 180, 0, 53, 42, 180, 0, 163, 46, 161, 0, 7, 4]
abbrev dktX6_input_1 : List UInt8 := dkwX6_input_1 ++ dktX6_input_2
def dkwX6_input_0 : List UInt8 := [42, 3, 181, 0, 18, 42, 4, 42, 180, 0, 163, 155, 0, 7, 27, 156, 0, 7, 4, 167, 0, 4, 3]
abbrev dktX6_input_0 : List UInt8 := dkwX6_input_0 ++ dktX6_input_1
theorem dksX6_input_0 : cX6_input.data.toList.drop 0 = dktX6_input_0 := by decide +kernel
theorem dksX6_input_1 : cX6_input.data.toList.drop 23 = dktX6_input_1 := dk_seg dksX6_input_0 23 rfl rfl
theorem dksX6_input_2 : cX6_input.data.toList.drop 45 = dktX6_input_2 := dk_seg dksX6_input_1 22 rfl rfl
theorem dksX6_input_3 : cX6_input.data.toList.drop 69 = dktX6_input_3 := dk_seg dksX6_input_2 24 rfl rfl
theorem dksX6_input_4 : cX6_input.data.toList.drop 93 = dktX6_input_4 := dk_seg dksX6_input_3 24 rfl rfl
theorem dX6_input_0 : decode cX6_input 0 = .ok (.aload_n 0, 1) := dk_42 (dk_at dksX6_input_0 0 rfl rfl)
theorem dX6_input_1 : decode cX6_input 1 = .ok (.iconst 0, 1) := dk_3 (dk_at dksX6_input_0 1 rfl rfl)
theorem dX6_input_2 : decode cX6_input 2 = .ok (.putfield 18, 3) := dk_181 0 18 (dk_at dksX6_input_0 2 rfl rfl)
theorem dX6_input_5 : decode cX6_input 5 = .ok (.aload_n 0, 1) := dk_42 (dk_at dksX6_input_0 5 rfl rfl)
theorem dX6_input_6 : decode cX6_input 6 = .ok (.iconst 1, 1) := dk_4 (dk_at dksX6_input_0 6 rfl rfl)
theorem dX6_input_7 : decode cX6_input 7 = .ok (.aload_n 0, 1) := dk_42 (dk_at dksX6_input_0 7 rfl rfl)
theorem dX6_input_8 : decode cX6_input 8 = .ok (.getfield 163, 3) := dk_180 0 163 (dk_at dksX6_input_0 8 rfl rfl)
theorem dX6_input_11 : decode cX6_input 11 = .ok (.ifCond .lt 7, 3) := dk_155 0 7 (dk_at dksX6_input_0 11 rfl rfl)
theorem dX6_input_14 : decode cX6_input 14 = .ok (.iload_n 1, 1) := dk_27 (dk_at dksX6_input_0 14 rfl rfl)
theorem dX6_input_15 : decode cX6_input 15 = .ok (.ifCond .ge 7, 3) := dk_156 0 7 (dk_at dksX6_input_0 15 rfl rfl)
theorem dX6_input_18 : decode cX6_input 18 = .ok (.iconst 1, 1) := dk_4 (dk_at dksX6_input_0 18 rfl rfl)
theorem dX6_input_19 : decode cX6_input 19 = .ok (.goto 4, 3) := dk_167 0 4 (dk_at dksX6_input_0 19 rfl rfl)
theorem dX6_input_22 : decode cX6_input 22 = .ok (.iconst 0, 1) := dk_3 (dk_at dksX6_input_0 22 rfl rfl)
theorem dX6_input_23 : decode cX6_input 23 = .ok (.invokevirtual 270, 3) := dk_182 1 14 (dk_at dksX6_input_1 0 rfl rfl)
theorem dX6_input_26 : decode cX6_input 26 = .ok (.ifCond .ne 70, 3) := dk_154 0 70 (dk_at dksX6_input_1 3 rfl rfl)
theorem dX6_input_29 : decode cX6_input 29 = .ok (.aload_n 0, 1) := dk_42 (dk_at dksX6_input_1 6 rfl rfl)
theorem dX6_input_30 : decode cX6_input 30 = .ok (.iconst 1, 1) := dk_4 (dk_at dksX6_input_1 7 rfl rfl)
theorem dX6_input_31 : decode cX6_input 31 = .ok (.iload_n 1, 1) := dk_27 (dk_at dksX6_input_1 8 rfl rfl)
theorem dX6_input_32 : decode cX6_input 32 = .ok (.aload_n 0, 1) := dk_42 (dk_at dksX6_input_1 9 rfl rfl)
theorem dX6_input_33 : decode cX6_input 33 = .ok (.getfield 53, 3) := dk_180 0 53 (dk_at dksX6_input_1 10 rfl rfl)
theorem dX6_input_36 : decode cX6_input 36 = .ok (.aload_n 0, 1) := dk_42 (dk_at dksX6_input_1 13 rfl rfl)
theorem dX6_input_37 : decode cX6_input 37 = .ok (.getfield 163, 3) := dk_180 0 163 (dk_at dksX6_input_1 14 rfl rfl)
theorem dX6_input_40 : decode cX6_input 40 = .ok (.iaload, 1) := dk_46 (dk_at dksX6_input_1 17 rfl rfl)
theorem dX6_input_41 : decode cX6_input 41 = .ok (.if_icmp .lt 7, 3) := dk_161 0 7 (dk_at dksX6_input_1 18 rfl rfl)
theorem dX6_input_44 : decode cX6_input 44 = .ok (.iconst 1, 1) := dk_4 (dk_at dksX6_input_1 21 rfl rfl)
theorem dX6_input_45 : decode cX6_input 45 = .ok (.goto 4, 3) := dk_167 0 4 (dk_at dksX6_input_2 0 rfl rfl)
theorem dX6_input_48 : decode cX6_input 48 = .ok (.iconst 0, 1) := dk_3 (dk_at dksX6_input_2 3 rfl rfl)
theorem dX6_input_49 : decode cX6_input 49 = .ok (.invokevirtual 270, 3) := dk_182 1 14 (dk_at dksX6_input_2 4 rfl rfl)
theorem dX6_input_52 : decode cX6_input 52 = .ok (.ifCond .ne 44, 3) := dk_154 0 44 (dk_at dksX6_input_2 7 rfl rfl)
theorem dX6_input_55 : decode cX6_input 55 = .ok (.aload_n 0, 1) := dk_42 (dk_at dksX6_input_2 10 rfl rfl)
theorem dX6_input_56 : decode cX6_input 56 = .ok (.iconst 2, 1) := dk_5 (dk_at dksX6_input_2 11 rfl rfl)
theorem dX6_input_57 : decode cX6_input 57 = .ok (.aload_n 0, 1) := dk_42 (dk_at dksX6_input_2 12 rfl rfl)
theorem dX6_input_58 : decode cX6_input 58 = .ok (.getfield 86, 3) := dk_180 0 86 (dk_at dksX6_input_2 13 rfl rfl)
theorem dX6_input_61 : decode cX6_input 61 = .ok (.aload_n 0, 1) := dk_42 (dk_at dksX6_input_2 16 rfl rfl)
theorem dX6_input_62 : decode cX6_input 62 = .ok (.getfield 50, 3) := dk_180 0 50 (dk_at dksX6_input_2 17 rfl rfl)
theorem dX6_input_65 : decode cX6_input 65 = .ok (.aload_n 0, 1) := dk_42 (dk_at dksX6_input_2 20 rfl rfl)
theorem dX6_input_66 : decode cX6_input 66 = .ok (.getfield 163, 3) := dk_180 0 163 (dk_at dksX6_input_2 21 rfl rfl)
theorem dX6_input_69 : decode cX6_input 69 = .ok (.iaload, 1) := dk_46 (dk_at dksX6_input_3 0 rfl rfl)
theorem dX6_input_70 : decode cX6_input 70 = .ok (.iload_n 1, 1) := dk_27 (dk_at dksX6_input_3 1 rfl rfl)
theorem dX6_input_71 : decode cX6_input 71 = .ok (.iadd, 1) := dk_96 (dk_at dksX6_input_3 2 rfl rfl)
theorem dX6_input_72 : decode cX6_input 72 = .ok (.baload, 1) := dk_51 (dk_at dksX6_input_3 3 rfl rfl)
theorem dX6_input_73 : decode cX6_input 73 = .ok (.ifCond .eq 16, 3) := dk_153 0 16 (dk_at dksX6_input_3 4 rfl rfl)
theorem dX6_input_76 : decode cX6_input 76 = .ok (.iload_n 2, 1) := dk_28 (dk_at dksX6_input_3 7 rfl rfl)
theorem dX6_input_77 : decode cX6_input 77 = .ok (.ifCond .lt 8, 3) := dk_155 0 8 (dk_at dksX6_input_3 8 rfl rfl)
theorem dX6_input_80 : decode cX6_input 80 = .ok (.iload_n 2, 1) := dk_28 (dk_at dksX6_input_3 11 rfl rfl)
theorem dX6_input_81 : decode cX6_input 81 = .ok (.iconst 1, 1) := dk_4 (dk_at dksX6_input_3 12 rfl rfl)
theorem dX6_input_82 : decode cX6_input 82 = .ok (.if_icmp .le 7, 3) := dk_164 0 7 (dk_at dksX6_input_3 13 rfl rfl)
theorem dX6_input_85 : decode cX6_input 85 = .ok (.iconst 1, 1) := dk_4 (dk_at dksX6_input_3 16 rfl rfl)
theorem dX6_input_86 : decode cX6_input 86 = .ok (.goto 4, 3) := dk_167 0 4 (dk_at dksX6_input_3 17 rfl rfl)
theorem dX6_input_89 : decode cX6_input 89 = .ok (.iconst 0, 1) := dk_3 (dk_at dksX6_input_3 20 rfl rfl)
theorem dX6_input_90 : decode cX6_input 90 = .ok (.invokevirtual 270, 3) := dk_182 1 14 (dk_at dksX6_input_3 21 rfl rfl)
theorem dX6_input_93 : decode cX6_input 93 = .ok (.ifCond .eq 5, 3) := dk_153 0 5 (dk_at dksX6_input_4 0 rfl rfl)
theorem dX6_input_96 : decode cX6_input 96 = .ok (.iconst 0, 1) := dk_3 (dk_at dksX6_input_4 3 rfl rfl)
theorem dX6_input_97 : decode cX6_input 97 = .ok (.ireturn, 1) := dk_172 (dk_at dksX6_input_4 4 rfl rfl)
theorem dX6_input_98 : decode cX6_input 98 = .ok (.aload_n 0, 1) := dk_42 (dk_at dksX6_input_4 5 rfl rfl)
theorem dX6_input_99 : decode cX6_input 99 = .ok (.getfield 236, 3) := dk_180 0 236 (dk_at dksX6_input_4 6 rfl rfl)
theorem dX6_input_102 : decode cX6_input 102 = .ok (.iload_n 1, 1) := dk_27 (dk_at dksX6_input_4 9 rfl rfl)
theorem dX6_input_103 : decode cX6_input 103 = .ok (.iaload, 1) := dk_46 (dk_at dksX6_input_4 10 rfl rfl)
theorem dX6_input_104 : decode cX6_input 104 = .ok (.istore_n 3, 1) := dk_62 (dk_at dksX6_input_4 11 rfl rfl)
theorem dX6_input_105 : decode cX6_input 105 = .ok (.aload_n 0, 1) := dk_42 (dk_at dksX6_input_4 12 rfl rfl)
theorem dX6_input_106 : decode cX6_input 106 = .ok (.getfield 236, 3) := dk_180 0 236 (dk_at dksX6_input_4 13 rfl rfl)
theorem dX6_input_109 : decode cX6_input 109 = .ok (.iload_n 1, 1) := dk_27 (dk_at dksX6_input_4 16 rfl rfl)
theorem dX6_input_110 : decode cX6_input 110 = .ok (.iload_n 2, 1) := dk_28 (dk_at dksX6_input_4 17 rfl rfl)
theorem dX6_input_111 : decode cX6_input 111 = .ok (.iastore, 1) := dk_79 (dk_at dksX6_input_4 18 rfl rfl)
theorem dX6_input_112 : decode cX6_input 112 = .ok (.iload_n 3, 1) := dk_29 (dk_at dksX6_input_4 19 rfl rfl)
theorem dX6_input_113 : decode cX6_input 113 = .ok (.ireturn, 1) := dk_172 (dk_at dksX6_input_4 20 rfl rfl)
abbrev cX6_value : ByteArray := prog_26_method_72_code
def yX6_value : MethodName := ⟨RX6, "value", "(I)J"⟩
def dkwX6_value_3 : List UInt8 := [20, 2, 45, 173]
abbrev dktX6_value_3 : List UInt8 := dkwX6_value_3 ++ []
def dkwX6_value_2 : List UInt8 := [153, 0, 5, 9, 173, 42, 180, 0, 251, 27, 51, 153, 0, 13, 42, 180, 0, 239, 27, 46, 133, 167, 0, 6]
abbrev dktX6_value_2 : List UInt8 := dkwX6_value_2 ++ dktX6_value_3
def dkwX6_value_1 : List UInt8 := [182, 1, 14, 154, 0, 23, 42, 5, 42, 180, 0, 233, 154, 0, 7, 4, 167, 0, 4, 3, 182, 1, 14]
abbrev dktX6_value_1 : List UInt8 := dkwX6_value_1 ++ dktX6_value_2
def dkwX6_value_0 : List UInt8 := [42, 3, 181, 0, 18, 42, 4, 27, 155, 0, 11, 27, 42, 182, 2, 42, 161, 0, 7, 4, 167, 0, 4, 3]
abbrev dktX6_value_0 : List UInt8 := dkwX6_value_0 ++ dktX6_value_1
theorem dksX6_value_0 : cX6_value.data.toList.drop 0 = dktX6_value_0 := by decide +kernel
theorem dksX6_value_1 : cX6_value.data.toList.drop 24 = dktX6_value_1 := dk_seg dksX6_value_0 24 rfl rfl
theorem dksX6_value_2 : cX6_value.data.toList.drop 47 = dktX6_value_2 := dk_seg dksX6_value_1 23 rfl rfl
theorem dksX6_value_3 : cX6_value.data.toList.drop 71 = dktX6_value_3 := dk_seg dksX6_value_2 24 rfl rfl
theorem dX6_value_0 : decode cX6_value 0 = .ok (.aload_n 0, 1) := dk_42 (dk_at dksX6_value_0 0 rfl rfl)
theorem dX6_value_1 : decode cX6_value 1 = .ok (.iconst 0, 1) := dk_3 (dk_at dksX6_value_0 1 rfl rfl)
theorem dX6_value_2 : decode cX6_value 2 = .ok (.putfield 18, 3) := dk_181 0 18 (dk_at dksX6_value_0 2 rfl rfl)
theorem dX6_value_5 : decode cX6_value 5 = .ok (.aload_n 0, 1) := dk_42 (dk_at dksX6_value_0 5 rfl rfl)
theorem dX6_value_6 : decode cX6_value 6 = .ok (.iconst 1, 1) := dk_4 (dk_at dksX6_value_0 6 rfl rfl)
theorem dX6_value_7 : decode cX6_value 7 = .ok (.iload_n 1, 1) := dk_27 (dk_at dksX6_value_0 7 rfl rfl)
theorem dX6_value_8 : decode cX6_value 8 = .ok (.ifCond .lt 11, 3) := dk_155 0 11 (dk_at dksX6_value_0 8 rfl rfl)
theorem dX6_value_11 : decode cX6_value 11 = .ok (.iload_n 1, 1) := dk_27 (dk_at dksX6_value_0 11 rfl rfl)
theorem dX6_value_12 : decode cX6_value 12 = .ok (.aload_n 0, 1) := dk_42 (dk_at dksX6_value_0 12 rfl rfl)
theorem dX6_value_13 : decode cX6_value 13 = .ok (.invokevirtual 554, 3) := dk_182 2 42 (dk_at dksX6_value_0 13 rfl rfl)
theorem dX6_value_16 : decode cX6_value 16 = .ok (.if_icmp .lt 7, 3) := dk_161 0 7 (dk_at dksX6_value_0 16 rfl rfl)
theorem dX6_value_19 : decode cX6_value 19 = .ok (.iconst 1, 1) := dk_4 (dk_at dksX6_value_0 19 rfl rfl)
theorem dX6_value_20 : decode cX6_value 20 = .ok (.goto 4, 3) := dk_167 0 4 (dk_at dksX6_value_0 20 rfl rfl)
theorem dX6_value_23 : decode cX6_value 23 = .ok (.iconst 0, 1) := dk_3 (dk_at dksX6_value_0 23 rfl rfl)
theorem dX6_value_24 : decode cX6_value 24 = .ok (.invokevirtual 270, 3) := dk_182 1 14 (dk_at dksX6_value_1 0 rfl rfl)
theorem dX6_value_27 : decode cX6_value 27 = .ok (.ifCond .ne 23, 3) := dk_154 0 23 (dk_at dksX6_value_1 3 rfl rfl)
theorem dX6_value_30 : decode cX6_value 30 = .ok (.aload_n 0, 1) := dk_42 (dk_at dksX6_value_1 6 rfl rfl)
theorem dX6_value_31 : decode cX6_value 31 = .ok (.iconst 2, 1) := dk_5 (dk_at dksX6_value_1 7 rfl rfl)
theorem dX6_value_32 : decode cX6_value 32 = .ok (.aload_n 0, 1) := dk_42 (dk_at dksX6_value_1 8 rfl rfl)
theorem dX6_value_33 : decode cX6_value 33 = .ok (.getfield 233, 3) := dk_180 0 233 (dk_at dksX6_value_1 9 rfl rfl)
theorem dX6_value_36 : decode cX6_value 36 = .ok (.ifCond .ne 7, 3) := dk_154 0 7 (dk_at dksX6_value_1 12 rfl rfl)
theorem dX6_value_39 : decode cX6_value 39 = .ok (.iconst 1, 1) := dk_4 (dk_at dksX6_value_1 15 rfl rfl)
theorem dX6_value_40 : decode cX6_value 40 = .ok (.goto 4, 3) := dk_167 0 4 (dk_at dksX6_value_1 16 rfl rfl)
theorem dX6_value_43 : decode cX6_value 43 = .ok (.iconst 0, 1) := dk_3 (dk_at dksX6_value_1 19 rfl rfl)
theorem dX6_value_44 : decode cX6_value 44 = .ok (.invokevirtual 270, 3) := dk_182 1 14 (dk_at dksX6_value_1 20 rfl rfl)
theorem dX6_value_47 : decode cX6_value 47 = .ok (.ifCond .eq 5, 3) := dk_153 0 5 (dk_at dksX6_value_2 0 rfl rfl)
theorem dX6_value_50 : decode cX6_value 50 = .ok (.lconst 0, 1) := dk_9 (dk_at dksX6_value_2 3 rfl rfl)
theorem dX6_value_51 : decode cX6_value 51 = .ok (.lreturn, 1) := dk_173 (dk_at dksX6_value_2 4 rfl rfl)
theorem dX6_value_52 : decode cX6_value 52 = .ok (.aload_n 0, 1) := dk_42 (dk_at dksX6_value_2 5 rfl rfl)
theorem dX6_value_53 : decode cX6_value 53 = .ok (.getfield 251, 3) := dk_180 0 251 (dk_at dksX6_value_2 6 rfl rfl)
theorem dX6_value_56 : decode cX6_value 56 = .ok (.iload_n 1, 1) := dk_27 (dk_at dksX6_value_2 9 rfl rfl)
theorem dX6_value_57 : decode cX6_value 57 = .ok (.baload, 1) := dk_51 (dk_at dksX6_value_2 10 rfl rfl)
theorem dX6_value_58 : decode cX6_value 58 = .ok (.ifCond .eq 13, 3) := dk_153 0 13 (dk_at dksX6_value_2 11 rfl rfl)
theorem dX6_value_61 : decode cX6_value 61 = .ok (.aload_n 0, 1) := dk_42 (dk_at dksX6_value_2 14 rfl rfl)
theorem dX6_value_62 : decode cX6_value 62 = .ok (.getfield 239, 3) := dk_180 0 239 (dk_at dksX6_value_2 15 rfl rfl)
theorem dX6_value_65 : decode cX6_value 65 = .ok (.iload_n 1, 1) := dk_27 (dk_at dksX6_value_2 18 rfl rfl)
theorem dX6_value_66 : decode cX6_value 66 = .ok (.iaload, 1) := dk_46 (dk_at dksX6_value_2 19 rfl rfl)
theorem dX6_value_67 : decode cX6_value 67 = .ok (.i2l, 1) := dk_133 (dk_at dksX6_value_2 20 rfl rfl)
theorem dX6_value_68 : decode cX6_value 68 = .ok (.goto 6, 3) := dk_167 0 6 (dk_at dksX6_value_2 21 rfl rfl)
theorem dX6_value_71 : decode cX6_value 71 = .ok (.ldc2_w 557, 3) := dk_20 2 45 (dk_at dksX6_value_3 0 rfl rfl)
theorem dX6_value_74 : decode cX6_value 74 = .ok (.lreturn, 1) := dk_173 (dk_at dksX6_value_3 3 rfl rfl)
abbrev cX6_mainVariables : ByteArray := prog_26_method_70_code
def yX6_mainVariables : MethodName := ⟨RX6, "mainVariables", "()I"⟩
def dkwX6_mainVariables_1 : List UInt8 := [180, 0, 50, 42, 180, 0, 163, 46, 100, 172]
abbrev dktX6_mainVariables_1 : List UInt8 := dkwX6_mainVariables_1 ++ []
def dkwX6_mainVariables_0 : List UInt8 := [42, 180, 0, 163, 156, 0, 7, 3, 167, 0, 24, 42, 180, 0, 50, 42, 180, 0, 163, 4, 96, 46, 42]
abbrev dktX6_mainVariables_0 : List UInt8 := dkwX6_mainVariables_0 ++ dktX6_mainVariables_1
theorem dksX6_mainVariables_0 : cX6_mainVariables.data.toList.drop 0 = dktX6_mainVariables_0 := by decide +kernel
theorem dksX6_mainVariables_1 : cX6_mainVariables.data.toList.drop 23 = dktX6_mainVariables_1 := dk_seg dksX6_mainVariables_0 23 rfl rfl
theorem dX6_mainVariables_0 : decode cX6_mainVariables 0 = .ok (.aload_n 0, 1) := dk_42 (dk_at dksX6_mainVariables_0 0 rfl rfl)
theorem dX6_mainVariables_1 : decode cX6_mainVariables 1 = .ok (.getfield 163, 3) := dk_180 0 163 (dk_at dksX6_mainVariables_0 1 rfl rfl)
theorem dX6_mainVariables_4 : decode cX6_mainVariables 4 = .ok (.ifCond .ge 7, 3) := dk_156 0 7 (dk_at dksX6_mainVariables_0 4 rfl rfl)
theorem dX6_mainVariables_7 : decode cX6_mainVariables 7 = .ok (.iconst 0, 1) := dk_3 (dk_at dksX6_mainVariables_0 7 rfl rfl)
theorem dX6_mainVariables_8 : decode cX6_mainVariables 8 = .ok (.goto 24, 3) := dk_167 0 24 (dk_at dksX6_mainVariables_0 8 rfl rfl)
theorem dX6_mainVariables_11 : decode cX6_mainVariables 11 = .ok (.aload_n 0, 1) := dk_42 (dk_at dksX6_mainVariables_0 11 rfl rfl)
theorem dX6_mainVariables_12 : decode cX6_mainVariables 12 = .ok (.getfield 50, 3) := dk_180 0 50 (dk_at dksX6_mainVariables_0 12 rfl rfl)
theorem dX6_mainVariables_15 : decode cX6_mainVariables 15 = .ok (.aload_n 0, 1) := dk_42 (dk_at dksX6_mainVariables_0 15 rfl rfl)
theorem dX6_mainVariables_16 : decode cX6_mainVariables 16 = .ok (.getfield 163, 3) := dk_180 0 163 (dk_at dksX6_mainVariables_0 16 rfl rfl)
theorem dX6_mainVariables_19 : decode cX6_mainVariables 19 = .ok (.iconst 1, 1) := dk_4 (dk_at dksX6_mainVariables_0 19 rfl rfl)
theorem dX6_mainVariables_20 : decode cX6_mainVariables 20 = .ok (.iadd, 1) := dk_96 (dk_at dksX6_mainVariables_0 20 rfl rfl)
theorem dX6_mainVariables_21 : decode cX6_mainVariables 21 = .ok (.iaload, 1) := dk_46 (dk_at dksX6_mainVariables_0 21 rfl rfl)
theorem dX6_mainVariables_22 : decode cX6_mainVariables 22 = .ok (.aload_n 0, 1) := dk_42 (dk_at dksX6_mainVariables_0 22 rfl rfl)
theorem dX6_mainVariables_23 : decode cX6_mainVariables 23 = .ok (.getfield 50, 3) := dk_180 0 50 (dk_at dksX6_mainVariables_1 0 rfl rfl)
theorem dX6_mainVariables_26 : decode cX6_mainVariables 26 = .ok (.aload_n 0, 1) := dk_42 (dk_at dksX6_mainVariables_1 3 rfl rfl)
theorem dX6_mainVariables_27 : decode cX6_mainVariables 27 = .ok (.getfield 163, 3) := dk_180 0 163 (dk_at dksX6_mainVariables_1 4 rfl rfl)
theorem dX6_mainVariables_30 : decode cX6_mainVariables 30 = .ok (.iaload, 1) := dk_46 (dk_at dksX6_mainVariables_1 7 rfl rfl)
theorem dX6_mainVariables_31 : decode cX6_mainVariables 31 = .ok (.isub, 1) := dk_100 (dk_at dksX6_mainVariables_1 8 rfl rfl)
theorem dX6_mainVariables_32 : decode cX6_mainVariables 32 = .ok (.ireturn, 1) := dk_172 (dk_at dksX6_mainVariables_1 9 rfl rfl)
abbrev cX6_about : ByteArray := prog_26_method_73_code
def yX6_about : MethodName := ⟨RX6, "about", "(II)I"⟩
def dkwX6_about_8 : List UInt8 := [180, 0, 80, 29, 46, 4, 126, 172]
abbrev dktX6_about_8 : List UInt8 := dkwX6_about_8 ++ []
def dkwX6_about_7 : List UInt8 := [180, 0, 80, 29, 46, 5, 108, 172, 42, 180, 0, 80, 29, 46, 156, 0, 7, 3, 167, 0, 11, 42]
abbrev dktX6_about_7 : List UInt8 := dkwX6_about_7 ++ dktX6_about_8
def dkwX6_about_6 : List UInt8 := [180, 0, 86, 29, 51, 184, 2, 21, 172, 42, 180, 0, 80, 29, 46, 156, 0, 7, 2, 167, 0, 11, 42]
abbrev dktX6_about_6 : List UInt8 := dkwX6_about_6 ++ dktX6_about_7
def dkwX6_about_5 : List UInt8 := [180, 0, 163, 46, 42, 180, 0, 56, 42, 180, 0, 163, 46, 96, 162, 0, 7, 4, 167, 0, 4, 5, 172, 42]
abbrev dktX6_about_5 : List UInt8 := dkwX6_about_5 ++ dktX6_about_6
def dkwX6_about_4 : List UInt8 := [27, 42, 180, 0, 53, 42, 180, 0, 163, 46, 162, 0, 7, 3, 167, 0, 31, 27, 42, 180, 0, 53, 42]
abbrev dktX6_about_4 : List UInt8 := dkwX6_about_4 ++ dktX6_about_5
def dkwX6_about_3 : List UInt8 := [170, 0, 0, 0, 103, 0, 0, 0, 0, 0, 0, 0, 2, 0, 0, 0, 25, 0, 0, 0, 71, 0, 0, 0, 81]
abbrev dktX6_about_3 : List UInt8 := dkwX6_about_3 ++ dktX6_about_4
def dkwX6_about_2 : List UInt8 := [182, 1, 14, 153, 0, 5, 3, 172, 42, 180, 0, 50, 42, 180, 0, 163, 46, 27, 96, 62, 28]
abbrev dktX6_about_2 : List UInt8 := dkwX6_about_2 ++ dktX6_about_3
def dkwX6_about_1 : List UInt8 := [182, 1, 14, 154, 0, 25, 42, 5, 28, 155, 0, 8, 28, 6, 164, 0, 7, 4, 167, 0, 4, 3]
abbrev dktX6_about_1 : List UInt8 := dkwX6_about_1 ++ dktX6_about_2
def dkwX6_about_0 : List UInt8 := [42, 3, 181, 0, 18, 42, 4, 27, 155, 0, 11, 27, 42, 182, 2, 42, 161, 0, 7, 4, 167, 0, 4, 3]
abbrev dktX6_about_0 : List UInt8 := dkwX6_about_0 ++ dktX6_about_1
theorem dksX6_about_0 : cX6_about.data.toList.drop 0 = dktX6_about_0 := by decide +kernel
theorem dksX6_about_1 : cX6_about.data.toList.drop 24 = dktX6_about_1 := dk_seg dksX6_about_0 24 rfl rfl
theorem dksX6_about_2 : cX6_about.data.toList.drop 46 = dktX6_about_2 := dk_seg dksX6_about_1 22 rfl rfl
theorem dksX6_about_3 : cX6_about.data.toList.drop 67 = dktX6_about_3 := dk_seg dksX6_about_2 21 rfl rfl
theorem dksX6_about_4 : cX6_about.data.toList.drop 92 = dktX6_about_4 := dk_seg dksX6_about_3 25 rfl rfl
theorem dksX6_about_5 : cX6_about.data.toList.drop 115 = dktX6_about_5 := dk_seg dksX6_about_4 23 rfl rfl
theorem dksX6_about_6 : cX6_about.data.toList.drop 139 = dktX6_about_6 := dk_seg dksX6_about_5 24 rfl rfl
theorem dksX6_about_7 : cX6_about.data.toList.drop 162 = dktX6_about_7 := dk_seg dksX6_about_6 23 rfl rfl
theorem dksX6_about_8 : cX6_about.data.toList.drop 184 = dktX6_about_8 := dk_seg dksX6_about_7 22 rfl rfl
theorem dX6_about_0 : decode cX6_about 0 = .ok (.aload_n 0, 1) := dk_42 (dk_at dksX6_about_0 0 rfl rfl)
theorem dX6_about_1 : decode cX6_about 1 = .ok (.iconst 0, 1) := dk_3 (dk_at dksX6_about_0 1 rfl rfl)
theorem dX6_about_2 : decode cX6_about 2 = .ok (.putfield 18, 3) := dk_181 0 18 (dk_at dksX6_about_0 2 rfl rfl)
theorem dX6_about_5 : decode cX6_about 5 = .ok (.aload_n 0, 1) := dk_42 (dk_at dksX6_about_0 5 rfl rfl)
theorem dX6_about_6 : decode cX6_about 6 = .ok (.iconst 1, 1) := dk_4 (dk_at dksX6_about_0 6 rfl rfl)
theorem dX6_about_7 : decode cX6_about 7 = .ok (.iload_n 1, 1) := dk_27 (dk_at dksX6_about_0 7 rfl rfl)
theorem dX6_about_8 : decode cX6_about 8 = .ok (.ifCond .lt 11, 3) := dk_155 0 11 (dk_at dksX6_about_0 8 rfl rfl)
theorem dX6_about_11 : decode cX6_about 11 = .ok (.iload_n 1, 1) := dk_27 (dk_at dksX6_about_0 11 rfl rfl)
theorem dX6_about_12 : decode cX6_about 12 = .ok (.aload_n 0, 1) := dk_42 (dk_at dksX6_about_0 12 rfl rfl)
theorem dX6_about_13 : decode cX6_about 13 = .ok (.invokevirtual 554, 3) := dk_182 2 42 (dk_at dksX6_about_0 13 rfl rfl)
theorem dX6_about_16 : decode cX6_about 16 = .ok (.if_icmp .lt 7, 3) := dk_161 0 7 (dk_at dksX6_about_0 16 rfl rfl)
theorem dX6_about_19 : decode cX6_about 19 = .ok (.iconst 1, 1) := dk_4 (dk_at dksX6_about_0 19 rfl rfl)
theorem dX6_about_20 : decode cX6_about 20 = .ok (.goto 4, 3) := dk_167 0 4 (dk_at dksX6_about_0 20 rfl rfl)
theorem dX6_about_23 : decode cX6_about 23 = .ok (.iconst 0, 1) := dk_3 (dk_at dksX6_about_0 23 rfl rfl)
theorem dX6_about_24 : decode cX6_about 24 = .ok (.invokevirtual 270, 3) := dk_182 1 14 (dk_at dksX6_about_1 0 rfl rfl)
theorem dX6_about_27 : decode cX6_about 27 = .ok (.ifCond .ne 25, 3) := dk_154 0 25 (dk_at dksX6_about_1 3 rfl rfl)
theorem dX6_about_30 : decode cX6_about 30 = .ok (.aload_n 0, 1) := dk_42 (dk_at dksX6_about_1 6 rfl rfl)
theorem dX6_about_31 : decode cX6_about 31 = .ok (.iconst 2, 1) := dk_5 (dk_at dksX6_about_1 7 rfl rfl)
theorem dX6_about_32 : decode cX6_about 32 = .ok (.iload_n 2, 1) := dk_28 (dk_at dksX6_about_1 8 rfl rfl)
theorem dX6_about_33 : decode cX6_about 33 = .ok (.ifCond .lt 8, 3) := dk_155 0 8 (dk_at dksX6_about_1 9 rfl rfl)
theorem dX6_about_36 : decode cX6_about 36 = .ok (.iload_n 2, 1) := dk_28 (dk_at dksX6_about_1 12 rfl rfl)
theorem dX6_about_37 : decode cX6_about 37 = .ok (.iconst 3, 1) := dk_6 (dk_at dksX6_about_1 13 rfl rfl)
theorem dX6_about_38 : decode cX6_about 38 = .ok (.if_icmp .le 7, 3) := dk_164 0 7 (dk_at dksX6_about_1 14 rfl rfl)
theorem dX6_about_41 : decode cX6_about 41 = .ok (.iconst 1, 1) := dk_4 (dk_at dksX6_about_1 17 rfl rfl)
theorem dX6_about_42 : decode cX6_about 42 = .ok (.goto 4, 3) := dk_167 0 4 (dk_at dksX6_about_1 18 rfl rfl)
theorem dX6_about_45 : decode cX6_about 45 = .ok (.iconst 0, 1) := dk_3 (dk_at dksX6_about_1 21 rfl rfl)
theorem dX6_about_46 : decode cX6_about 46 = .ok (.invokevirtual 270, 3) := dk_182 1 14 (dk_at dksX6_about_2 0 rfl rfl)
theorem dX6_about_49 : decode cX6_about 49 = .ok (.ifCond .eq 5, 3) := dk_153 0 5 (dk_at dksX6_about_2 3 rfl rfl)
theorem dX6_about_52 : decode cX6_about 52 = .ok (.iconst 0, 1) := dk_3 (dk_at dksX6_about_2 6 rfl rfl)
theorem dX6_about_53 : decode cX6_about 53 = .ok (.ireturn, 1) := dk_172 (dk_at dksX6_about_2 7 rfl rfl)
theorem dX6_about_54 : decode cX6_about 54 = .ok (.aload_n 0, 1) := dk_42 (dk_at dksX6_about_2 8 rfl rfl)
theorem dX6_about_55 : decode cX6_about 55 = .ok (.getfield 50, 3) := dk_180 0 50 (dk_at dksX6_about_2 9 rfl rfl)
theorem dX6_about_58 : decode cX6_about 58 = .ok (.aload_n 0, 1) := dk_42 (dk_at dksX6_about_2 12 rfl rfl)
theorem dX6_about_59 : decode cX6_about 59 = .ok (.getfield 163, 3) := dk_180 0 163 (dk_at dksX6_about_2 13 rfl rfl)
theorem dX6_about_62 : decode cX6_about 62 = .ok (.iaload, 1) := dk_46 (dk_at dksX6_about_2 16 rfl rfl)
theorem dX6_about_63 : decode cX6_about 63 = .ok (.iload_n 1, 1) := dk_27 (dk_at dksX6_about_2 17 rfl rfl)
theorem dX6_about_64 : decode cX6_about 64 = .ok (.iadd, 1) := dk_96 (dk_at dksX6_about_2 18 rfl rfl)
theorem dX6_about_65 : decode cX6_about 65 = .ok (.istore_n 3, 1) := dk_62 (dk_at dksX6_about_2 19 rfl rfl)
theorem dX6_about_66 : decode cX6_about 66 = .ok (.iload_n 2, 1) := dk_28 (dk_at dksX6_about_2 20 rfl rfl)
theorem dX6_about_67 : decode cX6_about 67 = .ok (.tableswitch 103 0 2 #[25, 71, 81], 25) := by decide +kernel
theorem dX6_about_92 : decode cX6_about 92 = .ok (.iload_n 1, 1) := dk_27 (dk_at dksX6_about_4 0 rfl rfl)
theorem dX6_about_93 : decode cX6_about 93 = .ok (.aload_n 0, 1) := dk_42 (dk_at dksX6_about_4 1 rfl rfl)
theorem dX6_about_94 : decode cX6_about 94 = .ok (.getfield 53, 3) := dk_180 0 53 (dk_at dksX6_about_4 2 rfl rfl)
theorem dX6_about_97 : decode cX6_about 97 = .ok (.aload_n 0, 1) := dk_42 (dk_at dksX6_about_4 5 rfl rfl)
theorem dX6_about_98 : decode cX6_about 98 = .ok (.getfield 163, 3) := dk_180 0 163 (dk_at dksX6_about_4 6 rfl rfl)
theorem dX6_about_101 : decode cX6_about 101 = .ok (.iaload, 1) := dk_46 (dk_at dksX6_about_4 9 rfl rfl)
theorem dX6_about_102 : decode cX6_about 102 = .ok (.if_icmp .ge 7, 3) := dk_162 0 7 (dk_at dksX6_about_4 10 rfl rfl)
theorem dX6_about_105 : decode cX6_about 105 = .ok (.iconst 0, 1) := dk_3 (dk_at dksX6_about_4 13 rfl rfl)
theorem dX6_about_106 : decode cX6_about 106 = .ok (.goto 31, 3) := dk_167 0 31 (dk_at dksX6_about_4 14 rfl rfl)
theorem dX6_about_109 : decode cX6_about 109 = .ok (.iload_n 1, 1) := dk_27 (dk_at dksX6_about_4 17 rfl rfl)
theorem dX6_about_110 : decode cX6_about 110 = .ok (.aload_n 0, 1) := dk_42 (dk_at dksX6_about_4 18 rfl rfl)
theorem dX6_about_111 : decode cX6_about 111 = .ok (.getfield 53, 3) := dk_180 0 53 (dk_at dksX6_about_4 19 rfl rfl)
theorem dX6_about_114 : decode cX6_about 114 = .ok (.aload_n 0, 1) := dk_42 (dk_at dksX6_about_4 22 rfl rfl)
theorem dX6_about_115 : decode cX6_about 115 = .ok (.getfield 163, 3) := dk_180 0 163 (dk_at dksX6_about_5 0 rfl rfl)
theorem dX6_about_118 : decode cX6_about 118 = .ok (.iaload, 1) := dk_46 (dk_at dksX6_about_5 3 rfl rfl)
theorem dX6_about_119 : decode cX6_about 119 = .ok (.aload_n 0, 1) := dk_42 (dk_at dksX6_about_5 4 rfl rfl)
theorem dX6_about_120 : decode cX6_about 120 = .ok (.getfield 56, 3) := dk_180 0 56 (dk_at dksX6_about_5 5 rfl rfl)
theorem dX6_about_123 : decode cX6_about 123 = .ok (.aload_n 0, 1) := dk_42 (dk_at dksX6_about_5 8 rfl rfl)
theorem dX6_about_124 : decode cX6_about 124 = .ok (.getfield 163, 3) := dk_180 0 163 (dk_at dksX6_about_5 9 rfl rfl)
theorem dX6_about_127 : decode cX6_about 127 = .ok (.iaload, 1) := dk_46 (dk_at dksX6_about_5 12 rfl rfl)
theorem dX6_about_128 : decode cX6_about 128 = .ok (.iadd, 1) := dk_96 (dk_at dksX6_about_5 13 rfl rfl)
theorem dX6_about_129 : decode cX6_about 129 = .ok (.if_icmp .ge 7, 3) := dk_162 0 7 (dk_at dksX6_about_5 14 rfl rfl)
theorem dX6_about_132 : decode cX6_about 132 = .ok (.iconst 1, 1) := dk_4 (dk_at dksX6_about_5 17 rfl rfl)
theorem dX6_about_133 : decode cX6_about 133 = .ok (.goto 4, 3) := dk_167 0 4 (dk_at dksX6_about_5 18 rfl rfl)
theorem dX6_about_136 : decode cX6_about 136 = .ok (.iconst 2, 1) := dk_5 (dk_at dksX6_about_5 21 rfl rfl)
theorem dX6_about_137 : decode cX6_about 137 = .ok (.ireturn, 1) := dk_172 (dk_at dksX6_about_5 22 rfl rfl)
theorem dX6_about_138 : decode cX6_about 138 = .ok (.aload_n 0, 1) := dk_42 (dk_at dksX6_about_5 23 rfl rfl)
theorem dX6_about_139 : decode cX6_about 139 = .ok (.getfield 86, 3) := dk_180 0 86 (dk_at dksX6_about_6 0 rfl rfl)
theorem dX6_about_142 : decode cX6_about 142 = .ok (.iload_n 3, 1) := dk_29 (dk_at dksX6_about_6 3 rfl rfl)
theorem dX6_about_143 : decode cX6_about 143 = .ok (.baload, 1) := dk_51 (dk_at dksX6_about_6 4 rfl rfl)
theorem dX6_about_144 : decode cX6_about 144 = .ok (.invokestatic 533, 3) := dk_184 2 21 (dk_at dksX6_about_6 5 rfl rfl)
theorem dX6_about_147 : decode cX6_about 147 = .ok (.ireturn, 1) := dk_172 (dk_at dksX6_about_6 8 rfl rfl)
theorem dX6_about_148 : decode cX6_about 148 = .ok (.aload_n 0, 1) := dk_42 (dk_at dksX6_about_6 9 rfl rfl)
theorem dX6_about_149 : decode cX6_about 149 = .ok (.getfield 80, 3) := dk_180 0 80 (dk_at dksX6_about_6 10 rfl rfl)
theorem dX6_about_152 : decode cX6_about 152 = .ok (.iload_n 3, 1) := dk_29 (dk_at dksX6_about_6 13 rfl rfl)
theorem dX6_about_153 : decode cX6_about 153 = .ok (.iaload, 1) := dk_46 (dk_at dksX6_about_6 14 rfl rfl)
theorem dX6_about_154 : decode cX6_about 154 = .ok (.ifCond .ge 7, 3) := dk_156 0 7 (dk_at dksX6_about_6 15 rfl rfl)
theorem dX6_about_157 : decode cX6_about 157 = .ok (.iconst (-1), 1) := dk_2 (dk_at dksX6_about_6 18 rfl rfl)
theorem dX6_about_158 : decode cX6_about 158 = .ok (.goto 11, 3) := dk_167 0 11 (dk_at dksX6_about_6 19 rfl rfl)
theorem dX6_about_161 : decode cX6_about 161 = .ok (.aload_n 0, 1) := dk_42 (dk_at dksX6_about_6 22 rfl rfl)
theorem dX6_about_162 : decode cX6_about 162 = .ok (.getfield 80, 3) := dk_180 0 80 (dk_at dksX6_about_7 0 rfl rfl)
theorem dX6_about_165 : decode cX6_about 165 = .ok (.iload_n 3, 1) := dk_29 (dk_at dksX6_about_7 3 rfl rfl)
theorem dX6_about_166 : decode cX6_about 166 = .ok (.iaload, 1) := dk_46 (dk_at dksX6_about_7 4 rfl rfl)
theorem dX6_about_167 : decode cX6_about 167 = .ok (.iconst 2, 1) := dk_5 (dk_at dksX6_about_7 5 rfl rfl)
theorem dX6_about_168 : decode cX6_about 168 = .ok (.idiv, 1) := dk_108 (dk_at dksX6_about_7 6 rfl rfl)
theorem dX6_about_169 : decode cX6_about 169 = .ok (.ireturn, 1) := dk_172 (dk_at dksX6_about_7 7 rfl rfl)
theorem dX6_about_170 : decode cX6_about 170 = .ok (.aload_n 0, 1) := dk_42 (dk_at dksX6_about_7 8 rfl rfl)
theorem dX6_about_171 : decode cX6_about 171 = .ok (.getfield 80, 3) := dk_180 0 80 (dk_at dksX6_about_7 9 rfl rfl)
theorem dX6_about_174 : decode cX6_about 174 = .ok (.iload_n 3, 1) := dk_29 (dk_at dksX6_about_7 12 rfl rfl)
theorem dX6_about_175 : decode cX6_about 175 = .ok (.iaload, 1) := dk_46 (dk_at dksX6_about_7 13 rfl rfl)
theorem dX6_about_176 : decode cX6_about 176 = .ok (.ifCond .ge 7, 3) := dk_156 0 7 (dk_at dksX6_about_7 14 rfl rfl)
theorem dX6_about_179 : decode cX6_about 179 = .ok (.iconst 0, 1) := dk_3 (dk_at dksX6_about_7 17 rfl rfl)
theorem dX6_about_180 : decode cX6_about 180 = .ok (.goto 11, 3) := dk_167 0 11 (dk_at dksX6_about_7 18 rfl rfl)
theorem dX6_about_183 : decode cX6_about 183 = .ok (.aload_n 0, 1) := dk_42 (dk_at dksX6_about_7 21 rfl rfl)
theorem dX6_about_184 : decode cX6_about 184 = .ok (.getfield 80, 3) := dk_180 0 80 (dk_at dksX6_about_8 0 rfl rfl)
theorem dX6_about_187 : decode cX6_about 187 = .ok (.iload_n 3, 1) := dk_29 (dk_at dksX6_about_8 3 rfl rfl)
theorem dX6_about_188 : decode cX6_about 188 = .ok (.iaload, 1) := dk_46 (dk_at dksX6_about_8 4 rfl rfl)
theorem dX6_about_189 : decode cX6_about 189 = .ok (.iconst 1, 1) := dk_4 (dk_at dksX6_about_8 5 rfl rfl)
theorem dX6_about_190 : decode cX6_about 190 = .ok (.iand, 1) := dk_126 (dk_at dksX6_about_8 6 rfl rfl)
theorem dX6_about_191 : decode cX6_about 191 = .ok (.ireturn, 1) := dk_172 (dk_at dksX6_about_8 7 rfl rfl)
abbrev cX6_causes_2 : ByteArray := prog_26_method_74_code
def yX6_causes_2 : MethodName := ⟨RX6, "causes", "(II)Z"⟩
def dkwX6_causes_2_2 : List UInt8 := [159, 0, 12, 42, 27, 28, 182, 1, 239, 153, 0, 7, 4, 167, 0, 4, 3, 172]
abbrev dktX6_causes_2_2 : List UInt8 := dkwX6_causes_2_2 ++ []
def dkwX6_causes_2_1 : List UInt8 := [42, 182, 2, 42, 161, 0, 7, 4, 167, 0, 4, 3, 182, 1, 14, 153, 0, 5, 3, 172, 27, 28]
abbrev dktX6_causes_2_1 : List UInt8 := dkwX6_causes_2_1 ++ dktX6_causes_2_2
def dkwX6_causes_2_0 : List UInt8 := [42, 3, 181, 0, 18, 42, 4, 27, 155, 0, 23, 28, 155, 0, 19, 27, 42, 182, 2, 42, 162, 0, 11, 28]
abbrev dktX6_causes_2_0 : List UInt8 := dkwX6_causes_2_0 ++ dktX6_causes_2_1
theorem dksX6_causes_2_0 : cX6_causes_2.data.toList.drop 0 = dktX6_causes_2_0 := by decide +kernel
theorem dksX6_causes_2_1 : cX6_causes_2.data.toList.drop 24 = dktX6_causes_2_1 := dk_seg dksX6_causes_2_0 24 rfl rfl
theorem dksX6_causes_2_2 : cX6_causes_2.data.toList.drop 46 = dktX6_causes_2_2 := dk_seg dksX6_causes_2_1 22 rfl rfl
theorem dX6_causes_2_0 : decode cX6_causes_2 0 = .ok (.aload_n 0, 1) := dk_42 (dk_at dksX6_causes_2_0 0 rfl rfl)
theorem dX6_causes_2_1 : decode cX6_causes_2 1 = .ok (.iconst 0, 1) := dk_3 (dk_at dksX6_causes_2_0 1 rfl rfl)
theorem dX6_causes_2_2 : decode cX6_causes_2 2 = .ok (.putfield 18, 3) := dk_181 0 18 (dk_at dksX6_causes_2_0 2 rfl rfl)
theorem dX6_causes_2_5 : decode cX6_causes_2 5 = .ok (.aload_n 0, 1) := dk_42 (dk_at dksX6_causes_2_0 5 rfl rfl)
theorem dX6_causes_2_6 : decode cX6_causes_2 6 = .ok (.iconst 1, 1) := dk_4 (dk_at dksX6_causes_2_0 6 rfl rfl)
theorem dX6_causes_2_7 : decode cX6_causes_2 7 = .ok (.iload_n 1, 1) := dk_27 (dk_at dksX6_causes_2_0 7 rfl rfl)
theorem dX6_causes_2_8 : decode cX6_causes_2 8 = .ok (.ifCond .lt 23, 3) := dk_155 0 23 (dk_at dksX6_causes_2_0 8 rfl rfl)
theorem dX6_causes_2_11 : decode cX6_causes_2 11 = .ok (.iload_n 2, 1) := dk_28 (dk_at dksX6_causes_2_0 11 rfl rfl)
theorem dX6_causes_2_12 : decode cX6_causes_2 12 = .ok (.ifCond .lt 19, 3) := dk_155 0 19 (dk_at dksX6_causes_2_0 12 rfl rfl)
theorem dX6_causes_2_15 : decode cX6_causes_2 15 = .ok (.iload_n 1, 1) := dk_27 (dk_at dksX6_causes_2_0 15 rfl rfl)
theorem dX6_causes_2_16 : decode cX6_causes_2 16 = .ok (.aload_n 0, 1) := dk_42 (dk_at dksX6_causes_2_0 16 rfl rfl)
theorem dX6_causes_2_17 : decode cX6_causes_2 17 = .ok (.invokevirtual 554, 3) := dk_182 2 42 (dk_at dksX6_causes_2_0 17 rfl rfl)
theorem dX6_causes_2_20 : decode cX6_causes_2 20 = .ok (.if_icmp .ge 11, 3) := dk_162 0 11 (dk_at dksX6_causes_2_0 20 rfl rfl)
theorem dX6_causes_2_23 : decode cX6_causes_2 23 = .ok (.iload_n 2, 1) := dk_28 (dk_at dksX6_causes_2_0 23 rfl rfl)
theorem dX6_causes_2_24 : decode cX6_causes_2 24 = .ok (.aload_n 0, 1) := dk_42 (dk_at dksX6_causes_2_1 0 rfl rfl)
theorem dX6_causes_2_25 : decode cX6_causes_2 25 = .ok (.invokevirtual 554, 3) := dk_182 2 42 (dk_at dksX6_causes_2_1 1 rfl rfl)
theorem dX6_causes_2_28 : decode cX6_causes_2 28 = .ok (.if_icmp .lt 7, 3) := dk_161 0 7 (dk_at dksX6_causes_2_1 4 rfl rfl)
theorem dX6_causes_2_31 : decode cX6_causes_2 31 = .ok (.iconst 1, 1) := dk_4 (dk_at dksX6_causes_2_1 7 rfl rfl)
theorem dX6_causes_2_32 : decode cX6_causes_2 32 = .ok (.goto 4, 3) := dk_167 0 4 (dk_at dksX6_causes_2_1 8 rfl rfl)
theorem dX6_causes_2_35 : decode cX6_causes_2 35 = .ok (.iconst 0, 1) := dk_3 (dk_at dksX6_causes_2_1 11 rfl rfl)
theorem dX6_causes_2_36 : decode cX6_causes_2 36 = .ok (.invokevirtual 270, 3) := dk_182 1 14 (dk_at dksX6_causes_2_1 12 rfl rfl)
theorem dX6_causes_2_39 : decode cX6_causes_2 39 = .ok (.ifCond .eq 5, 3) := dk_153 0 5 (dk_at dksX6_causes_2_1 15 rfl rfl)
theorem dX6_causes_2_42 : decode cX6_causes_2 42 = .ok (.iconst 0, 1) := dk_3 (dk_at dksX6_causes_2_1 18 rfl rfl)
theorem dX6_causes_2_43 : decode cX6_causes_2 43 = .ok (.ireturn, 1) := dk_172 (dk_at dksX6_causes_2_1 19 rfl rfl)
theorem dX6_causes_2_44 : decode cX6_causes_2 44 = .ok (.iload_n 1, 1) := dk_27 (dk_at dksX6_causes_2_1 20 rfl rfl)
theorem dX6_causes_2_45 : decode cX6_causes_2 45 = .ok (.iload_n 2, 1) := dk_28 (dk_at dksX6_causes_2_1 21 rfl rfl)
theorem dX6_causes_2_46 : decode cX6_causes_2 46 = .ok (.if_icmp .eq 12, 3) := dk_159 0 12 (dk_at dksX6_causes_2_2 0 rfl rfl)
theorem dX6_causes_2_49 : decode cX6_causes_2 49 = .ok (.aload_n 0, 1) := dk_42 (dk_at dksX6_causes_2_2 3 rfl rfl)
theorem dX6_causes_2_50 : decode cX6_causes_2 50 = .ok (.iload_n 1, 1) := dk_27 (dk_at dksX6_causes_2_2 4 rfl rfl)
theorem dX6_causes_2_51 : decode cX6_causes_2 51 = .ok (.iload_n 2, 1) := dk_28 (dk_at dksX6_causes_2_2 5 rfl rfl)
theorem dX6_causes_2_52 : decode cX6_causes_2 52 = .ok (.invokevirtual 495, 3) := dk_182 1 239 (dk_at dksX6_causes_2_2 6 rfl rfl)
theorem dX6_causes_2_55 : decode cX6_causes_2 55 = .ok (.ifCond .eq 7, 3) := dk_153 0 7 (dk_at dksX6_causes_2_2 9 rfl rfl)
theorem dX6_causes_2_58 : decode cX6_causes_2 58 = .ok (.iconst 1, 1) := dk_4 (dk_at dksX6_causes_2_2 12 rfl rfl)
theorem dX6_causes_2_59 : decode cX6_causes_2 59 = .ok (.goto 4, 3) := dk_167 0 4 (dk_at dksX6_causes_2_2 13 rfl rfl)
theorem dX6_causes_2_62 : decode cX6_causes_2 62 = .ok (.iconst 0, 1) := dk_3 (dk_at dksX6_causes_2_2 16 rfl rfl)
theorem dX6_causes_2_63 : decode cX6_causes_2 63 = .ok (.ireturn, 1) := dk_172 (dk_at dksX6_causes_2_2 17 rfl rfl)
abbrev cX6_restart : ByteArray := prog_26_method_75_code
def yX6_restart : MethodName := ⟨RX6, "restart", "()I"⟩
def dkwX6_restart_2 : List UInt8 := [172]
abbrev dktX6_restart_2 : List UInt8 := dkwX6_restart_2 ++ []
def dkwX6_restart_1 : List UInt8 := [153, 0, 5, 3, 172, 42, 180, 0, 233, 60, 42, 3, 181, 0, 233, 42, 180, 0, 242, 3, 184, 2, 9, 27]
abbrev dktX6_restart_1 : List UInt8 := dkwX6_restart_1 ++ dktX6_restart_2
def dkwX6_restart_0 : List UInt8 := [42, 3, 181, 0, 18, 42, 4, 42, 180, 0, 163, 156, 0, 7, 4, 167, 0, 4, 3, 182, 1, 14]
abbrev dktX6_restart_0 : List UInt8 := dkwX6_restart_0 ++ dktX6_restart_1
theorem dksX6_restart_0 : cX6_restart.data.toList.drop 0 = dktX6_restart_0 := by decide +kernel
theorem dksX6_restart_1 : cX6_restart.data.toList.drop 22 = dktX6_restart_1 := dk_seg dksX6_restart_0 22 rfl rfl
theorem dksX6_restart_2 : cX6_restart.data.toList.drop 46 = dktX6_restart_2 := dk_seg dksX6_restart_1 24 rfl rfl
theorem dX6_restart_0 : decode cX6_restart 0 = .ok (.aload_n 0, 1) := dk_42 (dk_at dksX6_restart_0 0 rfl rfl)
theorem dX6_restart_1 : decode cX6_restart 1 = .ok (.iconst 0, 1) := dk_3 (dk_at dksX6_restart_0 1 rfl rfl)
theorem dX6_restart_2 : decode cX6_restart 2 = .ok (.putfield 18, 3) := dk_181 0 18 (dk_at dksX6_restart_0 2 rfl rfl)
theorem dX6_restart_5 : decode cX6_restart 5 = .ok (.aload_n 0, 1) := dk_42 (dk_at dksX6_restart_0 5 rfl rfl)
theorem dX6_restart_6 : decode cX6_restart 6 = .ok (.iconst 1, 1) := dk_4 (dk_at dksX6_restart_0 6 rfl rfl)
theorem dX6_restart_7 : decode cX6_restart 7 = .ok (.aload_n 0, 1) := dk_42 (dk_at dksX6_restart_0 7 rfl rfl)
theorem dX6_restart_8 : decode cX6_restart 8 = .ok (.getfield 163, 3) := dk_180 0 163 (dk_at dksX6_restart_0 8 rfl rfl)
theorem dX6_restart_11 : decode cX6_restart 11 = .ok (.ifCond .ge 7, 3) := dk_156 0 7 (dk_at dksX6_restart_0 11 rfl rfl)
theorem dX6_restart_14 : decode cX6_restart 14 = .ok (.iconst 1, 1) := dk_4 (dk_at dksX6_restart_0 14 rfl rfl)
theorem dX6_restart_15 : decode cX6_restart 15 = .ok (.goto 4, 3) := dk_167 0 4 (dk_at dksX6_restart_0 15 rfl rfl)
theorem dX6_restart_18 : decode cX6_restart 18 = .ok (.iconst 0, 1) := dk_3 (dk_at dksX6_restart_0 18 rfl rfl)
theorem dX6_restart_19 : decode cX6_restart 19 = .ok (.invokevirtual 270, 3) := dk_182 1 14 (dk_at dksX6_restart_0 19 rfl rfl)
theorem dX6_restart_22 : decode cX6_restart 22 = .ok (.ifCond .eq 5, 3) := dk_153 0 5 (dk_at dksX6_restart_1 0 rfl rfl)
theorem dX6_restart_25 : decode cX6_restart 25 = .ok (.iconst 0, 1) := dk_3 (dk_at dksX6_restart_1 3 rfl rfl)
theorem dX6_restart_26 : decode cX6_restart 26 = .ok (.ireturn, 1) := dk_172 (dk_at dksX6_restart_1 4 rfl rfl)
theorem dX6_restart_27 : decode cX6_restart 27 = .ok (.aload_n 0, 1) := dk_42 (dk_at dksX6_restart_1 5 rfl rfl)
theorem dX6_restart_28 : decode cX6_restart 28 = .ok (.getfield 233, 3) := dk_180 0 233 (dk_at dksX6_restart_1 6 rfl rfl)
theorem dX6_restart_31 : decode cX6_restart 31 = .ok (.istore_n 1, 1) := dk_60 (dk_at dksX6_restart_1 9 rfl rfl)
theorem dX6_restart_32 : decode cX6_restart 32 = .ok (.aload_n 0, 1) := dk_42 (dk_at dksX6_restart_1 10 rfl rfl)
theorem dX6_restart_33 : decode cX6_restart 33 = .ok (.iconst 0, 1) := dk_3 (dk_at dksX6_restart_1 11 rfl rfl)
theorem dX6_restart_34 : decode cX6_restart 34 = .ok (.putfield 233, 3) := dk_181 0 233 (dk_at dksX6_restart_1 12 rfl rfl)
theorem dX6_restart_37 : decode cX6_restart 37 = .ok (.aload_n 0, 1) := dk_42 (dk_at dksX6_restart_1 15 rfl rfl)
theorem dX6_restart_38 : decode cX6_restart 38 = .ok (.getfield 242, 3) := dk_180 0 242 (dk_at dksX6_restart_1 16 rfl rfl)
theorem dX6_restart_41 : decode cX6_restart 41 = .ok (.iconst 0, 1) := dk_3 (dk_at dksX6_restart_1 19 rfl rfl)
theorem dX6_restart_42 : decode cX6_restart 42 = .ok (.invokestatic 521, 3) := dk_184 2 9 (dk_at dksX6_restart_1 20 rfl rfl)
theorem dX6_restart_45 : decode cX6_restart 45 = .ok (.iload_n 1, 1) := dk_27 (dk_at dksX6_restart_1 23 rfl rfl)
theorem dX6_restart_46 : decode cX6_restart 46 = .ok (.ireturn, 1) := dk_172 (dk_at dksX6_restart_2 0 rfl rfl)
abbrev cX6_keep : ByteArray := prog_26_method_76_code
def yX6_keep : MethodName := ⟨RX6, "keep", "()V"⟩
def dkwX6_keep_4 : List UInt8 := [180, 0, 169, 184, 2, 30, 177]
abbrev dktX6_keep_4 : List UInt8 := dkwX6_keep_4 ++ []
def dkwX6_keep_3 : List UInt8 := [180, 1, 1, 3, 42, 180, 0, 169, 184, 2, 30, 42, 180, 0, 251, 3, 42, 180, 1, 4, 3, 42]
abbrev dktX6_keep_3 : List UInt8 := dkwX6_keep_3 ++ dktX6_keep_4
def dkwX6_keep_2 : List UInt8 := [42, 180, 0, 242, 3, 42, 180, 0, 254, 3, 42, 180, 0, 172, 184, 2, 30, 42, 180, 0, 239, 3, 42]
abbrev dktX6_keep_2 : List UInt8 := dkwX6_keep_2 ++ dktX6_keep_3
def dkwX6_keep_1 : List UInt8 := [167, 0, 4, 3, 182, 1, 14, 153, 0, 4, 177, 42, 4, 181, 1, 10, 42, 42, 180, 0, 233, 181, 1, 7]
abbrev dktX6_keep_1 : List UInt8 := dkwX6_keep_1 ++ dktX6_keep_2
def dkwX6_keep_0 : List UInt8 := [42, 3, 181, 0, 18, 42, 4, 42, 180, 0, 163, 155, 0, 10, 42, 180, 0, 233, 154, 0, 7, 4]
abbrev dktX6_keep_0 : List UInt8 := dkwX6_keep_0 ++ dktX6_keep_1
theorem dksX6_keep_0 : cX6_keep.data.toList.drop 0 = dktX6_keep_0 := by decide +kernel
theorem dksX6_keep_1 : cX6_keep.data.toList.drop 22 = dktX6_keep_1 := dk_seg dksX6_keep_0 22 rfl rfl
theorem dksX6_keep_2 : cX6_keep.data.toList.drop 46 = dktX6_keep_2 := dk_seg dksX6_keep_1 24 rfl rfl
theorem dksX6_keep_3 : cX6_keep.data.toList.drop 69 = dktX6_keep_3 := dk_seg dksX6_keep_2 23 rfl rfl
theorem dksX6_keep_4 : cX6_keep.data.toList.drop 91 = dktX6_keep_4 := dk_seg dksX6_keep_3 22 rfl rfl
theorem dX6_keep_0 : decode cX6_keep 0 = .ok (.aload_n 0, 1) := dk_42 (dk_at dksX6_keep_0 0 rfl rfl)
theorem dX6_keep_1 : decode cX6_keep 1 = .ok (.iconst 0, 1) := dk_3 (dk_at dksX6_keep_0 1 rfl rfl)
theorem dX6_keep_2 : decode cX6_keep 2 = .ok (.putfield 18, 3) := dk_181 0 18 (dk_at dksX6_keep_0 2 rfl rfl)
theorem dX6_keep_5 : decode cX6_keep 5 = .ok (.aload_n 0, 1) := dk_42 (dk_at dksX6_keep_0 5 rfl rfl)
theorem dX6_keep_6 : decode cX6_keep 6 = .ok (.iconst 1, 1) := dk_4 (dk_at dksX6_keep_0 6 rfl rfl)
theorem dX6_keep_7 : decode cX6_keep 7 = .ok (.aload_n 0, 1) := dk_42 (dk_at dksX6_keep_0 7 rfl rfl)
theorem dX6_keep_8 : decode cX6_keep 8 = .ok (.getfield 163, 3) := dk_180 0 163 (dk_at dksX6_keep_0 8 rfl rfl)
theorem dX6_keep_11 : decode cX6_keep 11 = .ok (.ifCond .lt 10, 3) := dk_155 0 10 (dk_at dksX6_keep_0 11 rfl rfl)
theorem dX6_keep_14 : decode cX6_keep 14 = .ok (.aload_n 0, 1) := dk_42 (dk_at dksX6_keep_0 14 rfl rfl)
theorem dX6_keep_15 : decode cX6_keep 15 = .ok (.getfield 233, 3) := dk_180 0 233 (dk_at dksX6_keep_0 15 rfl rfl)
theorem dX6_keep_18 : decode cX6_keep 18 = .ok (.ifCond .ne 7, 3) := dk_154 0 7 (dk_at dksX6_keep_0 18 rfl rfl)
theorem dX6_keep_21 : decode cX6_keep 21 = .ok (.iconst 1, 1) := dk_4 (dk_at dksX6_keep_0 21 rfl rfl)
theorem dX6_keep_22 : decode cX6_keep 22 = .ok (.goto 4, 3) := dk_167 0 4 (dk_at dksX6_keep_1 0 rfl rfl)
theorem dX6_keep_25 : decode cX6_keep 25 = .ok (.iconst 0, 1) := dk_3 (dk_at dksX6_keep_1 3 rfl rfl)
theorem dX6_keep_26 : decode cX6_keep 26 = .ok (.invokevirtual 270, 3) := dk_182 1 14 (dk_at dksX6_keep_1 4 rfl rfl)
theorem dX6_keep_29 : decode cX6_keep 29 = .ok (.ifCond .eq 4, 3) := dk_153 0 4 (dk_at dksX6_keep_1 7 rfl rfl)
theorem dX6_keep_32 : decode cX6_keep 32 = .ok (.return_, 1) := dk_177 (dk_at dksX6_keep_1 10 rfl rfl)
theorem dX6_keep_33 : decode cX6_keep 33 = .ok (.aload_n 0, 1) := dk_42 (dk_at dksX6_keep_1 11 rfl rfl)
theorem dX6_keep_34 : decode cX6_keep 34 = .ok (.iconst 1, 1) := dk_4 (dk_at dksX6_keep_1 12 rfl rfl)
theorem dX6_keep_35 : decode cX6_keep 35 = .ok (.putfield 266, 3) := dk_181 1 10 (dk_at dksX6_keep_1 13 rfl rfl)
theorem dX6_keep_38 : decode cX6_keep 38 = .ok (.aload_n 0, 1) := dk_42 (dk_at dksX6_keep_1 16 rfl rfl)
theorem dX6_keep_39 : decode cX6_keep 39 = .ok (.aload_n 0, 1) := dk_42 (dk_at dksX6_keep_1 17 rfl rfl)
theorem dX6_keep_40 : decode cX6_keep 40 = .ok (.getfield 233, 3) := dk_180 0 233 (dk_at dksX6_keep_1 18 rfl rfl)
theorem dX6_keep_43 : decode cX6_keep 43 = .ok (.putfield 263, 3) := dk_181 1 7 (dk_at dksX6_keep_1 21 rfl rfl)
theorem dX6_keep_46 : decode cX6_keep 46 = .ok (.aload_n 0, 1) := dk_42 (dk_at dksX6_keep_2 0 rfl rfl)
theorem dX6_keep_47 : decode cX6_keep 47 = .ok (.getfield 242, 3) := dk_180 0 242 (dk_at dksX6_keep_2 1 rfl rfl)
theorem dX6_keep_50 : decode cX6_keep 50 = .ok (.iconst 0, 1) := dk_3 (dk_at dksX6_keep_2 4 rfl rfl)
theorem dX6_keep_51 : decode cX6_keep 51 = .ok (.aload_n 0, 1) := dk_42 (dk_at dksX6_keep_2 5 rfl rfl)
theorem dX6_keep_52 : decode cX6_keep 52 = .ok (.getfield 254, 3) := dk_180 0 254 (dk_at dksX6_keep_2 6 rfl rfl)
theorem dX6_keep_55 : decode cX6_keep 55 = .ok (.iconst 0, 1) := dk_3 (dk_at dksX6_keep_2 9 rfl rfl)
theorem dX6_keep_56 : decode cX6_keep 56 = .ok (.aload_n 0, 1) := dk_42 (dk_at dksX6_keep_2 10 rfl rfl)
theorem dX6_keep_57 : decode cX6_keep 57 = .ok (.getfield 172, 3) := dk_180 0 172 (dk_at dksX6_keep_2 11 rfl rfl)
theorem dX6_keep_60 : decode cX6_keep 60 = .ok (.invokestatic 542, 3) := dk_184 2 30 (dk_at dksX6_keep_2 14 rfl rfl)
theorem dX6_keep_63 : decode cX6_keep 63 = .ok (.aload_n 0, 1) := dk_42 (dk_at dksX6_keep_2 17 rfl rfl)
theorem dX6_keep_64 : decode cX6_keep 64 = .ok (.getfield 239, 3) := dk_180 0 239 (dk_at dksX6_keep_2 18 rfl rfl)
theorem dX6_keep_67 : decode cX6_keep 67 = .ok (.iconst 0, 1) := dk_3 (dk_at dksX6_keep_2 21 rfl rfl)
theorem dX6_keep_68 : decode cX6_keep 68 = .ok (.aload_n 0, 1) := dk_42 (dk_at dksX6_keep_2 22 rfl rfl)
theorem dX6_keep_69 : decode cX6_keep 69 = .ok (.getfield 257, 3) := dk_180 1 1 (dk_at dksX6_keep_3 0 rfl rfl)
theorem dX6_keep_72 : decode cX6_keep 72 = .ok (.iconst 0, 1) := dk_3 (dk_at dksX6_keep_3 3 rfl rfl)
theorem dX6_keep_73 : decode cX6_keep 73 = .ok (.aload_n 0, 1) := dk_42 (dk_at dksX6_keep_3 4 rfl rfl)
theorem dX6_keep_74 : decode cX6_keep 74 = .ok (.getfield 169, 3) := dk_180 0 169 (dk_at dksX6_keep_3 5 rfl rfl)
theorem dX6_keep_77 : decode cX6_keep 77 = .ok (.invokestatic 542, 3) := dk_184 2 30 (dk_at dksX6_keep_3 8 rfl rfl)
theorem dX6_keep_80 : decode cX6_keep 80 = .ok (.aload_n 0, 1) := dk_42 (dk_at dksX6_keep_3 11 rfl rfl)
theorem dX6_keep_81 : decode cX6_keep 81 = .ok (.getfield 251, 3) := dk_180 0 251 (dk_at dksX6_keep_3 12 rfl rfl)
theorem dX6_keep_84 : decode cX6_keep 84 = .ok (.iconst 0, 1) := dk_3 (dk_at dksX6_keep_3 15 rfl rfl)
theorem dX6_keep_85 : decode cX6_keep 85 = .ok (.aload_n 0, 1) := dk_42 (dk_at dksX6_keep_3 16 rfl rfl)
theorem dX6_keep_86 : decode cX6_keep 86 = .ok (.getfield 260, 3) := dk_180 1 4 (dk_at dksX6_keep_3 17 rfl rfl)
theorem dX6_keep_89 : decode cX6_keep 89 = .ok (.iconst 0, 1) := dk_3 (dk_at dksX6_keep_3 20 rfl rfl)
theorem dX6_keep_90 : decode cX6_keep 90 = .ok (.aload_n 0, 1) := dk_42 (dk_at dksX6_keep_3 21 rfl rfl)
theorem dX6_keep_91 : decode cX6_keep 91 = .ok (.getfield 169, 3) := dk_180 0 169 (dk_at dksX6_keep_4 0 rfl rfl)
theorem dX6_keep_94 : decode cX6_keep 94 = .ok (.invokestatic 542, 3) := dk_184 2 30 (dk_at dksX6_keep_4 3 rfl rfl)
theorem dX6_keep_97 : decode cX6_keep 97 = .ok (.return_, 1) := dk_177 (dk_at dksX6_keep_4 6 rfl rfl)
abbrev cX6_back : ByteArray := prog_26_method_77_code
def yX6_back : MethodName := ⟨RX6, "back", "()I"⟩
def dkwX6_back_4 : List UInt8 := [172]
abbrev dktX6_back_4 : List UInt8 := dkwX6_back_4 ++ []
def dkwX6_back_3 : List UInt8 := [180, 0, 169, 184, 2, 30, 42, 180, 1, 4, 3, 42, 180, 0, 251, 3, 42, 180, 0, 169, 184, 2, 30, 27]
abbrev dktX6_back_3 : List UInt8 := dkwX6_back_3 ++ dktX6_back_4
def dkwX6_back_2 : List UInt8 := [180, 0, 242, 3, 42, 180, 0, 172, 184, 2, 30, 42, 180, 1, 1, 3, 42, 180, 0, 239, 3, 42]
abbrev dktX6_back_2 : List UInt8 := dkwX6_back_2 ++ dktX6_back_3
def dkwX6_back_1 : List UInt8 := [153, 0, 5, 3, 172, 42, 180, 0, 233, 60, 42, 42, 180, 1, 7, 181, 0, 233, 42, 180, 0, 254, 3, 42]
abbrev dktX6_back_1 : List UInt8 := dkwX6_back_1 ++ dktX6_back_2
def dkwX6_back_0 : List UInt8 := [42, 3, 181, 0, 18, 42, 4, 42, 180, 1, 10, 154, 0, 7, 4, 167, 0, 4, 3, 182, 1, 14]
abbrev dktX6_back_0 : List UInt8 := dkwX6_back_0 ++ dktX6_back_1
theorem dksX6_back_0 : cX6_back.data.toList.drop 0 = dktX6_back_0 := by decide +kernel
theorem dksX6_back_1 : cX6_back.data.toList.drop 22 = dktX6_back_1 := dk_seg dksX6_back_0 22 rfl rfl
theorem dksX6_back_2 : cX6_back.data.toList.drop 46 = dktX6_back_2 := dk_seg dksX6_back_1 24 rfl rfl
theorem dksX6_back_3 : cX6_back.data.toList.drop 68 = dktX6_back_3 := dk_seg dksX6_back_2 22 rfl rfl
theorem dksX6_back_4 : cX6_back.data.toList.drop 92 = dktX6_back_4 := dk_seg dksX6_back_3 24 rfl rfl
theorem dX6_back_0 : decode cX6_back 0 = .ok (.aload_n 0, 1) := dk_42 (dk_at dksX6_back_0 0 rfl rfl)
theorem dX6_back_1 : decode cX6_back 1 = .ok (.iconst 0, 1) := dk_3 (dk_at dksX6_back_0 1 rfl rfl)
theorem dX6_back_2 : decode cX6_back 2 = .ok (.putfield 18, 3) := dk_181 0 18 (dk_at dksX6_back_0 2 rfl rfl)
theorem dX6_back_5 : decode cX6_back 5 = .ok (.aload_n 0, 1) := dk_42 (dk_at dksX6_back_0 5 rfl rfl)
theorem dX6_back_6 : decode cX6_back 6 = .ok (.iconst 1, 1) := dk_4 (dk_at dksX6_back_0 6 rfl rfl)
theorem dX6_back_7 : decode cX6_back 7 = .ok (.aload_n 0, 1) := dk_42 (dk_at dksX6_back_0 7 rfl rfl)
theorem dX6_back_8 : decode cX6_back 8 = .ok (.getfield 266, 3) := dk_180 1 10 (dk_at dksX6_back_0 8 rfl rfl)
theorem dX6_back_11 : decode cX6_back 11 = .ok (.ifCond .ne 7, 3) := dk_154 0 7 (dk_at dksX6_back_0 11 rfl rfl)
theorem dX6_back_14 : decode cX6_back 14 = .ok (.iconst 1, 1) := dk_4 (dk_at dksX6_back_0 14 rfl rfl)
theorem dX6_back_15 : decode cX6_back 15 = .ok (.goto 4, 3) := dk_167 0 4 (dk_at dksX6_back_0 15 rfl rfl)
theorem dX6_back_18 : decode cX6_back 18 = .ok (.iconst 0, 1) := dk_3 (dk_at dksX6_back_0 18 rfl rfl)
theorem dX6_back_19 : decode cX6_back 19 = .ok (.invokevirtual 270, 3) := dk_182 1 14 (dk_at dksX6_back_0 19 rfl rfl)
theorem dX6_back_22 : decode cX6_back 22 = .ok (.ifCond .eq 5, 3) := dk_153 0 5 (dk_at dksX6_back_1 0 rfl rfl)
theorem dX6_back_25 : decode cX6_back 25 = .ok (.iconst 0, 1) := dk_3 (dk_at dksX6_back_1 3 rfl rfl)
theorem dX6_back_26 : decode cX6_back 26 = .ok (.ireturn, 1) := dk_172 (dk_at dksX6_back_1 4 rfl rfl)
theorem dX6_back_27 : decode cX6_back 27 = .ok (.aload_n 0, 1) := dk_42 (dk_at dksX6_back_1 5 rfl rfl)
theorem dX6_back_28 : decode cX6_back 28 = .ok (.getfield 233, 3) := dk_180 0 233 (dk_at dksX6_back_1 6 rfl rfl)
theorem dX6_back_31 : decode cX6_back 31 = .ok (.istore_n 1, 1) := dk_60 (dk_at dksX6_back_1 9 rfl rfl)
theorem dX6_back_32 : decode cX6_back 32 = .ok (.aload_n 0, 1) := dk_42 (dk_at dksX6_back_1 10 rfl rfl)
theorem dX6_back_33 : decode cX6_back 33 = .ok (.aload_n 0, 1) := dk_42 (dk_at dksX6_back_1 11 rfl rfl)
theorem dX6_back_34 : decode cX6_back 34 = .ok (.getfield 263, 3) := dk_180 1 7 (dk_at dksX6_back_1 12 rfl rfl)
theorem dX6_back_37 : decode cX6_back 37 = .ok (.putfield 233, 3) := dk_181 0 233 (dk_at dksX6_back_1 15 rfl rfl)
theorem dX6_back_40 : decode cX6_back 40 = .ok (.aload_n 0, 1) := dk_42 (dk_at dksX6_back_1 18 rfl rfl)
theorem dX6_back_41 : decode cX6_back 41 = .ok (.getfield 254, 3) := dk_180 0 254 (dk_at dksX6_back_1 19 rfl rfl)
theorem dX6_back_44 : decode cX6_back 44 = .ok (.iconst 0, 1) := dk_3 (dk_at dksX6_back_1 22 rfl rfl)
theorem dX6_back_45 : decode cX6_back 45 = .ok (.aload_n 0, 1) := dk_42 (dk_at dksX6_back_1 23 rfl rfl)
theorem dX6_back_46 : decode cX6_back 46 = .ok (.getfield 242, 3) := dk_180 0 242 (dk_at dksX6_back_2 0 rfl rfl)
theorem dX6_back_49 : decode cX6_back 49 = .ok (.iconst 0, 1) := dk_3 (dk_at dksX6_back_2 3 rfl rfl)
theorem dX6_back_50 : decode cX6_back 50 = .ok (.aload_n 0, 1) := dk_42 (dk_at dksX6_back_2 4 rfl rfl)
theorem dX6_back_51 : decode cX6_back 51 = .ok (.getfield 172, 3) := dk_180 0 172 (dk_at dksX6_back_2 5 rfl rfl)
theorem dX6_back_54 : decode cX6_back 54 = .ok (.invokestatic 542, 3) := dk_184 2 30 (dk_at dksX6_back_2 8 rfl rfl)
theorem dX6_back_57 : decode cX6_back 57 = .ok (.aload_n 0, 1) := dk_42 (dk_at dksX6_back_2 11 rfl rfl)
theorem dX6_back_58 : decode cX6_back 58 = .ok (.getfield 257, 3) := dk_180 1 1 (dk_at dksX6_back_2 12 rfl rfl)
theorem dX6_back_61 : decode cX6_back 61 = .ok (.iconst 0, 1) := dk_3 (dk_at dksX6_back_2 15 rfl rfl)
theorem dX6_back_62 : decode cX6_back 62 = .ok (.aload_n 0, 1) := dk_42 (dk_at dksX6_back_2 16 rfl rfl)
theorem dX6_back_63 : decode cX6_back 63 = .ok (.getfield 239, 3) := dk_180 0 239 (dk_at dksX6_back_2 17 rfl rfl)
theorem dX6_back_66 : decode cX6_back 66 = .ok (.iconst 0, 1) := dk_3 (dk_at dksX6_back_2 20 rfl rfl)
theorem dX6_back_67 : decode cX6_back 67 = .ok (.aload_n 0, 1) := dk_42 (dk_at dksX6_back_2 21 rfl rfl)
theorem dX6_back_68 : decode cX6_back 68 = .ok (.getfield 169, 3) := dk_180 0 169 (dk_at dksX6_back_3 0 rfl rfl)
theorem dX6_back_71 : decode cX6_back 71 = .ok (.invokestatic 542, 3) := dk_184 2 30 (dk_at dksX6_back_3 3 rfl rfl)
theorem dX6_back_74 : decode cX6_back 74 = .ok (.aload_n 0, 1) := dk_42 (dk_at dksX6_back_3 6 rfl rfl)
theorem dX6_back_75 : decode cX6_back 75 = .ok (.getfield 260, 3) := dk_180 1 4 (dk_at dksX6_back_3 7 rfl rfl)
theorem dX6_back_78 : decode cX6_back 78 = .ok (.iconst 0, 1) := dk_3 (dk_at dksX6_back_3 10 rfl rfl)
theorem dX6_back_79 : decode cX6_back 79 = .ok (.aload_n 0, 1) := dk_42 (dk_at dksX6_back_3 11 rfl rfl)
theorem dX6_back_80 : decode cX6_back 80 = .ok (.getfield 251, 3) := dk_180 0 251 (dk_at dksX6_back_3 12 rfl rfl)
theorem dX6_back_83 : decode cX6_back 83 = .ok (.iconst 0, 1) := dk_3 (dk_at dksX6_back_3 15 rfl rfl)
theorem dX6_back_84 : decode cX6_back 84 = .ok (.aload_n 0, 1) := dk_42 (dk_at dksX6_back_3 16 rfl rfl)
theorem dX6_back_85 : decode cX6_back 85 = .ok (.getfield 169, 3) := dk_180 0 169 (dk_at dksX6_back_3 17 rfl rfl)
theorem dX6_back_88 : decode cX6_back 88 = .ok (.invokestatic 542, 3) := dk_184 2 30 (dk_at dksX6_back_3 20 rfl rfl)
theorem dX6_back_91 : decode cX6_back 91 = .ok (.iload_n 1, 1) := dk_27 (dk_at dksX6_back_3 23 rfl rfl)
theorem dX6_back_92 : decode cX6_back 92 = .ok (.ireturn, 1) := dk_172 (dk_at dksX6_back_4 0 rfl rfl)
abbrev cX6_count : ByteArray := prog_26_method_78_code
def yX6_count : MethodName := ⟨RX6, "count", "(I)I"⟩
def dkwX6_count_7 : List UInt8 := [3, 167, 0, 7, 42, 180, 0, 68, 172, 2, 172]
abbrev dktX6_count_7 : List UInt8 := dkwX6_count_7 ++ []
def dkwX6_count_6 : List UInt8 := [156, 0, 7, 3, 167, 0, 7, 42, 180, 0, 175, 172, 42, 180, 0, 14, 172, 42, 180, 0, 163, 156, 0, 7]
abbrev dktX6_count_6 : List UInt8 := dkwX6_count_6 ++ dktX6_count_7
def dkwX6_count_5 : List UInt8 := [167, 0, 12, 42, 180, 0, 160, 42, 180, 0, 163, 46, 172, 42, 180, 0, 233, 172, 42, 180, 0, 163]
abbrev dktX6_count_5 : List UInt8 := dkwX6_count_5 ++ dktX6_count_6
def dkwX6_count_4 : List UInt8 := [180, 0, 163, 156, 0, 7, 3, 167, 0, 7, 42, 180, 0, 169, 172, 42, 180, 0, 163, 156, 0, 7, 3]
abbrev dktX6_count_4 : List UInt8 := dkwX6_count_4 ++ dktX6_count_5
def dkwX6_count_3 : List UInt8 := [46, 172, 42, 180, 0, 163, 156, 0, 7, 3, 167, 0, 12, 42, 180, 0, 56, 42, 180, 0, 163, 46, 172, 42]
abbrev dktX6_count_3 : List UInt8 := dkwX6_count_3 ++ dktX6_count_4
def dkwX6_count_2 : List UInt8 := [42, 182, 2, 42, 172, 42, 180, 0, 163, 156, 0, 7, 3, 167, 0, 12, 42, 180, 0, 53, 42, 180, 0, 163]
abbrev dktX6_count_2 : List UInt8 := dkwX6_count_2 ++ dktX6_count_3
def dkwX6_count_1 : List UInt8 := [170, 0, 0, 0, 0, 176, 0, 0, 0, 0, 0, 0, 0, 8, 0, 0, 0, 50, 0, 0, 0, 55, 0, 0, 0, 76, 0, 0, 0, 97, 0, 0, 0, 113, 0, 0, 0, 134, 0, 0, 0, 139, 0, 0, 0, 155, 0, 0, 0, 160]
abbrev dktX6_count_1 : List UInt8 := dkwX6_count_1 ++ dktX6_count_2
def dkwX6_count_0 : List UInt8 := [42, 3, 181, 0, 18, 27]
abbrev dktX6_count_0 : List UInt8 := dkwX6_count_0 ++ dktX6_count_1
theorem dksX6_count_0 : cX6_count.data.toList.drop 0 = dktX6_count_0 := by decide +kernel
theorem dksX6_count_1 : cX6_count.data.toList.drop 6 = dktX6_count_1 := dk_seg dksX6_count_0 6 rfl rfl
theorem dksX6_count_2 : cX6_count.data.toList.drop 56 = dktX6_count_2 := dk_seg dksX6_count_1 50 rfl rfl
theorem dksX6_count_3 : cX6_count.data.toList.drop 80 = dktX6_count_3 := dk_seg dksX6_count_2 24 rfl rfl
theorem dksX6_count_4 : cX6_count.data.toList.drop 104 = dktX6_count_4 := dk_seg dksX6_count_3 24 rfl rfl
theorem dksX6_count_5 : cX6_count.data.toList.drop 127 = dktX6_count_5 := dk_seg dksX6_count_4 23 rfl rfl
theorem dksX6_count_6 : cX6_count.data.toList.drop 149 = dktX6_count_6 := dk_seg dksX6_count_5 22 rfl rfl
theorem dksX6_count_7 : cX6_count.data.toList.drop 173 = dktX6_count_7 := dk_seg dksX6_count_6 24 rfl rfl
theorem dX6_count_0 : decode cX6_count 0 = .ok (.aload_n 0, 1) := dk_42 (dk_at dksX6_count_0 0 rfl rfl)
theorem dX6_count_1 : decode cX6_count 1 = .ok (.iconst 0, 1) := dk_3 (dk_at dksX6_count_0 1 rfl rfl)
theorem dX6_count_2 : decode cX6_count 2 = .ok (.putfield 18, 3) := dk_181 0 18 (dk_at dksX6_count_0 2 rfl rfl)
theorem dX6_count_5 : decode cX6_count 5 = .ok (.iload_n 1, 1) := dk_27 (dk_at dksX6_count_0 5 rfl rfl)
theorem dX6_count_6 : decode cX6_count 6 = .ok (.tableswitch 176 0 8 #[50, 55, 76, 97, 113, 134, 139, 155, 160], 50) := by decide +kernel
theorem dX6_count_56 : decode cX6_count 56 = .ok (.aload_n 0, 1) := dk_42 (dk_at dksX6_count_2 0 rfl rfl)
theorem dX6_count_57 : decode cX6_count 57 = .ok (.invokevirtual 554, 3) := dk_182 2 42 (dk_at dksX6_count_2 1 rfl rfl)
theorem dX6_count_60 : decode cX6_count 60 = .ok (.ireturn, 1) := dk_172 (dk_at dksX6_count_2 4 rfl rfl)
theorem dX6_count_61 : decode cX6_count 61 = .ok (.aload_n 0, 1) := dk_42 (dk_at dksX6_count_2 5 rfl rfl)
theorem dX6_count_62 : decode cX6_count 62 = .ok (.getfield 163, 3) := dk_180 0 163 (dk_at dksX6_count_2 6 rfl rfl)
theorem dX6_count_65 : decode cX6_count 65 = .ok (.ifCond .ge 7, 3) := dk_156 0 7 (dk_at dksX6_count_2 9 rfl rfl)
theorem dX6_count_68 : decode cX6_count 68 = .ok (.iconst 0, 1) := dk_3 (dk_at dksX6_count_2 12 rfl rfl)
theorem dX6_count_69 : decode cX6_count 69 = .ok (.goto 12, 3) := dk_167 0 12 (dk_at dksX6_count_2 13 rfl rfl)
theorem dX6_count_72 : decode cX6_count 72 = .ok (.aload_n 0, 1) := dk_42 (dk_at dksX6_count_2 16 rfl rfl)
theorem dX6_count_73 : decode cX6_count 73 = .ok (.getfield 53, 3) := dk_180 0 53 (dk_at dksX6_count_2 17 rfl rfl)
theorem dX6_count_76 : decode cX6_count 76 = .ok (.aload_n 0, 1) := dk_42 (dk_at dksX6_count_2 20 rfl rfl)
theorem dX6_count_77 : decode cX6_count 77 = .ok (.getfield 163, 3) := dk_180 0 163 (dk_at dksX6_count_2 21 rfl rfl)
theorem dX6_count_80 : decode cX6_count 80 = .ok (.iaload, 1) := dk_46 (dk_at dksX6_count_3 0 rfl rfl)
theorem dX6_count_81 : decode cX6_count 81 = .ok (.ireturn, 1) := dk_172 (dk_at dksX6_count_3 1 rfl rfl)
theorem dX6_count_82 : decode cX6_count 82 = .ok (.aload_n 0, 1) := dk_42 (dk_at dksX6_count_3 2 rfl rfl)
theorem dX6_count_83 : decode cX6_count 83 = .ok (.getfield 163, 3) := dk_180 0 163 (dk_at dksX6_count_3 3 rfl rfl)
theorem dX6_count_86 : decode cX6_count 86 = .ok (.ifCond .ge 7, 3) := dk_156 0 7 (dk_at dksX6_count_3 6 rfl rfl)
theorem dX6_count_89 : decode cX6_count 89 = .ok (.iconst 0, 1) := dk_3 (dk_at dksX6_count_3 9 rfl rfl)
theorem dX6_count_90 : decode cX6_count 90 = .ok (.goto 12, 3) := dk_167 0 12 (dk_at dksX6_count_3 10 rfl rfl)
theorem dX6_count_93 : decode cX6_count 93 = .ok (.aload_n 0, 1) := dk_42 (dk_at dksX6_count_3 13 rfl rfl)
theorem dX6_count_94 : decode cX6_count 94 = .ok (.getfield 56, 3) := dk_180 0 56 (dk_at dksX6_count_3 14 rfl rfl)
theorem dX6_count_97 : decode cX6_count 97 = .ok (.aload_n 0, 1) := dk_42 (dk_at dksX6_count_3 17 rfl rfl)
theorem dX6_count_98 : decode cX6_count 98 = .ok (.getfield 163, 3) := dk_180 0 163 (dk_at dksX6_count_3 18 rfl rfl)
theorem dX6_count_101 : decode cX6_count 101 = .ok (.iaload, 1) := dk_46 (dk_at dksX6_count_3 21 rfl rfl)
theorem dX6_count_102 : decode cX6_count 102 = .ok (.ireturn, 1) := dk_172 (dk_at dksX6_count_3 22 rfl rfl)
theorem dX6_count_103 : decode cX6_count 103 = .ok (.aload_n 0, 1) := dk_42 (dk_at dksX6_count_3 23 rfl rfl)
theorem dX6_count_104 : decode cX6_count 104 = .ok (.getfield 163, 3) := dk_180 0 163 (dk_at dksX6_count_4 0 rfl rfl)
theorem dX6_count_107 : decode cX6_count 107 = .ok (.ifCond .ge 7, 3) := dk_156 0 7 (dk_at dksX6_count_4 3 rfl rfl)
theorem dX6_count_110 : decode cX6_count 110 = .ok (.iconst 0, 1) := dk_3 (dk_at dksX6_count_4 6 rfl rfl)
theorem dX6_count_111 : decode cX6_count 111 = .ok (.goto 7, 3) := dk_167 0 7 (dk_at dksX6_count_4 7 rfl rfl)
theorem dX6_count_114 : decode cX6_count 114 = .ok (.aload_n 0, 1) := dk_42 (dk_at dksX6_count_4 10 rfl rfl)
theorem dX6_count_115 : decode cX6_count 115 = .ok (.getfield 169, 3) := dk_180 0 169 (dk_at dksX6_count_4 11 rfl rfl)
theorem dX6_count_118 : decode cX6_count 118 = .ok (.ireturn, 1) := dk_172 (dk_at dksX6_count_4 14 rfl rfl)
theorem dX6_count_119 : decode cX6_count 119 = .ok (.aload_n 0, 1) := dk_42 (dk_at dksX6_count_4 15 rfl rfl)
theorem dX6_count_120 : decode cX6_count 120 = .ok (.getfield 163, 3) := dk_180 0 163 (dk_at dksX6_count_4 16 rfl rfl)
theorem dX6_count_123 : decode cX6_count 123 = .ok (.ifCond .ge 7, 3) := dk_156 0 7 (dk_at dksX6_count_4 19 rfl rfl)
theorem dX6_count_126 : decode cX6_count 126 = .ok (.iconst 0, 1) := dk_3 (dk_at dksX6_count_4 22 rfl rfl)
theorem dX6_count_127 : decode cX6_count 127 = .ok (.goto 12, 3) := dk_167 0 12 (dk_at dksX6_count_5 0 rfl rfl)
theorem dX6_count_130 : decode cX6_count 130 = .ok (.aload_n 0, 1) := dk_42 (dk_at dksX6_count_5 3 rfl rfl)
theorem dX6_count_131 : decode cX6_count 131 = .ok (.getfield 160, 3) := dk_180 0 160 (dk_at dksX6_count_5 4 rfl rfl)
theorem dX6_count_134 : decode cX6_count 134 = .ok (.aload_n 0, 1) := dk_42 (dk_at dksX6_count_5 7 rfl rfl)
theorem dX6_count_135 : decode cX6_count 135 = .ok (.getfield 163, 3) := dk_180 0 163 (dk_at dksX6_count_5 8 rfl rfl)
theorem dX6_count_138 : decode cX6_count 138 = .ok (.iaload, 1) := dk_46 (dk_at dksX6_count_5 11 rfl rfl)
theorem dX6_count_139 : decode cX6_count 139 = .ok (.ireturn, 1) := dk_172 (dk_at dksX6_count_5 12 rfl rfl)
theorem dX6_count_140 : decode cX6_count 140 = .ok (.aload_n 0, 1) := dk_42 (dk_at dksX6_count_5 13 rfl rfl)
theorem dX6_count_141 : decode cX6_count 141 = .ok (.getfield 233, 3) := dk_180 0 233 (dk_at dksX6_count_5 14 rfl rfl)
theorem dX6_count_144 : decode cX6_count 144 = .ok (.ireturn, 1) := dk_172 (dk_at dksX6_count_5 17 rfl rfl)
theorem dX6_count_145 : decode cX6_count 145 = .ok (.aload_n 0, 1) := dk_42 (dk_at dksX6_count_5 18 rfl rfl)
theorem dX6_count_146 : decode cX6_count 146 = .ok (.getfield 163, 3) := dk_180 0 163 (dk_at dksX6_count_5 19 rfl rfl)
theorem dX6_count_149 : decode cX6_count 149 = .ok (.ifCond .ge 7, 3) := dk_156 0 7 (dk_at dksX6_count_6 0 rfl rfl)
theorem dX6_count_152 : decode cX6_count 152 = .ok (.iconst 0, 1) := dk_3 (dk_at dksX6_count_6 3 rfl rfl)
theorem dX6_count_153 : decode cX6_count 153 = .ok (.goto 7, 3) := dk_167 0 7 (dk_at dksX6_count_6 4 rfl rfl)
theorem dX6_count_156 : decode cX6_count 156 = .ok (.aload_n 0, 1) := dk_42 (dk_at dksX6_count_6 7 rfl rfl)
theorem dX6_count_157 : decode cX6_count 157 = .ok (.getfield 175, 3) := dk_180 0 175 (dk_at dksX6_count_6 8 rfl rfl)
theorem dX6_count_160 : decode cX6_count 160 = .ok (.ireturn, 1) := dk_172 (dk_at dksX6_count_6 11 rfl rfl)
theorem dX6_count_161 : decode cX6_count 161 = .ok (.aload_n 0, 1) := dk_42 (dk_at dksX6_count_6 12 rfl rfl)
theorem dX6_count_162 : decode cX6_count 162 = .ok (.getfield 14, 3) := dk_180 0 14 (dk_at dksX6_count_6 13 rfl rfl)
theorem dX6_count_165 : decode cX6_count 165 = .ok (.ireturn, 1) := dk_172 (dk_at dksX6_count_6 16 rfl rfl)
theorem dX6_count_166 : decode cX6_count 166 = .ok (.aload_n 0, 1) := dk_42 (dk_at dksX6_count_6 17 rfl rfl)
theorem dX6_count_167 : decode cX6_count 167 = .ok (.getfield 163, 3) := dk_180 0 163 (dk_at dksX6_count_6 18 rfl rfl)
theorem dX6_count_170 : decode cX6_count 170 = .ok (.ifCond .ge 7, 3) := dk_156 0 7 (dk_at dksX6_count_6 21 rfl rfl)
theorem dX6_count_173 : decode cX6_count 173 = .ok (.iconst 0, 1) := dk_3 (dk_at dksX6_count_7 0 rfl rfl)
theorem dX6_count_174 : decode cX6_count 174 = .ok (.goto 7, 3) := dk_167 0 7 (dk_at dksX6_count_7 1 rfl rfl)
theorem dX6_count_177 : decode cX6_count 177 = .ok (.aload_n 0, 1) := dk_42 (dk_at dksX6_count_7 4 rfl rfl)
theorem dX6_count_178 : decode cX6_count 178 = .ok (.getfield 68, 3) := dk_180 0 68 (dk_at dksX6_count_7 5 rfl rfl)
theorem dX6_count_181 : decode cX6_count 181 = .ok (.ireturn, 1) := dk_172 (dk_at dksX6_count_7 8 rfl rfl)
theorem dX6_count_182 : decode cX6_count 182 = .ok (.iconst (-1), 1) := dk_2 (dk_at dksX6_count_7 9 rfl rfl)
theorem dX6_count_183 : decode cX6_count 183 = .ok (.ireturn, 1) := dk_172 (dk_at dksX6_count_7 10 rfl rfl)
theorem q122 : (Jvm.Cond.initialized "StreamNodesModel") ∈ lw_all := lw_g (lw_at lw_m1 14 rfl) rfl
theorem q1037 : (Jvm.Cond.selects "StreamNodesModel" ({ cls := "java/lang/Object", name := "hashCode", desc := "()I" } : Jvm.MethodName) ({ cls := "java/lang/Object", name := "hashCode", desc := "()I" } : Jvm.MethodName)) ∈ lw_all := lw_g (lw_at lw_m4 209 rfl) rfl
theorem q1073 : (Jvm.Cond.selects "StreamNodesModel" ({ cls := "java/lang/Object", name := "equals", desc := "(Ljava/lang/Object;)Z" } : Jvm.MethodName) ({ cls := "java/lang/Object", name := "equals", desc := "(Ljava/lang/Object;)Z" } : Jvm.MethodName)) ∈ lw_all := lw_g (lw_at lw_m5 5 rfl) rfl
theorem q1124 : (Jvm.Cond.selects "StreamNodesModel" ({ cls := "java/lang/Object", name := "getClass", desc := "()Ljava/lang/Class;" } : Jvm.MethodName) ({ cls := "java/lang/Object", name := "getClass", desc := "()Ljava/lang/Class;" } : Jvm.MethodName)) ∈ lw_all := lw_g (lw_at lw_m5 56 rfl) rfl
theorem q2575 : (Jvm.Cond.instantiable "StreamNodesModel" (84 : Nat)) ∈ lw_all := lw_g (lw_at lw_m11 67 rfl) rfl
theorem q2577 : (Jvm.Cond.instanceMethod ({ cls := "StreamNodesModel", name := "<init>", desc := "()V" } : Jvm.MethodName)) ∈ lw_all := lw_g (lw_at lw_m11 69 rfl) rfl
theorem q2578 : (Jvm.Cond.code ({ cls := "StreamNodesModel", name := "<init>", desc := "()V" } : Jvm.MethodName) prog_26_method_1_code (1 : Nat) (Option.none : Option Jvm.ClassFile.FieldType)) ∈ lw_all := lw_g (lw_at lw_m11 70 rfl) rfl
theorem q2579 : (Jvm.Cond.methodLink "StreamNodesModel" (1 : Nat) ({ cls := "java/lang/Object", name := "<init>", desc := "()V" } : Jvm.MethodName)) ∈ lw_all := lw_g (lw_at lw_m11 71 rfl) rfl
theorem q2580 : (Jvm.Cond.constant "StreamNodesModel" (7 : Nat) (65536 : Int32)) ∈ lw_all := lw_g (lw_at lw_m11 72 rfl) rfl
theorem q2581 : (Jvm.Cond.constant "StreamNodesModel" (99 : Nat) (66000 : Int32)) ∈ lw_all := lw_g (lw_at lw_m11 73 rfl) rfl
theorem q2582 : (Jvm.Cond.constant "StreamNodesModel" (214 : Nat) (60000 : Int32)) ∈ lw_all := lw_g (lw_at lw_m11 74 rfl) rfl
theorem q2583 : (Jvm.Cond.fieldLink "StreamNodesModel" (8 : Nat) "StreamNodesModel" "tape" "[B") ∈ lw_all := lw_g (lw_at lw_m11 75 rfl) rfl
theorem q2584 : (Jvm.Cond.fieldLink "StreamNodesModel" (14 : Nat) "StreamNodesModel" "size" "I") ∈ lw_all := lw_g (lw_at lw_m11 76 rfl) rfl
theorem q2585 : (Jvm.Cond.fieldLink "StreamNodesModel" (18 : Nat) "StreamNodesModel" "thrown" "I") ∈ lw_all := lw_g (lw_at lw_m11 77 rfl) rfl
theorem q2586 : (Jvm.Cond.fieldLink "StreamNodesModel" (21 : Nat) "StreamNodesModel" "faultKind" "I") ∈ lw_all := lw_g (lw_at lw_m11 78 rfl) rfl
theorem q2587 : (Jvm.Cond.fieldLink "StreamNodesModel" (24 : Nat) "StreamNodesModel" "faultPlace" "I") ∈ lw_all := lw_g (lw_at lw_m11 79 rfl) rfl
theorem q2588 : (Jvm.Cond.fieldLink "StreamNodesModel" (27 : Nat) "StreamNodesModel" "pos" "I") ∈ lw_all := lw_g (lw_at lw_m11 80 rfl) rfl
theorem q2589 : (Jvm.Cond.fieldLink "StreamNodesModel" (30 : Nat) "StreamNodesModel" "token" "I") ∈ lw_all := lw_g (lw_at lw_m11 81 rfl) rfl
theorem q2590 : (Jvm.Cond.fieldLink "StreamNodesModel" (33 : Nat) "StreamNodesModel" "tokenAt" "I") ∈ lw_all := lw_g (lw_at lw_m11 82 rfl) rfl
theorem q2591 : (Jvm.Cond.fieldLink "StreamNodesModel" (36 : Nat) "StreamNodesModel" "tokenEnd" "I") ∈ lw_all := lw_g (lw_at lw_m11 83 rfl) rfl
theorem q2592 : (Jvm.Cond.fieldLink "StreamNodesModel" (39 : Nat) "StreamNodesModel" "seen" "Z") ∈ lw_all := lw_g (lw_at lw_m11 84 rfl) rfl
theorem q2593 : (Jvm.Cond.fieldLink "StreamNodesModel" (43 : Nat) "StreamNodesModel" "nodeAt" "[I") ∈ lw_all := lw_g (lw_at lw_m11 85 rfl) rfl
theorem q2594 : (Jvm.Cond.fieldLink "StreamNodesModel" (47 : Nat) "StreamNodesModel" "nodeSize" "[I") ∈ lw_all := lw_g (lw_at lw_m11 86 rfl) rfl
theorem q2595 : (Jvm.Cond.fieldLink "StreamNodesModel" (50 : Nat) "StreamNodesModel" "variableFrom" "[I") ∈ lw_all := lw_g (lw_at lw_m11 87 rfl) rfl
theorem q2596 : (Jvm.Cond.fieldLink "StreamNodesModel" (53 : Nat) "StreamNodesModel" "inputCount" "[I") ∈ lw_all := lw_g (lw_at lw_m11 88 rfl) rfl
theorem q2597 : (Jvm.Cond.fieldLink "StreamNodesModel" (56 : Nat) "StreamNodesModel" "outputCount" "[I") ∈ lw_all := lw_g (lw_at lw_m11 89 rfl) rfl
theorem q2598 : (Jvm.Cond.fieldLink "StreamNodesModel" (59 : Nat) "StreamNodesModel" "equationFrom" "[I") ∈ lw_all := lw_g (lw_at lw_m11 90 rfl) rfl
theorem q2599 : (Jvm.Cond.fieldLink "StreamNodesModel" (62 : Nat) "StreamNodesModel" "callCount" "[I") ∈ lw_all := lw_g (lw_at lw_m11 91 rfl) rfl
theorem q2600 : (Jvm.Cond.fieldLink "StreamNodesModel" (65 : Nat) "StreamNodesModel" "stateCount" "[I") ∈ lw_all := lw_g (lw_at lw_m11 92 rfl) rfl
theorem q2601 : (Jvm.Cond.fieldLink "StreamNodesModel" (68 : Nat) "StreamNodesModel" "nodes" "I") ∈ lw_all := lw_g (lw_at lw_m11 93 rfl) rfl
theorem q2602 : (Jvm.Cond.fieldLink "StreamNodesModel" (71 : Nat) "StreamNodesModel" "variables" "I") ∈ lw_all := lw_g (lw_at lw_m11 94 rfl) rfl
theorem q2603 : (Jvm.Cond.fieldLink "StreamNodesModel" (74 : Nat) "StreamNodesModel" "wordAt" "[I") ∈ lw_all := lw_g (lw_at lw_m11 95 rfl) rfl
theorem q2604 : (Jvm.Cond.fieldLink "StreamNodesModel" (77 : Nat) "StreamNodesModel" "wordSize" "[I") ∈ lw_all := lw_g (lw_at lw_m11 96 rfl) rfl
theorem q2605 : (Jvm.Cond.fieldLink "StreamNodesModel" (80 : Nat) "StreamNodesModel" "clockOf" "[I") ∈ lw_all := lw_g (lw_at lw_m11 97 rfl) rfl
theorem q2606 : (Jvm.Cond.fieldLink "StreamNodesModel" (83 : Nat) "StreamNodesModel" "given" "[I") ∈ lw_all := lw_g (lw_at lw_m11 98 rfl) rfl
theorem q2607 : (Jvm.Cond.fieldLink "StreamNodesModel" (86 : Nat) "StreamNodesModel" "truth" "[Z") ∈ lw_all := lw_g (lw_at lw_m11 99 rfl) rfl
theorem q2608 : (Jvm.Cond.fieldLink "StreamNodesModel" (90 : Nat) "StreamNodesModel" "placeOf" "[I") ∈ lw_all := lw_g (lw_at lw_m11 100 rfl) rfl
theorem q2609 : (Jvm.Cond.fieldLink "StreamNodesModel" (93 : Nat) "StreamNodesModel" "leftFrom" "[I") ∈ lw_all := lw_g (lw_at lw_m11 101 rfl) rfl
theorem q2610 : (Jvm.Cond.fieldLink "StreamNodesModel" (96 : Nat) "StreamNodesModel" "bodyOf" "[I") ∈ lw_all := lw_g (lw_at lw_m11 102 rfl) rfl
theorem q2611 : (Jvm.Cond.fieldLink "StreamNodesModel" (100 : Nat) "StreamNodesModel" "lefts" "[I") ∈ lw_all := lw_g (lw_at lw_m11 103 rfl) rfl
theorem q2612 : (Jvm.Cond.fieldLink "StreamNodesModel" (103 : Nat) "StreamNodesModel" "fromOf" "[I") ∈ lw_all := lw_g (lw_at lw_m11 104 rfl) rfl
theorem q2613 : (Jvm.Cond.fieldLink "StreamNodesModel" (106 : Nat) "StreamNodesModel" "equations" "I") ∈ lw_all := lw_g (lw_at lw_m11 105 rfl) rfl
theorem q2614 : (Jvm.Cond.fieldLink "StreamNodesModel" (109 : Nat) "StreamNodesModel" "leftCount" "I") ∈ lw_all := lw_g (lw_at lw_m11 106 rfl) rfl
theorem q2615 : (Jvm.Cond.fieldLink "StreamNodesModel" (112 : Nat) "StreamNodesModel" "sort" "[I") ∈ lw_all := lw_g (lw_at lw_m11 107 rfl) rfl
theorem q2616 : (Jvm.Cond.fieldLink "StreamNodesModel" (115 : Nat) "StreamNodesModel" "one" "[I") ∈ lw_all := lw_g (lw_at lw_m11 108 rfl) rfl
theorem q2617 : (Jvm.Cond.fieldLink "StreamNodesModel" (118 : Nat) "StreamNodesModel" "kid" "[I") ∈ lw_all := lw_g (lw_at lw_m11 109 rfl) rfl
theorem q2618 : (Jvm.Cond.fieldLink "StreamNodesModel" (121 : Nat) "StreamNodesModel" "beside" "[I") ∈ lw_all := lw_g (lw_at lw_m11 110 rfl) rfl
theorem q2619 : (Jvm.Cond.fieldLink "StreamNodesModel" (124 : Nat) "StreamNodesModel" "clock" "[I") ∈ lw_all := lw_g (lw_at lw_m11 111 rfl) rfl
theorem q2620 : (Jvm.Cond.fieldLink "StreamNodesModel" (127 : Nat) "StreamNodesModel" "state" "[I") ∈ lw_all := lw_g (lw_at lw_m11 112 rfl) rfl
theorem q2621 : (Jvm.Cond.fieldLink "StreamNodesModel" (130 : Nat) "StreamNodesModel" "price" "[I") ∈ lw_all := lw_g (lw_at lw_m11 113 rfl) rfl
theorem q2622 : (Jvm.Cond.fieldLink "StreamNodesModel" (133 : Nat) "StreamNodesModel" "high" "[I") ∈ lw_all := lw_g (lw_at lw_m11 114 rfl) rfl
theorem q2623 : (Jvm.Cond.fieldLink "StreamNodesModel" (136 : Nat) "StreamNodesModel" "parsed" "I") ∈ lw_all := lw_g (lw_at lw_m11 115 rfl) rfl
theorem q2624 : (Jvm.Cond.fieldLink "StreamNodesModel" (139 : Nat) "StreamNodesModel" "isTruth" "[Z") ∈ lw_all := lw_g (lw_at lw_m11 116 rfl) rfl
theorem q2625 : (Jvm.Cond.fieldLink "StreamNodesModel" (142 : Nat) "StreamNodesModel" "placeNow" "I") ∈ lw_all := lw_g (lw_at lw_m11 117 rfl) rfl
theorem q2626 : (Jvm.Cond.fieldLink "StreamNodesModel" (145 : Nat) "StreamNodesModel" "full" "[I") ∈ lw_all := lw_g (lw_at lw_m11 118 rfl) rfl
theorem q2627 : (Jvm.Cond.fieldLink "StreamNodesModel" (148 : Nat) "StreamNodesModel" "part" "[I") ∈ lw_all := lw_g (lw_at lw_m11 119 rfl) rfl
theorem q2628 : (Jvm.Cond.fieldLink "StreamNodesModel" (151 : Nat) "StreamNodesModel" "low" "[I") ∈ lw_all := lw_g (lw_at lw_m11 120 rfl) rfl
theorem q2629 : (Jvm.Cond.fieldLink "StreamNodesModel" (154 : Nat) "StreamNodesModel" "definedBy" "[I") ∈ lw_all := lw_g (lw_at lw_m11 121 rfl) rfl
theorem q2630 : (Jvm.Cond.fieldLink "StreamNodesModel" (157 : Nat) "StreamNodesModel" "definedAs" "[I") ∈ lw_all := lw_g (lw_at lw_m11 122 rfl) rfl
theorem q2631 : (Jvm.Cond.fieldLink "StreamNodesModel" (160 : Nat) "StreamNodesModel" "partsOf" "[I") ∈ lw_all := lw_g (lw_at lw_m11 123 rfl) rfl
theorem q2632 : (Jvm.Cond.fieldLink "StreamNodesModel" (163 : Nat) "StreamNodesModel" "main" "I") ∈ lw_all := lw_g (lw_at lw_m11 124 rfl) rfl
theorem q2633 : (Jvm.Cond.fieldLink "StreamNodesModel" (166 : Nat) "StreamNodesModel" "instances" "I") ∈ lw_all := lw_g (lw_at lw_m11 125 rfl) rfl
theorem q2634 : (Jvm.Cond.fieldLink "StreamNodesModel" (169 : Nat) "StreamNodesModel" "all" "I") ∈ lw_all := lw_g (lw_at lw_m11 126 rfl) rfl
theorem q2635 : (Jvm.Cond.fieldLink "StreamNodesModel" (172 : Nat) "StreamNodesModel" "states" "I") ∈ lw_all := lw_g (lw_at lw_m11 127 rfl) rfl
theorem q2636 : (Jvm.Cond.fieldLink "StreamNodesModel" (175 : Nat) "StreamNodesModel" "memories" "I") ∈ lw_all := lw_g (lw_at lw_m11 128 rfl) rfl
theorem q2637 : (Jvm.Cond.fieldLink "StreamNodesModel" (178 : Nat) "StreamNodesModel" "calls" "I") ∈ lw_all := lw_g (lw_at lw_m11 129 rfl) rfl
theorem q2638 : (Jvm.Cond.fieldLink "StreamNodesModel" (181 : Nat) "StreamNodesModel" "allParts" "I") ∈ lw_all := lw_g (lw_at lw_m11 130 rfl) rfl
theorem q2639 : (Jvm.Cond.fieldLink "StreamNodesModel" (184 : Nat) "StreamNodesModel" "nodeOf" "[I") ∈ lw_all := lw_g (lw_at lw_m11 131 rfl) rfl
theorem q2640 : (Jvm.Cond.fieldLink "StreamNodesModel" (187 : Nat) "StreamNodesModel" "outer" "[I") ∈ lw_all := lw_g (lw_at lw_m11 132 rfl) rfl
theorem q2641 : (Jvm.Cond.fieldLink "StreamNodesModel" (190 : Nat) "StreamNodesModel" "callOf" "[I") ∈ lw_all := lw_g (lw_at lw_m11 133 rfl) rfl
theorem q2642 : (Jvm.Cond.fieldLink "StreamNodesModel" (193 : Nat) "StreamNodesModel" "base" "[I") ∈ lw_all := lw_g (lw_at lw_m11 134 rfl) rfl
theorem q2643 : (Jvm.Cond.fieldLink "StreamNodesModel" (196 : Nat) "StreamNodesModel" "statesFrom" "[I") ∈ lw_all := lw_g (lw_at lw_m11 135 rfl) rfl
theorem q2644 : (Jvm.Cond.fieldLink "StreamNodesModel" (199 : Nat) "StreamNodesModel" "callsFrom" "[I") ∈ lw_all := lw_g (lw_at lw_m11 136 rfl) rfl
theorem q2645 : (Jvm.Cond.fieldLink "StreamNodesModel" (202 : Nat) "StreamNodesModel" "childOf" "[I") ∈ lw_all := lw_g (lw_at lw_m11 137 rfl) rfl
theorem q2646 : (Jvm.Cond.fieldLink "StreamNodesModel" (205 : Nat) "StreamNodesModel" "instanceOf" "[I") ∈ lw_all := lw_g (lw_at lw_m11 138 rfl) rfl
theorem q2647 : (Jvm.Cond.fieldLink "StreamNodesModel" (208 : Nat) "StreamNodesModel" "localOf" "[I") ∈ lw_all := lw_g (lw_at lw_m11 139 rfl) rfl
theorem q2648 : (Jvm.Cond.fieldLink "StreamNodesModel" (211 : Nat) "StreamNodesModel" "causeFrom" "[I") ∈ lw_all := lw_g (lw_at lw_m11 140 rfl) rfl
theorem q2649 : (Jvm.Cond.fieldLink "StreamNodesModel" (215 : Nat) "StreamNodesModel" "causeOf" "[I") ∈ lw_all := lw_g (lw_at lw_m11 141 rfl) rfl
theorem q2650 : (Jvm.Cond.fieldLink "StreamNodesModel" (218 : Nat) "StreamNodesModel" "causesTotal" "I") ∈ lw_all := lw_g (lw_at lw_m11 142 rfl) rfl
theorem q2651 : (Jvm.Cond.fieldLink "StreamNodesModel" (221 : Nat) "StreamNodesModel" "reached" "[Z") ∈ lw_all := lw_g (lw_at lw_m11 143 rfl) rfl
theorem q2652 : (Jvm.Cond.fieldLink "StreamNodesModel" (224 : Nat) "StreamNodesModel" "todo" "[I") ∈ lw_all := lw_g (lw_at lw_m11 144 rfl) rfl
theorem q2653 : (Jvm.Cond.fieldLink "StreamNodesModel" (227 : Nat) "StreamNodesModel" "order" "[I") ∈ lw_all := lw_g (lw_at lw_m11 145 rfl) rfl
theorem q2654 : (Jvm.Cond.fieldLink "StreamNodesModel" (230 : Nat) "StreamNodesModel" "undone" "[Z") ∈ lw_all := lw_g (lw_at lw_m11 146 rfl) rfl
theorem q2655 : (Jvm.Cond.fieldLink "StreamNodesModel" (233 : Nat) "StreamNodesModel" "instants" "I") ∈ lw_all := lw_g (lw_at lw_m11 147 rfl) rfl
theorem q2656 : (Jvm.Cond.fieldLink "StreamNodesModel" (236 : Nat) "StreamNodesModel" "inputs" "[I") ∈ lw_all := lw_g (lw_at lw_m11 148 rfl) rfl
theorem q2657 : (Jvm.Cond.fieldLink "StreamNodesModel" (239 : Nat) "StreamNodesModel" "value" "[I") ∈ lw_all := lw_g (lw_at lw_m11 149 rfl) rfl
theorem q2658 : (Jvm.Cond.fieldLink "StreamNodesModel" (242 : Nat) "StreamNodesModel" "memory" "[I") ∈ lw_all := lw_g (lw_at lw_m11 150 rfl) rfl
theorem q2659 : (Jvm.Cond.fieldLink "StreamNodesModel" (245 : Nat) "StreamNodesModel" "later" "[I") ∈ lw_all := lw_g (lw_at lw_m11 151 rfl) rfl
theorem q2660 : (Jvm.Cond.fieldLink "StreamNodesModel" (248 : Nat) "StreamNodesModel" "worth" "[I") ∈ lw_all := lw_g (lw_at lw_m11 152 rfl) rfl
theorem q2661 : (Jvm.Cond.fieldLink "StreamNodesModel" (251 : Nat) "StreamNodesModel" "here" "[Z") ∈ lw_all := lw_g (lw_at lw_m11 153 rfl) rfl
theorem q2662 : (Jvm.Cond.fieldLink "StreamNodesModel" (254 : Nat) "StreamNodesModel" "keptMemory" "[I") ∈ lw_all := lw_g (lw_at lw_m11 154 rfl) rfl
theorem q2663 : (Jvm.Cond.fieldLink "StreamNodesModel" (257 : Nat) "StreamNodesModel" "keptValue" "[I") ∈ lw_all := lw_g (lw_at lw_m11 155 rfl) rfl
theorem q2664 : (Jvm.Cond.fieldLink "StreamNodesModel" (260 : Nat) "StreamNodesModel" "keptHere" "[Z") ∈ lw_all := lw_g (lw_at lw_m11 156 rfl) rfl
theorem q2665 : (Jvm.Cond.fieldLink "StreamNodesModel" (263 : Nat) "StreamNodesModel" "keptInstants" "I") ∈ lw_all := lw_g (lw_at lw_m11 157 rfl) rfl
theorem q2666 : (Jvm.Cond.fieldLink "StreamNodesModel" (266 : Nat) "StreamNodesModel" "isKept" "Z") ∈ lw_all := lw_g (lw_at lw_m11 158 rfl) rfl
theorem q2667 : (Jvm.Cond.laysFinal "StreamNodesModel" "StreamNodesModel" "tape" "[B") ∈ lw_all := lw_g (lw_at lw_m11 159 rfl) rfl
theorem q2668 : (Jvm.Cond.soleField "StreamNodesModel" "tape") ∈ lw_all := lw_g (lw_at lw_m11 160 rfl) rfl
theorem q2669 : (Jvm.Cond.lays "StreamNodesModel" "StreamNodesModel" "size" "I") ∈ lw_all := lw_g (lw_at lw_m11 161 rfl) rfl
theorem q2670 : (Jvm.Cond.soleField "StreamNodesModel" "size") ∈ lw_all := lw_g (lw_at lw_m11 162 rfl) rfl
theorem q2671 : (Jvm.Cond.lays "StreamNodesModel" "StreamNodesModel" "thrown" "I") ∈ lw_all := lw_g (lw_at lw_m11 163 rfl) rfl
theorem q2672 : (Jvm.Cond.soleField "StreamNodesModel" "thrown") ∈ lw_all := lw_g (lw_at lw_m11 164 rfl) rfl
theorem q2673 : (Jvm.Cond.lays "StreamNodesModel" "StreamNodesModel" "faultKind" "I") ∈ lw_all := lw_g (lw_at lw_m11 165 rfl) rfl
theorem q2674 : (Jvm.Cond.soleField "StreamNodesModel" "faultKind") ∈ lw_all := lw_g (lw_at lw_m11 166 rfl) rfl
theorem q2675 : (Jvm.Cond.lays "StreamNodesModel" "StreamNodesModel" "faultPlace" "I") ∈ lw_all := lw_g (lw_at lw_m11 167 rfl) rfl
theorem q2676 : (Jvm.Cond.soleField "StreamNodesModel" "faultPlace") ∈ lw_all := lw_g (lw_at lw_m11 168 rfl) rfl
theorem q2677 : (Jvm.Cond.lays "StreamNodesModel" "StreamNodesModel" "pos" "I") ∈ lw_all := lw_g (lw_at lw_m11 169 rfl) rfl
theorem q2678 : (Jvm.Cond.soleField "StreamNodesModel" "pos") ∈ lw_all := lw_g (lw_at lw_m11 170 rfl) rfl
theorem q2679 : (Jvm.Cond.lays "StreamNodesModel" "StreamNodesModel" "token" "I") ∈ lw_all := lw_g (lw_at lw_m11 171 rfl) rfl
theorem q2680 : (Jvm.Cond.soleField "StreamNodesModel" "token") ∈ lw_all := lw_g (lw_at lw_m11 172 rfl) rfl
theorem q2681 : (Jvm.Cond.lays "StreamNodesModel" "StreamNodesModel" "tokenAt" "I") ∈ lw_all := lw_g (lw_at lw_m11 173 rfl) rfl
theorem q2682 : (Jvm.Cond.soleField "StreamNodesModel" "tokenAt") ∈ lw_all := lw_g (lw_at lw_m11 174 rfl) rfl
theorem q2683 : (Jvm.Cond.lays "StreamNodesModel" "StreamNodesModel" "tokenEnd" "I") ∈ lw_all := lw_g (lw_at lw_m11 175 rfl) rfl
theorem q2684 : (Jvm.Cond.soleField "StreamNodesModel" "tokenEnd") ∈ lw_all := lw_g (lw_at lw_m11 176 rfl) rfl
theorem q2685 : (Jvm.Cond.lays "StreamNodesModel" "StreamNodesModel" "seen" "Z") ∈ lw_all := lw_g (lw_at lw_m11 177 rfl) rfl
theorem q2686 : (Jvm.Cond.soleField "StreamNodesModel" "seen") ∈ lw_all := lw_g (lw_at lw_m11 178 rfl) rfl
theorem q2687 : (Jvm.Cond.laysFinal "StreamNodesModel" "StreamNodesModel" "nodeAt" "[I") ∈ lw_all := lw_g (lw_at lw_m11 179 rfl) rfl
theorem q2688 : (Jvm.Cond.soleField "StreamNodesModel" "nodeAt") ∈ lw_all := lw_g (lw_at lw_m11 180 rfl) rfl
theorem q2689 : (Jvm.Cond.laysFinal "StreamNodesModel" "StreamNodesModel" "nodeSize" "[I") ∈ lw_all := lw_g (lw_at lw_m11 181 rfl) rfl
theorem q2690 : (Jvm.Cond.soleField "StreamNodesModel" "nodeSize") ∈ lw_all := lw_g (lw_at lw_m11 182 rfl) rfl
theorem q2691 : (Jvm.Cond.laysFinal "StreamNodesModel" "StreamNodesModel" "variableFrom" "[I") ∈ lw_all := lw_g (lw_at lw_m11 183 rfl) rfl
theorem q2692 : (Jvm.Cond.soleField "StreamNodesModel" "variableFrom") ∈ lw_all := lw_g (lw_at lw_m11 184 rfl) rfl
theorem q2693 : (Jvm.Cond.laysFinal "StreamNodesModel" "StreamNodesModel" "inputCount" "[I") ∈ lw_all := lw_g (lw_at lw_m11 185 rfl) rfl
theorem q2694 : (Jvm.Cond.soleField "StreamNodesModel" "inputCount") ∈ lw_all := lw_g (lw_at lw_m11 186 rfl) rfl
theorem q2695 : (Jvm.Cond.laysFinal "StreamNodesModel" "StreamNodesModel" "outputCount" "[I") ∈ lw_all := lw_g (lw_at lw_m11 187 rfl) rfl
theorem q2696 : (Jvm.Cond.soleField "StreamNodesModel" "outputCount") ∈ lw_all := lw_g (lw_at lw_m11 188 rfl) rfl
theorem q2697 : (Jvm.Cond.laysFinal "StreamNodesModel" "StreamNodesModel" "equationFrom" "[I") ∈ lw_all := lw_g (lw_at lw_m11 189 rfl) rfl
theorem q2698 : (Jvm.Cond.soleField "StreamNodesModel" "equationFrom") ∈ lw_all := lw_g (lw_at lw_m11 190 rfl) rfl
theorem q2699 : (Jvm.Cond.laysFinal "StreamNodesModel" "StreamNodesModel" "callCount" "[I") ∈ lw_all := lw_g (lw_at lw_m11 191 rfl) rfl
theorem q2700 : (Jvm.Cond.soleField "StreamNodesModel" "callCount") ∈ lw_all := lw_g (lw_at lw_m11 192 rfl) rfl
theorem q2701 : (Jvm.Cond.laysFinal "StreamNodesModel" "StreamNodesModel" "stateCount" "[I") ∈ lw_all := lw_g (lw_at lw_m11 193 rfl) rfl
theorem q2702 : (Jvm.Cond.soleField "StreamNodesModel" "stateCount") ∈ lw_all := lw_g (lw_at lw_m11 194 rfl) rfl
theorem q2703 : (Jvm.Cond.lays "StreamNodesModel" "StreamNodesModel" "nodes" "I") ∈ lw_all := lw_g (lw_at lw_m11 195 rfl) rfl
theorem q2704 : (Jvm.Cond.soleField "StreamNodesModel" "nodes") ∈ lw_all := lw_g (lw_at lw_m11 196 rfl) rfl
theorem q2705 : (Jvm.Cond.lays "StreamNodesModel" "StreamNodesModel" "variables" "I") ∈ lw_all := lw_g (lw_at lw_m11 197 rfl) rfl
theorem q2706 : (Jvm.Cond.soleField "StreamNodesModel" "variables") ∈ lw_all := lw_g (lw_at lw_m11 198 rfl) rfl
theorem q2707 : (Jvm.Cond.laysFinal "StreamNodesModel" "StreamNodesModel" "wordAt" "[I") ∈ lw_all := lw_g (lw_at lw_m11 199 rfl) rfl
theorem q2708 : (Jvm.Cond.soleField "StreamNodesModel" "wordAt") ∈ lw_all := lw_g (lw_at lw_m11 200 rfl) rfl
theorem q2709 : (Jvm.Cond.laysFinal "StreamNodesModel" "StreamNodesModel" "wordSize" "[I") ∈ lw_all := lw_g (lw_at lw_m11 201 rfl) rfl
theorem q2710 : (Jvm.Cond.soleField "StreamNodesModel" "wordSize") ∈ lw_all := lw_g (lw_at lw_m11 202 rfl) rfl
theorem q2711 : (Jvm.Cond.laysFinal "StreamNodesModel" "StreamNodesModel" "clockOf" "[I") ∈ lw_all := lw_g (lw_at lw_m11 203 rfl) rfl
theorem q2712 : (Jvm.Cond.soleField "StreamNodesModel" "clockOf") ∈ lw_all := lw_g (lw_at lw_m11 204 rfl) rfl
theorem q2713 : (Jvm.Cond.laysFinal "StreamNodesModel" "StreamNodesModel" "given" "[I") ∈ lw_all := lw_g (lw_at lw_m11 205 rfl) rfl
theorem q2714 : (Jvm.Cond.soleField "StreamNodesModel" "given") ∈ lw_all := lw_g (lw_at lw_m11 206 rfl) rfl
theorem q2715 : (Jvm.Cond.laysFinal "StreamNodesModel" "StreamNodesModel" "truth" "[Z") ∈ lw_all := lw_g (lw_at lw_m11 207 rfl) rfl
theorem q2716 : (Jvm.Cond.soleField "StreamNodesModel" "truth") ∈ lw_all := lw_g (lw_at lw_m11 208 rfl) rfl
theorem q2717 : (Jvm.Cond.laysFinal "StreamNodesModel" "StreamNodesModel" "placeOf" "[I") ∈ lw_all := lw_g (lw_at lw_m11 209 rfl) rfl
theorem q2718 : (Jvm.Cond.soleField "StreamNodesModel" "placeOf") ∈ lw_all := lw_g (lw_at lw_m11 210 rfl) rfl
theorem q2719 : (Jvm.Cond.laysFinal "StreamNodesModel" "StreamNodesModel" "leftFrom" "[I") ∈ lw_all := lw_g (lw_at lw_m11 211 rfl) rfl
theorem q2720 : (Jvm.Cond.soleField "StreamNodesModel" "leftFrom") ∈ lw_all := lw_g (lw_at lw_m11 212 rfl) rfl
theorem q2721 : (Jvm.Cond.laysFinal "StreamNodesModel" "StreamNodesModel" "bodyOf" "[I") ∈ lw_all := lw_g (lw_at lw_m11 213 rfl) rfl
theorem q2722 : (Jvm.Cond.soleField "StreamNodesModel" "bodyOf") ∈ lw_all := lw_g (lw_at lw_m11 214 rfl) rfl
theorem q2723 : (Jvm.Cond.laysFinal "StreamNodesModel" "StreamNodesModel" "lefts" "[I") ∈ lw_all := lw_g (lw_at lw_m11 215 rfl) rfl
theorem q2724 : (Jvm.Cond.soleField "StreamNodesModel" "lefts") ∈ lw_all := lw_g (lw_at lw_m11 216 rfl) rfl
theorem q2725 : (Jvm.Cond.laysFinal "StreamNodesModel" "StreamNodesModel" "fromOf" "[I") ∈ lw_all := lw_g (lw_at lw_m11 217 rfl) rfl
theorem q2726 : (Jvm.Cond.soleField "StreamNodesModel" "fromOf") ∈ lw_all := lw_g (lw_at lw_m11 218 rfl) rfl
theorem q2727 : (Jvm.Cond.lays "StreamNodesModel" "StreamNodesModel" "equations" "I") ∈ lw_all := lw_g (lw_at lw_m11 219 rfl) rfl
theorem q2728 : (Jvm.Cond.soleField "StreamNodesModel" "equations") ∈ lw_all := lw_g (lw_at lw_m11 220 rfl) rfl
theorem q2729 : (Jvm.Cond.lays "StreamNodesModel" "StreamNodesModel" "leftCount" "I") ∈ lw_all := lw_g (lw_at lw_m11 221 rfl) rfl
theorem q2730 : (Jvm.Cond.soleField "StreamNodesModel" "leftCount") ∈ lw_all := lw_g (lw_at lw_m11 222 rfl) rfl
theorem q2731 : (Jvm.Cond.laysFinal "StreamNodesModel" "StreamNodesModel" "sort" "[I") ∈ lw_all := lw_g (lw_at lw_m11 223 rfl) rfl
theorem q2732 : (Jvm.Cond.soleField "StreamNodesModel" "sort") ∈ lw_all := lw_g (lw_at lw_m11 224 rfl) rfl
theorem q2733 : (Jvm.Cond.laysFinal "StreamNodesModel" "StreamNodesModel" "one" "[I") ∈ lw_all := lw_g (lw_at lw_m11 225 rfl) rfl
theorem q2734 : (Jvm.Cond.soleField "StreamNodesModel" "one") ∈ lw_all := lw_g (lw_at lw_m11 226 rfl) rfl
theorem q2735 : (Jvm.Cond.laysFinal "StreamNodesModel" "StreamNodesModel" "kid" "[I") ∈ lw_all := lw_g (lw_at lw_m11 227 rfl) rfl
theorem q2736 : (Jvm.Cond.soleField "StreamNodesModel" "kid") ∈ lw_all := lw_g (lw_at lw_m11 228 rfl) rfl
theorem q2737 : (Jvm.Cond.laysFinal "StreamNodesModel" "StreamNodesModel" "beside" "[I") ∈ lw_all := lw_g (lw_at lw_m11 229 rfl) rfl
theorem q2738 : (Jvm.Cond.soleField "StreamNodesModel" "beside") ∈ lw_all := lw_g (lw_at lw_m11 230 rfl) rfl
theorem q2739 : (Jvm.Cond.laysFinal "StreamNodesModel" "StreamNodesModel" "clock" "[I") ∈ lw_all := lw_g (lw_at lw_m11 231 rfl) rfl
theorem q2740 : (Jvm.Cond.soleField "StreamNodesModel" "clock") ∈ lw_all := lw_g (lw_at lw_m11 232 rfl) rfl
theorem q2741 : (Jvm.Cond.laysFinal "StreamNodesModel" "StreamNodesModel" "state" "[I") ∈ lw_all := lw_g (lw_at lw_m11 233 rfl) rfl
theorem q2742 : (Jvm.Cond.soleField "StreamNodesModel" "state") ∈ lw_all := lw_g (lw_at lw_m11 234 rfl) rfl
theorem q2743 : (Jvm.Cond.laysFinal "StreamNodesModel" "StreamNodesModel" "price" "[I") ∈ lw_all := lw_g (lw_at lw_m11 235 rfl) rfl
theorem q2744 : (Jvm.Cond.soleField "StreamNodesModel" "price") ∈ lw_all := lw_g (lw_at lw_m11 236 rfl) rfl
theorem q2745 : (Jvm.Cond.laysFinal "StreamNodesModel" "StreamNodesModel" "high" "[I") ∈ lw_all := lw_g (lw_at lw_m11 237 rfl) rfl
theorem q2746 : (Jvm.Cond.soleField "StreamNodesModel" "high") ∈ lw_all := lw_g (lw_at lw_m11 238 rfl) rfl
theorem q2747 : (Jvm.Cond.lays "StreamNodesModel" "StreamNodesModel" "parsed" "I") ∈ lw_all := lw_g (lw_at lw_m11 239 rfl) rfl
theorem q2748 : (Jvm.Cond.soleField "StreamNodesModel" "parsed") ∈ lw_all := lw_g (lw_at lw_m12 0 rfl) rfl
theorem q2749 : (Jvm.Cond.laysFinal "StreamNodesModel" "StreamNodesModel" "isTruth" "[Z") ∈ lw_all := lw_g (lw_at lw_m12 1 rfl) rfl
theorem q2750 : (Jvm.Cond.soleField "StreamNodesModel" "isTruth") ∈ lw_all := lw_g (lw_at lw_m12 2 rfl) rfl
theorem q2751 : (Jvm.Cond.lays "StreamNodesModel" "StreamNodesModel" "placeNow" "I") ∈ lw_all := lw_g (lw_at lw_m12 3 rfl) rfl
theorem q2752 : (Jvm.Cond.soleField "StreamNodesModel" "placeNow") ∈ lw_all := lw_g (lw_at lw_m12 4 rfl) rfl
theorem q2753 : (Jvm.Cond.laysFinal "StreamNodesModel" "StreamNodesModel" "full" "[I") ∈ lw_all := lw_g (lw_at lw_m12 5 rfl) rfl
theorem q2754 : (Jvm.Cond.soleField "StreamNodesModel" "full") ∈ lw_all := lw_g (lw_at lw_m12 6 rfl) rfl
theorem q2755 : (Jvm.Cond.laysFinal "StreamNodesModel" "StreamNodesModel" "part" "[I") ∈ lw_all := lw_g (lw_at lw_m12 7 rfl) rfl
theorem q2756 : (Jvm.Cond.soleField "StreamNodesModel" "part") ∈ lw_all := lw_g (lw_at lw_m12 8 rfl) rfl
theorem q2757 : (Jvm.Cond.laysFinal "StreamNodesModel" "StreamNodesModel" "low" "[I") ∈ lw_all := lw_g (lw_at lw_m12 9 rfl) rfl
theorem q2758 : (Jvm.Cond.soleField "StreamNodesModel" "low") ∈ lw_all := lw_g (lw_at lw_m12 10 rfl) rfl
theorem q2759 : (Jvm.Cond.laysFinal "StreamNodesModel" "StreamNodesModel" "definedBy" "[I") ∈ lw_all := lw_g (lw_at lw_m12 11 rfl) rfl
theorem q2760 : (Jvm.Cond.soleField "StreamNodesModel" "definedBy") ∈ lw_all := lw_g (lw_at lw_m12 12 rfl) rfl
theorem q2761 : (Jvm.Cond.laysFinal "StreamNodesModel" "StreamNodesModel" "definedAs" "[I") ∈ lw_all := lw_g (lw_at lw_m12 13 rfl) rfl
theorem q2762 : (Jvm.Cond.soleField "StreamNodesModel" "definedAs") ∈ lw_all := lw_g (lw_at lw_m12 14 rfl) rfl
theorem q2763 : (Jvm.Cond.laysFinal "StreamNodesModel" "StreamNodesModel" "partsOf" "[I") ∈ lw_all := lw_g (lw_at lw_m12 15 rfl) rfl
theorem q2764 : (Jvm.Cond.soleField "StreamNodesModel" "partsOf") ∈ lw_all := lw_g (lw_at lw_m12 16 rfl) rfl
theorem q2765 : (Jvm.Cond.lays "StreamNodesModel" "StreamNodesModel" "main" "I") ∈ lw_all := lw_g (lw_at lw_m12 17 rfl) rfl
theorem q2766 : (Jvm.Cond.soleField "StreamNodesModel" "main") ∈ lw_all := lw_g (lw_at lw_m12 18 rfl) rfl
theorem q2767 : (Jvm.Cond.lays "StreamNodesModel" "StreamNodesModel" "instances" "I") ∈ lw_all := lw_g (lw_at lw_m12 19 rfl) rfl
theorem q2768 : (Jvm.Cond.soleField "StreamNodesModel" "instances") ∈ lw_all := lw_g (lw_at lw_m12 20 rfl) rfl
theorem q2769 : (Jvm.Cond.lays "StreamNodesModel" "StreamNodesModel" "all" "I") ∈ lw_all := lw_g (lw_at lw_m12 21 rfl) rfl
theorem q2770 : (Jvm.Cond.soleField "StreamNodesModel" "all") ∈ lw_all := lw_g (lw_at lw_m12 22 rfl) rfl
theorem q2771 : (Jvm.Cond.lays "StreamNodesModel" "StreamNodesModel" "states" "I") ∈ lw_all := lw_g (lw_at lw_m12 23 rfl) rfl
theorem q2772 : (Jvm.Cond.soleField "StreamNodesModel" "states") ∈ lw_all := lw_g (lw_at lw_m12 24 rfl) rfl
theorem q2773 : (Jvm.Cond.lays "StreamNodesModel" "StreamNodesModel" "memories" "I") ∈ lw_all := lw_g (lw_at lw_m12 25 rfl) rfl
theorem q2774 : (Jvm.Cond.soleField "StreamNodesModel" "memories") ∈ lw_all := lw_g (lw_at lw_m12 26 rfl) rfl
theorem q2775 : (Jvm.Cond.lays "StreamNodesModel" "StreamNodesModel" "calls" "I") ∈ lw_all := lw_g (lw_at lw_m12 27 rfl) rfl
theorem q2776 : (Jvm.Cond.soleField "StreamNodesModel" "calls") ∈ lw_all := lw_g (lw_at lw_m12 28 rfl) rfl
theorem q2777 : (Jvm.Cond.lays "StreamNodesModel" "StreamNodesModel" "allParts" "I") ∈ lw_all := lw_g (lw_at lw_m12 29 rfl) rfl
theorem q2778 : (Jvm.Cond.soleField "StreamNodesModel" "allParts") ∈ lw_all := lw_g (lw_at lw_m12 30 rfl) rfl
theorem q2779 : (Jvm.Cond.laysFinal "StreamNodesModel" "StreamNodesModel" "nodeOf" "[I") ∈ lw_all := lw_g (lw_at lw_m12 31 rfl) rfl
theorem q2780 : (Jvm.Cond.soleField "StreamNodesModel" "nodeOf") ∈ lw_all := lw_g (lw_at lw_m12 32 rfl) rfl
theorem q2781 : (Jvm.Cond.laysFinal "StreamNodesModel" "StreamNodesModel" "outer" "[I") ∈ lw_all := lw_g (lw_at lw_m12 33 rfl) rfl
theorem q2782 : (Jvm.Cond.soleField "StreamNodesModel" "outer") ∈ lw_all := lw_g (lw_at lw_m12 34 rfl) rfl
theorem q2783 : (Jvm.Cond.laysFinal "StreamNodesModel" "StreamNodesModel" "callOf" "[I") ∈ lw_all := lw_g (lw_at lw_m12 35 rfl) rfl
theorem q2784 : (Jvm.Cond.soleField "StreamNodesModel" "callOf") ∈ lw_all := lw_g (lw_at lw_m12 36 rfl) rfl
theorem q2785 : (Jvm.Cond.laysFinal "StreamNodesModel" "StreamNodesModel" "base" "[I") ∈ lw_all := lw_g (lw_at lw_m12 37 rfl) rfl
theorem q2786 : (Jvm.Cond.soleField "StreamNodesModel" "base") ∈ lw_all := lw_g (lw_at lw_m12 38 rfl) rfl
theorem q2787 : (Jvm.Cond.laysFinal "StreamNodesModel" "StreamNodesModel" "statesFrom" "[I") ∈ lw_all := lw_g (lw_at lw_m12 39 rfl) rfl
theorem q2788 : (Jvm.Cond.soleField "StreamNodesModel" "statesFrom") ∈ lw_all := lw_g (lw_at lw_m12 40 rfl) rfl
theorem q2789 : (Jvm.Cond.laysFinal "StreamNodesModel" "StreamNodesModel" "callsFrom" "[I") ∈ lw_all := lw_g (lw_at lw_m12 41 rfl) rfl
theorem q2790 : (Jvm.Cond.soleField "StreamNodesModel" "callsFrom") ∈ lw_all := lw_g (lw_at lw_m12 42 rfl) rfl
theorem q2791 : (Jvm.Cond.laysFinal "StreamNodesModel" "StreamNodesModel" "childOf" "[I") ∈ lw_all := lw_g (lw_at lw_m12 43 rfl) rfl
theorem q2792 : (Jvm.Cond.soleField "StreamNodesModel" "childOf") ∈ lw_all := lw_g (lw_at lw_m12 44 rfl) rfl
theorem q2793 : (Jvm.Cond.laysFinal "StreamNodesModel" "StreamNodesModel" "instanceOf" "[I") ∈ lw_all := lw_g (lw_at lw_m12 45 rfl) rfl
theorem q2794 : (Jvm.Cond.soleField "StreamNodesModel" "instanceOf") ∈ lw_all := lw_g (lw_at lw_m12 46 rfl) rfl
theorem q2795 : (Jvm.Cond.laysFinal "StreamNodesModel" "StreamNodesModel" "localOf" "[I") ∈ lw_all := lw_g (lw_at lw_m12 47 rfl) rfl
theorem q2796 : (Jvm.Cond.soleField "StreamNodesModel" "localOf") ∈ lw_all := lw_g (lw_at lw_m12 48 rfl) rfl
theorem q2797 : (Jvm.Cond.laysFinal "StreamNodesModel" "StreamNodesModel" "causeFrom" "[I") ∈ lw_all := lw_g (lw_at lw_m12 49 rfl) rfl
theorem q2798 : (Jvm.Cond.soleField "StreamNodesModel" "causeFrom") ∈ lw_all := lw_g (lw_at lw_m12 50 rfl) rfl
theorem q2799 : (Jvm.Cond.laysFinal "StreamNodesModel" "StreamNodesModel" "causeOf" "[I") ∈ lw_all := lw_g (lw_at lw_m12 51 rfl) rfl
theorem q2800 : (Jvm.Cond.soleField "StreamNodesModel" "causeOf") ∈ lw_all := lw_g (lw_at lw_m12 52 rfl) rfl
theorem q2801 : (Jvm.Cond.lays "StreamNodesModel" "StreamNodesModel" "causesTotal" "I") ∈ lw_all := lw_g (lw_at lw_m12 53 rfl) rfl
theorem q2802 : (Jvm.Cond.soleField "StreamNodesModel" "causesTotal") ∈ lw_all := lw_g (lw_at lw_m12 54 rfl) rfl
theorem q2803 : (Jvm.Cond.laysFinal "StreamNodesModel" "StreamNodesModel" "reached" "[Z") ∈ lw_all := lw_g (lw_at lw_m12 55 rfl) rfl
theorem q2804 : (Jvm.Cond.soleField "StreamNodesModel" "reached") ∈ lw_all := lw_g (lw_at lw_m12 56 rfl) rfl
theorem q2805 : (Jvm.Cond.laysFinal "StreamNodesModel" "StreamNodesModel" "todo" "[I") ∈ lw_all := lw_g (lw_at lw_m12 57 rfl) rfl
theorem q2806 : (Jvm.Cond.soleField "StreamNodesModel" "todo") ∈ lw_all := lw_g (lw_at lw_m12 58 rfl) rfl
theorem q2807 : (Jvm.Cond.laysFinal "StreamNodesModel" "StreamNodesModel" "order" "[I") ∈ lw_all := lw_g (lw_at lw_m12 59 rfl) rfl
theorem q2808 : (Jvm.Cond.soleField "StreamNodesModel" "order") ∈ lw_all := lw_g (lw_at lw_m12 60 rfl) rfl
theorem q2809 : (Jvm.Cond.laysFinal "StreamNodesModel" "StreamNodesModel" "undone" "[Z") ∈ lw_all := lw_g (lw_at lw_m12 61 rfl) rfl
theorem q2810 : (Jvm.Cond.soleField "StreamNodesModel" "undone") ∈ lw_all := lw_g (lw_at lw_m12 62 rfl) rfl
theorem q2811 : (Jvm.Cond.lays "StreamNodesModel" "StreamNodesModel" "instants" "I") ∈ lw_all := lw_g (lw_at lw_m12 63 rfl) rfl
theorem q2812 : (Jvm.Cond.soleField "StreamNodesModel" "instants") ∈ lw_all := lw_g (lw_at lw_m12 64 rfl) rfl
theorem q2813 : (Jvm.Cond.laysFinal "StreamNodesModel" "StreamNodesModel" "inputs" "[I") ∈ lw_all := lw_g (lw_at lw_m12 65 rfl) rfl
theorem q2814 : (Jvm.Cond.soleField "StreamNodesModel" "inputs") ∈ lw_all := lw_g (lw_at lw_m12 66 rfl) rfl
theorem q2815 : (Jvm.Cond.laysFinal "StreamNodesModel" "StreamNodesModel" "value" "[I") ∈ lw_all := lw_g (lw_at lw_m12 67 rfl) rfl
theorem q2816 : (Jvm.Cond.soleField "StreamNodesModel" "value") ∈ lw_all := lw_g (lw_at lw_m12 68 rfl) rfl
theorem q2817 : (Jvm.Cond.laysFinal "StreamNodesModel" "StreamNodesModel" "memory" "[I") ∈ lw_all := lw_g (lw_at lw_m12 69 rfl) rfl
theorem q2818 : (Jvm.Cond.soleField "StreamNodesModel" "memory") ∈ lw_all := lw_g (lw_at lw_m12 70 rfl) rfl
theorem q2819 : (Jvm.Cond.laysFinal "StreamNodesModel" "StreamNodesModel" "later" "[I") ∈ lw_all := lw_g (lw_at lw_m12 71 rfl) rfl
theorem q2820 : (Jvm.Cond.soleField "StreamNodesModel" "later") ∈ lw_all := lw_g (lw_at lw_m12 72 rfl) rfl
theorem q2821 : (Jvm.Cond.laysFinal "StreamNodesModel" "StreamNodesModel" "worth" "[I") ∈ lw_all := lw_g (lw_at lw_m12 73 rfl) rfl
theorem q2822 : (Jvm.Cond.soleField "StreamNodesModel" "worth") ∈ lw_all := lw_g (lw_at lw_m12 74 rfl) rfl
theorem q2823 : (Jvm.Cond.laysFinal "StreamNodesModel" "StreamNodesModel" "here" "[Z") ∈ lw_all := lw_g (lw_at lw_m12 75 rfl) rfl
theorem q2824 : (Jvm.Cond.soleField "StreamNodesModel" "here") ∈ lw_all := lw_g (lw_at lw_m12 76 rfl) rfl
theorem q2825 : (Jvm.Cond.laysFinal "StreamNodesModel" "StreamNodesModel" "keptMemory" "[I") ∈ lw_all := lw_g (lw_at lw_m12 77 rfl) rfl
theorem q2826 : (Jvm.Cond.soleField "StreamNodesModel" "keptMemory") ∈ lw_all := lw_g (lw_at lw_m12 78 rfl) rfl
theorem q2827 : (Jvm.Cond.laysFinal "StreamNodesModel" "StreamNodesModel" "keptValue" "[I") ∈ lw_all := lw_g (lw_at lw_m12 79 rfl) rfl
theorem q2828 : (Jvm.Cond.soleField "StreamNodesModel" "keptValue") ∈ lw_all := lw_g (lw_at lw_m12 80 rfl) rfl
theorem q2829 : (Jvm.Cond.laysFinal "StreamNodesModel" "StreamNodesModel" "keptHere" "[Z") ∈ lw_all := lw_g (lw_at lw_m12 81 rfl) rfl
theorem q2830 : (Jvm.Cond.soleField "StreamNodesModel" "keptHere") ∈ lw_all := lw_g (lw_at lw_m12 82 rfl) rfl
theorem q2831 : (Jvm.Cond.lays "StreamNodesModel" "StreamNodesModel" "keptInstants" "I") ∈ lw_all := lw_g (lw_at lw_m12 83 rfl) rfl
theorem q2832 : (Jvm.Cond.soleField "StreamNodesModel" "keptInstants") ∈ lw_all := lw_g (lw_at lw_m12 84 rfl) rfl
theorem q2833 : (Jvm.Cond.lays "StreamNodesModel" "StreamNodesModel" "isKept" "Z") ∈ lw_all := lw_g (lw_at lw_m12 85 rfl) rfl
theorem q2834 : (Jvm.Cond.soleField "StreamNodesModel" "isKept") ∈ lw_all := lw_g (lw_at lw_m12 86 rfl) rfl
theorem q2835 : (Jvm.Cond.superclass "StreamNodesModel" "java/lang/Object") ∈ lw_all := lw_g (lw_at lw_m12 87 rfl) rfl
theorem q2837 : (Jvm.Cond.instanceMethod ({ cls := "StreamNodesModel", name := "thrown", desc := "()I" } : Jvm.MethodName)) ∈ lw_all := lw_g (lw_at lw_m12 89 rfl) rfl
theorem q2838 : (Jvm.Cond.selects "StreamNodesModel" ({ cls := "StreamNodesModel", name := "thrown", desc := "()I" } : Jvm.MethodName) ({ cls := "StreamNodesModel", name := "thrown", desc := "()I" } : Jvm.MethodName)) ∈ lw_all := lw_g (lw_at lw_m12 90 rfl) rfl
theorem q2839 : (Jvm.Cond.code ({ cls := "StreamNodesModel", name := "thrown", desc := "()I" } : Jvm.MethodName) prog_26_method_2_code (1 : Nat) (Option.some Jvm.ClassFile.FieldType.int)) ∈ lw_all := lw_g (lw_at lw_m12 91 rfl) rfl
theorem q2841 : (Jvm.Cond.instanceMethod ({ cls := "StreamNodesModel", name := "feed", desc := "(IIIII)I" } : Jvm.MethodName)) ∈ lw_all := lw_g (lw_at lw_m12 93 rfl) rfl
theorem q2842 : (Jvm.Cond.selects "StreamNodesModel" ({ cls := "StreamNodesModel", name := "feed", desc := "(IIIII)I" } : Jvm.MethodName) ({ cls := "StreamNodesModel", name := "feed", desc := "(IIIII)I" } : Jvm.MethodName)) ∈ lw_all := lw_g (lw_at lw_m12 94 rfl) rfl
theorem q2843 : (Jvm.Cond.code ({ cls := "StreamNodesModel", name := "feed", desc := "(IIIII)I" } : Jvm.MethodName) prog_26_method_4_code (8 : Nat) (Option.some Jvm.ClassFile.FieldType.int)) ∈ lw_all := lw_g (lw_at lw_m12 95 rfl) rfl
theorem q2844 : (Jvm.Cond.constant "StreamNodesModel" (269 : Nat) (65516 : Int32)) ∈ lw_all := lw_g (lw_at lw_m12 96 rfl) rfl
theorem q2845 : (Jvm.Cond.methodLink "StreamNodesModel" (270 : Nat) ({ cls := "StreamNodesModel", name := "refuse", desc := "(IZ)Z" } : Jvm.MethodName)) ∈ lw_all := lw_g (lw_at lw_m12 97 rfl) rfl
theorem q2846 : (Jvm.Cond.privateMethod ({ cls := "StreamNodesModel", name := "refuse", desc := "(IZ)Z" } : Jvm.MethodName)) ∈ lw_tbl := lw_at lw_m12 98 rfl
theorem q2847 : (Jvm.Cond.instanceMethod ({ cls := "StreamNodesModel", name := "refuse", desc := "(IZ)Z" } : Jvm.MethodName)) ∈ lw_all := lw_g (lw_at lw_m12 99 rfl) rfl
theorem q2848 : (Jvm.Cond.code ({ cls := "StreamNodesModel", name := "refuse", desc := "(IZ)Z" } : Jvm.MethodName) prog_26_method_3_code (3 : Nat) (Option.some Jvm.ClassFile.FieldType.boolean)) ∈ lw_all := lw_g (lw_at lw_m12 100 rfl) rfl
theorem q2850 : (Jvm.Cond.instanceMethod ({ cls := "StreamNodesModel", name := "end", desc := "(I)I" } : Jvm.MethodName)) ∈ lw_all := lw_g (lw_at lw_m12 102 rfl) rfl
theorem q2851 : (Jvm.Cond.selects "StreamNodesModel" ({ cls := "StreamNodesModel", name := "end", desc := "(I)I" } : Jvm.MethodName) ({ cls := "StreamNodesModel", name := "end", desc := "(I)I" } : Jvm.MethodName)) ∈ lw_all := lw_g (lw_at lw_m12 103 rfl) rfl
theorem q2852 : (Jvm.Cond.code ({ cls := "StreamNodesModel", name := "end", desc := "(I)I" } : Jvm.MethodName) prog_26_method_5_code (2 : Nat) (Option.some Jvm.ClassFile.FieldType.int)) ∈ lw_all := lw_g (lw_at lw_m12 104 rfl) rfl
theorem q2854 : (Jvm.Cond.instanceMethod ({ cls := "StreamNodesModel", name := "read", desc := "()I" } : Jvm.MethodName)) ∈ lw_all := lw_g (lw_at lw_m12 106 rfl) rfl
theorem q2855 : (Jvm.Cond.selects "StreamNodesModel" ({ cls := "StreamNodesModel", name := "read", desc := "()I" } : Jvm.MethodName) ({ cls := "StreamNodesModel", name := "read", desc := "()I" } : Jvm.MethodName)) ∈ lw_all := lw_g (lw_at lw_m12 107 rfl) rfl
theorem q2856 : (Jvm.Cond.codeWith ({ cls := "StreamNodesModel", name := "read", desc := "()I" } : Jvm.MethodName) prog_26_method_60_code (2 : Nat) (Option.some Jvm.ClassFile.FieldType.int) [((102 : Nat), (272 : Nat), (275 : Nat), (296 : Nat))]) ∈ lw_all := lw_g (lw_at lw_m12 108 rfl) rfl
theorem q2857 : (Jvm.Cond.classLink "StreamNodesModel" (296 : Nat) "StreamNodesModel$Wrong") ∈ lw_all := lw_g (lw_at lw_m12 109 rfl) rfl
theorem q2858 : (Jvm.Cond.methodLink "StreamNodesModel" (501 : Nat) ({ cls := "StreamNodesModel", name := "node", desc := "()V" } : Jvm.MethodName)) ∈ lw_all := lw_g (lw_at lw_m12 110 rfl) rfl
theorem q2859 : (Jvm.Cond.privateMethod ({ cls := "StreamNodesModel", name := "node", desc := "()V" } : Jvm.MethodName)) ∈ lw_tbl := lw_at lw_m12 111 rfl
theorem q2860 : (Jvm.Cond.instanceMethod ({ cls := "StreamNodesModel", name := "node", desc := "()V" } : Jvm.MethodName)) ∈ lw_all := lw_g (lw_at lw_m12 112 rfl) rfl
theorem q2861 : (Jvm.Cond.code ({ cls := "StreamNodesModel", name := "node", desc := "()V" } : Jvm.MethodName) prog_26_method_26_code (3 : Nat) (Option.none : Option Jvm.ClassFile.FieldType)) ∈ lw_all := lw_g (lw_at lw_m12 113 rfl) rfl
theorem q2862 : (Jvm.Cond.stringRef "StreamNodesModel" (321 : Nat) "node") ∈ lw_tbl := lw_at lw_m12 114 rfl
theorem q2863 : (Jvm.Cond.methodLink "StreamNodesModel" (317 : Nat) ({ cls := "StreamNodesModel", name := "is", desc := "(Ljava/lang/String;)Z" } : Jvm.MethodName)) ∈ lw_all := lw_g (lw_at lw_m12 115 rfl) rfl
theorem q2864 : (Jvm.Cond.privateMethod ({ cls := "StreamNodesModel", name := "is", desc := "(Ljava/lang/String;)Z" } : Jvm.MethodName)) ∈ lw_tbl := lw_at lw_m12 116 rfl
theorem q2865 : (Jvm.Cond.instanceMethod ({ cls := "StreamNodesModel", name := "is", desc := "(Ljava/lang/String;)Z" } : Jvm.MethodName)) ∈ lw_all := lw_g (lw_at lw_m12 117 rfl) rfl
theorem q2866 : (Jvm.Cond.code ({ cls := "StreamNodesModel", name := "is", desc := "(Ljava/lang/String;)Z" } : Jvm.MethodName) prog_26_method_15_code (3 : Nat) (Option.some Jvm.ClassFile.FieldType.boolean)) ∈ lw_all := lw_g (lw_at lw_m12 118 rfl) rfl
theorem q2867 : (Jvm.Cond.methodLink "StreamNodesModel" (292 : Nat) ({ cls := "StreamNodesModel", name := "peek", desc := "()I" } : Jvm.MethodName)) ∈ lw_all := lw_g (lw_at lw_m12 119 rfl) rfl
theorem q2868 : (Jvm.Cond.privateMethod ({ cls := "StreamNodesModel", name := "peek", desc := "()I" } : Jvm.MethodName)) ∈ lw_tbl := lw_at lw_m12 120 rfl
theorem q2869 : (Jvm.Cond.instanceMethod ({ cls := "StreamNodesModel", name := "peek", desc := "()I" } : Jvm.MethodName)) ∈ lw_all := lw_g (lw_at lw_m12 121 rfl) rfl
theorem q2870 : (Jvm.Cond.code ({ cls := "StreamNodesModel", name := "peek", desc := "()I" } : Jvm.MethodName) prog_26_method_10_code (2 : Nat) (Option.some Jvm.ClassFile.FieldType.int)) ∈ lw_all := lw_g (lw_at lw_m12 122 rfl) rfl
theorem q2871 : (Jvm.Cond.methodLink "StreamNodesModel" (278 : Nat) ({ cls := "StreamNodesModel", name := "parts", desc := "()V" } : Jvm.MethodName)) ∈ lw_all := lw_g (lw_at lw_m12 123 rfl) rfl
theorem q2872 : (Jvm.Cond.privateMethod ({ cls := "StreamNodesModel", name := "parts", desc := "()V" } : Jvm.MethodName)) ∈ lw_tbl := lw_at lw_m12 124 rfl
theorem q2873 : (Jvm.Cond.instanceMethod ({ cls := "StreamNodesModel", name := "parts", desc := "()V" } : Jvm.MethodName)) ∈ lw_all := lw_g (lw_at lw_m12 125 rfl) rfl
theorem q2874 : (Jvm.Cond.code ({ cls := "StreamNodesModel", name := "parts", desc := "()V" } : Jvm.MethodName) prog_26_method_9_code (2 : Nat) (Option.none : Option Jvm.ClassFile.FieldType)) ∈ lw_all := lw_g (lw_at lw_m12 126 rfl) rfl
theorem q2875 : (Jvm.Cond.methodLink "StreamNodesModel" (274 : Nat) ({ cls := "StreamNodesModel", name := "byteAt", desc := "(I)I" } : Jvm.MethodName)) ∈ lw_all := lw_g (lw_at lw_m12 127 rfl) rfl
theorem q2876 : (Jvm.Cond.privateMethod ({ cls := "StreamNodesModel", name := "byteAt", desc := "(I)I" } : Jvm.MethodName)) ∈ lw_tbl := lw_at lw_m12 128 rfl
theorem q2877 : (Jvm.Cond.instanceMethod ({ cls := "StreamNodesModel", name := "byteAt", desc := "(I)I" } : Jvm.MethodName)) ∈ lw_all := lw_g (lw_at lw_m12 129 rfl) rfl
theorem q2878 : (Jvm.Cond.code ({ cls := "StreamNodesModel", name := "byteAt", desc := "(I)I" } : Jvm.MethodName) prog_26_method_8_code (2 : Nat) (Option.some Jvm.ClassFile.FieldType.int)) ∈ lw_all := lw_g (lw_at lw_m12 130 rfl) rfl
theorem q2879 : (Jvm.Cond.methodLink "StreamNodesModel" (281 : Nat) ({ cls := "StreamNodesModel", name := "letter", desc := "(I)Z" } : Jvm.MethodName)) ∈ lw_all := lw_g (lw_at lw_m12 131 rfl) rfl
theorem q2880 : (Jvm.Cond.static ({ cls := "StreamNodesModel", name := "letter", desc := "(I)Z" } : Jvm.MethodName)) ∈ lw_all := lw_g (lw_at lw_m12 132 rfl) rfl
theorem q2881 : (Jvm.Cond.code ({ cls := "StreamNodesModel", name := "letter", desc := "(I)Z" } : Jvm.MethodName) prog_26_method_7_code (1 : Nat) (Option.some Jvm.ClassFile.FieldType.boolean)) ∈ lw_all := lw_g (lw_at lw_m12 133 rfl) rfl
theorem q2882 : (Jvm.Cond.methodLink "StreamNodesModel" (285 : Nat) ({ cls := "StreamNodesModel", name := "digit", desc := "(I)Z" } : Jvm.MethodName)) ∈ lw_all := lw_g (lw_at lw_m12 134 rfl) rfl
theorem q2883 : (Jvm.Cond.static ({ cls := "StreamNodesModel", name := "digit", desc := "(I)Z" } : Jvm.MethodName)) ∈ lw_all := lw_g (lw_at lw_m12 135 rfl) rfl
theorem q2884 : (Jvm.Cond.code ({ cls := "StreamNodesModel", name := "digit", desc := "(I)Z" } : Jvm.MethodName) prog_26_method_6_code (1 : Nat) (Option.some Jvm.ClassFile.FieldType.boolean)) ∈ lw_all := lw_g (lw_at lw_m12 136 rfl) rfl
theorem q2885 : (Jvm.Cond.methodLink "StreamNodesModel" (288 : Nat) ({ cls := "StreamNodesModel", name := "sign", desc := "(II)I" } : Jvm.MethodName)) ∈ lw_all := lw_g (lw_at lw_m12 137 rfl) rfl
theorem q2886 : (Jvm.Cond.static ({ cls := "StreamNodesModel", name := "sign", desc := "(II)I" } : Jvm.MethodName)) ∈ lw_all := lw_g (lw_at lw_m12 138 rfl) rfl
theorem q2887 : (Jvm.Cond.code ({ cls := "StreamNodesModel", name := "sign", desc := "(II)I" } : Jvm.MethodName) prog_26_method_11_code (2 : Nat) (Option.some Jvm.ClassFile.FieldType.int)) ∈ lw_all := lw_g (lw_at lw_m12 139 rfl) rfl
theorem q2888 : (Jvm.Cond.methodLink "StreamNodesModel" (308 : Nat) ({ cls := "java/lang/String", name := "length", desc := "()I" } : Jvm.MethodName)) ∈ lw_all := lw_g (lw_at lw_m12 140 rfl) rfl
theorem q2889 : (Jvm.Cond.methodLink "StreamNodesModel" (313 : Nat) ({ cls := "java/lang/String", name := "charAt", desc := "(I)C" } : Jvm.MethodName)) ∈ lw_all := lw_g (lw_at lw_m12 141 rfl) rfl
theorem q2908 : (Jvm.Cond.methodLink "StreamNodesModel" (298 : Nat) ({ cls := "StreamNodesModel$Wrong", name := "<init>", desc := "(II)V" } : Jvm.MethodName)) ∈ lw_all := lw_g (lw_at lw_m12 160 rfl) rfl
theorem q2921 : (Jvm.Cond.fieldLink "StreamNodesModel" (515 : Nat) "StreamNodesModel$Wrong" "kind" "I") ∈ lw_all := lw_g (lw_at lw_m12 173 rfl) rfl
theorem q2923 : (Jvm.Cond.fieldLink "StreamNodesModel" (518 : Nat) "StreamNodesModel$Wrong" "place" "I") ∈ lw_all := lw_g (lw_at lw_m12 175 rfl) rfl
theorem q2930 : (Jvm.Cond.methodLink "StreamNodesModel" (390 : Nat) ({ cls := "StreamNodesModel", name := "mustBe", desc := "(Ljava/lang/String;)V" } : Jvm.MethodName)) ∈ lw_all := lw_g (lw_at lw_m12 182 rfl) rfl
theorem q2931 : (Jvm.Cond.privateMethod ({ cls := "StreamNodesModel", name := "mustBe", desc := "(Ljava/lang/String;)V" } : Jvm.MethodName)) ∈ lw_tbl := lw_at lw_m12 183 rfl
theorem q2932 : (Jvm.Cond.instanceMethod ({ cls := "StreamNodesModel", name := "mustBe", desc := "(Ljava/lang/String;)V" } : Jvm.MethodName)) ∈ lw_all := lw_g (lw_at lw_m12 184 rfl) rfl
theorem q2933 : (Jvm.Cond.code ({ cls := "StreamNodesModel", name := "mustBe", desc := "(Ljava/lang/String;)V" } : Jvm.MethodName) prog_26_method_16_code (2 : Nat) (Option.none : Option Jvm.ClassFile.FieldType)) ∈ lw_all := lw_g (lw_at lw_m12 185 rfl) rfl
theorem q2934 : (Jvm.Cond.methodLink "StreamNodesModel" (301 : Nat) ({ cls := "StreamNodesModel", name := "cant", desc := "()LStreamNodesModel$Wrong;" } : Jvm.MethodName)) ∈ lw_all := lw_g (lw_at lw_m12 186 rfl) rfl
theorem q2935 : (Jvm.Cond.privateMethod ({ cls := "StreamNodesModel", name := "cant", desc := "()LStreamNodesModel$Wrong;" } : Jvm.MethodName)) ∈ lw_tbl := lw_at lw_m12 187 rfl
theorem q2936 : (Jvm.Cond.instanceMethod ({ cls := "StreamNodesModel", name := "cant", desc := "()LStreamNodesModel$Wrong;" } : Jvm.MethodName)) ∈ lw_all := lw_g (lw_at lw_m12 188 rfl) rfl
theorem q2937 : (Jvm.Cond.code ({ cls := "StreamNodesModel", name := "cant", desc := "()LStreamNodesModel$Wrong;" } : Jvm.MethodName) prog_26_method_13_code (1 : Nat) (Option.some (Jvm.ClassFile.FieldType.object "StreamNodesModel$Wrong"))) ∈ lw_all := lw_g (lw_at lw_m12 189 rfl) rfl
theorem q2938 : (Jvm.Cond.methodLink "StreamNodesModel" (305 : Nat) ({ cls := "StreamNodesModel", name := "take", desc := "()V" } : Jvm.MethodName)) ∈ lw_all := lw_g (lw_at lw_m12 190 rfl) rfl
theorem q2939 : (Jvm.Cond.privateMethod ({ cls := "StreamNodesModel", name := "take", desc := "()V" } : Jvm.MethodName)) ∈ lw_tbl := lw_at lw_m12 191 rfl
theorem q2940 : (Jvm.Cond.instanceMethod ({ cls := "StreamNodesModel", name := "take", desc := "()V" } : Jvm.MethodName)) ∈ lw_all := lw_g (lw_at lw_m12 192 rfl) rfl
theorem q2941 : (Jvm.Cond.code ({ cls := "StreamNodesModel", name := "take", desc := "()V" } : Jvm.MethodName) prog_26_method_12_code (1 : Nat) (Option.none : Option Jvm.ClassFile.FieldType)) ∈ lw_all := lw_g (lw_at lw_m12 193 rfl) rfl
theorem q2942 : (Jvm.Cond.methodLink "StreamNodesModel" (373 : Nat) ({ cls := "StreamNodesModel", name := "nameHere", desc := "()Z" } : Jvm.MethodName)) ∈ lw_all := lw_g (lw_at lw_m12 194 rfl) rfl
theorem q2943 : (Jvm.Cond.privateMethod ({ cls := "StreamNodesModel", name := "nameHere", desc := "()Z" } : Jvm.MethodName)) ∈ lw_tbl := lw_at lw_m12 195 rfl
theorem q2944 : (Jvm.Cond.instanceMethod ({ cls := "StreamNodesModel", name := "nameHere", desc := "()Z" } : Jvm.MethodName)) ∈ lw_all := lw_g (lw_at lw_m12 196 rfl) rfl
theorem q2945 : (Jvm.Cond.code ({ cls := "StreamNodesModel", name := "nameHere", desc := "()Z" } : Jvm.MethodName) prog_26_method_18_code (1 : Nat) (Option.some Jvm.ClassFile.FieldType.boolean)) ∈ lw_all := lw_g (lw_at lw_m12 197 rfl) rfl
theorem q2946 : (Jvm.Cond.methodLink "StreamNodesModel" (365 : Nat) ({ cls := "StreamNodesModel", name := "reserved", desc := "()Z" } : Jvm.MethodName)) ∈ lw_all := lw_g (lw_at lw_m12 198 rfl) rfl
theorem q2947 : (Jvm.Cond.privateMethod ({ cls := "StreamNodesModel", name := "reserved", desc := "()Z" } : Jvm.MethodName)) ∈ lw_tbl := lw_at lw_m12 199 rfl
theorem q2948 : (Jvm.Cond.instanceMethod ({ cls := "StreamNodesModel", name := "reserved", desc := "()Z" } : Jvm.MethodName)) ∈ lw_all := lw_g (lw_at lw_m12 200 rfl) rfl
theorem q2949 : (Jvm.Cond.code ({ cls := "StreamNodesModel", name := "reserved", desc := "()Z" } : Jvm.MethodName) prog_26_method_17_code (1 : Nat) (Option.some Jvm.ClassFile.FieldType.boolean)) ∈ lw_all := lw_g (lw_at lw_m12 201 rfl) rfl
theorem q2950 : (Jvm.Cond.stringRef "StreamNodesModel" (323 : Nat) "returns") ∈ lw_tbl := lw_at lw_m12 202 rfl
theorem q2951 : (Jvm.Cond.stringRef "StreamNodesModel" (325 : Nat) "var") ∈ lw_tbl := lw_at lw_m12 203 rfl
theorem q2952 : (Jvm.Cond.stringRef "StreamNodesModel" (327 : Nat) "let") ∈ lw_tbl := lw_at lw_m12 204 rfl
theorem q2953 : (Jvm.Cond.stringRef "StreamNodesModel" (329 : Nat) "tel") ∈ lw_tbl := lw_at lw_m12 205 rfl
theorem q2954 : (Jvm.Cond.stringRef "StreamNodesModel" (331 : Nat) "int") ∈ lw_tbl := lw_at lw_m12 206 rfl
theorem q2955 : (Jvm.Cond.stringRef "StreamNodesModel" (333 : Nat) "bool") ∈ lw_tbl := lw_at lw_m12 207 rfl
theorem q2956 : (Jvm.Cond.stringRef "StreamNodesModel" (335 : Nat) "when") ∈ lw_tbl := lw_at lw_m12 208 rfl
theorem q2957 : (Jvm.Cond.stringRef "StreamNodesModel" (337 : Nat) "not") ∈ lw_tbl := lw_at lw_m12 209 rfl
theorem q2958 : (Jvm.Cond.stringRef "StreamNodesModel" (339 : Nat) "and") ∈ lw_tbl := lw_at lw_m12 210 rfl
theorem q2959 : (Jvm.Cond.stringRef "StreamNodesModel" (341 : Nat) "or") ∈ lw_tbl := lw_at lw_m12 211 rfl
theorem q2960 : (Jvm.Cond.stringRef "StreamNodesModel" (343 : Nat) "xor") ∈ lw_tbl := lw_at lw_m12 212 rfl
theorem q2961 : (Jvm.Cond.stringRef "StreamNodesModel" (345 : Nat) "if") ∈ lw_tbl := lw_at lw_m12 213 rfl
theorem q2962 : (Jvm.Cond.stringRef "StreamNodesModel" (347 : Nat) "then") ∈ lw_tbl := lw_at lw_m12 214 rfl
theorem q2963 : (Jvm.Cond.stringRef "StreamNodesModel" (349 : Nat) "else") ∈ lw_tbl := lw_at lw_m12 215 rfl
theorem q2964 : (Jvm.Cond.stringRef "StreamNodesModel" (351 : Nat) "pre") ∈ lw_tbl := lw_at lw_m12 216 rfl
theorem q2965 : (Jvm.Cond.stringRef "StreamNodesModel" (353 : Nat) "current") ∈ lw_tbl := lw_at lw_m12 217 rfl
theorem q2966 : (Jvm.Cond.stringRef "StreamNodesModel" (355 : Nat) "fby") ∈ lw_tbl := lw_at lw_m12 218 rfl
theorem q2967 : (Jvm.Cond.stringRef "StreamNodesModel" (357 : Nat) "div") ∈ lw_tbl := lw_at lw_m12 219 rfl
theorem q2968 : (Jvm.Cond.stringRef "StreamNodesModel" (359 : Nat) "mod") ∈ lw_tbl := lw_at lw_m12 220 rfl
theorem q2969 : (Jvm.Cond.stringRef "StreamNodesModel" (361 : Nat) "true") ∈ lw_tbl := lw_at lw_m12 221 rfl
theorem q2970 : (Jvm.Cond.stringRef "StreamNodesModel" (363 : Nat) "false") ∈ lw_tbl := lw_at lw_m12 222 rfl
theorem q2971 : (Jvm.Cond.methodLink "StreamNodesModel" (394 : Nat) ({ cls := "StreamNodesModel", name := "nodeHere", desc := "()I" } : Jvm.MethodName)) ∈ lw_all := lw_g (lw_at lw_m12 223 rfl) rfl
theorem q2972 : (Jvm.Cond.privateMethod ({ cls := "StreamNodesModel", name := "nodeHere", desc := "()I" } : Jvm.MethodName)) ∈ lw_tbl := lw_at lw_m12 224 rfl
theorem q2973 : (Jvm.Cond.instanceMethod ({ cls := "StreamNodesModel", name := "nodeHere", desc := "()I" } : Jvm.MethodName)) ∈ lw_all := lw_g (lw_at lw_m12 225 rfl) rfl
theorem q2974 : (Jvm.Cond.code ({ cls := "StreamNodesModel", name := "nodeHere", desc := "()I" } : Jvm.MethodName) prog_26_method_22_code (2 : Nat) (Option.some Jvm.ClassFile.FieldType.int)) ∈ lw_all := lw_g (lw_at lw_m12 226 rfl) rfl
theorem q2975 : (Jvm.Cond.methodLink "StreamNodesModel" (369 : Nat) ({ cls := "StreamNodesModel", name := "spelled", desc := "(II)Z" } : Jvm.MethodName)) ∈ lw_all := lw_g (lw_at lw_m12 227 rfl) rfl
theorem q2976 : (Jvm.Cond.privateMethod ({ cls := "StreamNodesModel", name := "spelled", desc := "(II)Z" } : Jvm.MethodName)) ∈ lw_tbl := lw_at lw_m12 228 rfl
theorem q2977 : (Jvm.Cond.instanceMethod ({ cls := "StreamNodesModel", name := "spelled", desc := "(II)Z" } : Jvm.MethodName)) ∈ lw_all := lw_g (lw_at lw_m12 229 rfl) rfl
theorem q2978 : (Jvm.Cond.code ({ cls := "StreamNodesModel", name := "spelled", desc := "(II)Z" } : Jvm.MethodName) prog_26_method_20_code (4 : Nat) (Option.some Jvm.ClassFile.FieldType.boolean)) ∈ lw_all := lw_g (lw_at lw_m12 230 rfl) rfl
theorem q2979 : (Jvm.Cond.methodLink "StreamNodesModel" (397 : Nat) ({ cls := "StreamNodesModel", name := "groups", desc := "()V" } : Jvm.MethodName)) ∈ lw_all := lw_g (lw_at lw_m12 231 rfl) rfl
theorem q2980 : (Jvm.Cond.privateMethod ({ cls := "StreamNodesModel", name := "groups", desc := "()V" } : Jvm.MethodName)) ∈ lw_tbl := lw_at lw_m12 232 rfl
theorem q2981 : (Jvm.Cond.instanceMethod ({ cls := "StreamNodesModel", name := "groups", desc := "()V" } : Jvm.MethodName)) ∈ lw_all := lw_g (lw_at lw_m12 233 rfl) rfl
theorem q2982 : (Jvm.Cond.code ({ cls := "StreamNodesModel", name := "groups", desc := "()V" } : Jvm.MethodName) prog_26_method_25_code (1 : Nat) (Option.none : Option Jvm.ClassFile.FieldType)) ∈ lw_all := lw_g (lw_at lw_m12 234 rfl) rfl
theorem q2983 : (Jvm.Cond.methodLink "StreamNodesModel" (379 : Nat) ({ cls := "StreamNodesModel", name := "must", desc := "(I)V" } : Jvm.MethodName)) ∈ lw_all := lw_g (lw_at lw_m12 235 rfl) rfl
theorem q2984 : (Jvm.Cond.privateMethod ({ cls := "StreamNodesModel", name := "must", desc := "(I)V" } : Jvm.MethodName)) ∈ lw_tbl := lw_at lw_m12 236 rfl
theorem q2985 : (Jvm.Cond.instanceMethod ({ cls := "StreamNodesModel", name := "must", desc := "(I)V" } : Jvm.MethodName)) ∈ lw_all := lw_g (lw_at lw_m12 237 rfl) rfl
theorem q2986 : (Jvm.Cond.code ({ cls := "StreamNodesModel", name := "must", desc := "(I)V" } : Jvm.MethodName) prog_26_method_14_code (2 : Nat) (Option.none : Option Jvm.ClassFile.FieldType)) ∈ lw_all := lw_g (lw_at lw_m12 238 rfl) rfl
theorem q2987 : (Jvm.Cond.methodLink "StreamNodesModel" (386 : Nat) ({ cls := "StreamNodesModel", name := "group", desc := "(Z)V" } : Jvm.MethodName)) ∈ lw_all := lw_g (lw_at lw_m12 239 rfl) rfl
theorem q2988 : (Jvm.Cond.privateMethod ({ cls := "StreamNodesModel", name := "group", desc := "(Z)V" } : Jvm.MethodName)) ∈ lw_tbl := lw_at lw_m13 0 rfl
theorem q2989 : (Jvm.Cond.instanceMethod ({ cls := "StreamNodesModel", name := "group", desc := "(Z)V" } : Jvm.MethodName)) ∈ lw_all := lw_g (lw_at lw_m13 1 rfl) rfl
theorem q2990 : (Jvm.Cond.code ({ cls := "StreamNodesModel", name := "group", desc := "(Z)V" } : Jvm.MethodName) prog_26_method_23_code (8 : Nat) (Option.none : Option Jvm.ClassFile.FieldType)) ∈ lw_all := lw_g (lw_at lw_m13 2 rfl) rfl
theorem q2991 : (Jvm.Cond.methodLink "StreamNodesModel" (376 : Nat) ({ cls := "StreamNodesModel", name := "variableHere", desc := "(I)I" } : Jvm.MethodName)) ∈ lw_all := lw_g (lw_at lw_m13 3 rfl) rfl
theorem q2992 : (Jvm.Cond.privateMethod ({ cls := "StreamNodesModel", name := "variableHere", desc := "(I)I" } : Jvm.MethodName)) ∈ lw_tbl := lw_at lw_m13 4 rfl
theorem q2993 : (Jvm.Cond.instanceMethod ({ cls := "StreamNodesModel", name := "variableHere", desc := "(I)I" } : Jvm.MethodName)) ∈ lw_all := lw_g (lw_at lw_m13 5 rfl) rfl
theorem q2994 : (Jvm.Cond.code ({ cls := "StreamNodesModel", name := "variableHere", desc := "(I)I" } : Jvm.MethodName) prog_26_method_21_code (3 : Nat) (Option.some Jvm.ClassFile.FieldType.int)) ∈ lw_all := lw_g (lw_at lw_m13 6 rfl) rfl
theorem q2995 : (Jvm.Cond.methodLink "StreamNodesModel" (383 : Nat) ({ cls := "StreamNodesModel", name := "shallow", desc := "(I)V" } : Jvm.MethodName)) ∈ lw_all := lw_g (lw_at lw_m13 7 rfl) rfl
theorem q2996 : (Jvm.Cond.privateMethod ({ cls := "StreamNodesModel", name := "shallow", desc := "(I)V" } : Jvm.MethodName)) ∈ lw_tbl := lw_at lw_m13 8 rfl
theorem q2997 : (Jvm.Cond.instanceMethod ({ cls := "StreamNodesModel", name := "shallow", desc := "(I)V" } : Jvm.MethodName)) ∈ lw_all := lw_g (lw_at lw_m13 9 rfl) rfl
theorem q2998 : (Jvm.Cond.code ({ cls := "StreamNodesModel", name := "shallow", desc := "(I)V" } : Jvm.MethodName) prog_26_method_24_code (4 : Nat) (Option.none : Option Jvm.ClassFile.FieldType)) ∈ lw_all := lw_g (lw_at lw_m13 10 rfl) rfl
theorem q2999 : (Jvm.Cond.methodLink "StreamNodesModel" (400 : Nat) ({ cls := "StreamNodesModel", name := "equation", desc := "()V" } : Jvm.MethodName)) ∈ lw_all := lw_g (lw_at lw_m13 11 rfl) rfl
theorem q3000 : (Jvm.Cond.privateMethod ({ cls := "StreamNodesModel", name := "equation", desc := "()V" } : Jvm.MethodName)) ∈ lw_tbl := lw_at lw_m13 12 rfl
theorem q3001 : (Jvm.Cond.instanceMethod ({ cls := "StreamNodesModel", name := "equation", desc := "()V" } : Jvm.MethodName)) ∈ lw_all := lw_g (lw_at lw_m13 13 rfl) rfl
theorem q3002 : (Jvm.Cond.code ({ cls := "StreamNodesModel", name := "equation", desc := "()V" } : Jvm.MethodName) prog_26_method_28_code (2 : Nat) (Option.none : Option Jvm.ClassFile.FieldType)) ∈ lw_all := lw_g (lw_at lw_m13 14 rfl) rfl
theorem q3003 : (Jvm.Cond.methodLink "StreamNodesModel" (406 : Nat) ({ cls := "StreamNodesModel", name := "left", desc := "()I" } : Jvm.MethodName)) ∈ lw_all := lw_g (lw_at lw_m13 15 rfl) rfl
theorem q3004 : (Jvm.Cond.privateMethod ({ cls := "StreamNodesModel", name := "left", desc := "()I" } : Jvm.MethodName)) ∈ lw_tbl := lw_at lw_m13 16 rfl
theorem q3005 : (Jvm.Cond.instanceMethod ({ cls := "StreamNodesModel", name := "left", desc := "()I" } : Jvm.MethodName)) ∈ lw_all := lw_g (lw_at lw_m13 17 rfl) rfl
theorem q3006 : (Jvm.Cond.code ({ cls := "StreamNodesModel", name := "left", desc := "()I" } : Jvm.MethodName) prog_26_method_27_code (2 : Nat) (Option.some Jvm.ClassFile.FieldType.int)) ∈ lw_all := lw_g (lw_at lw_m13 18 rfl) rfl
theorem q3007 : (Jvm.Cond.methodLink "StreamNodesModel" (409 : Nat) ({ cls := "StreamNodesModel", name := "expression", desc := "(I)I" } : Jvm.MethodName)) ∈ lw_all := lw_g (lw_at lw_m13 19 rfl) rfl
theorem q3008 : (Jvm.Cond.privateMethod ({ cls := "StreamNodesModel", name := "expression", desc := "(I)I" } : Jvm.MethodName)) ∈ lw_tbl := lw_at lw_m13 20 rfl
theorem q3009 : (Jvm.Cond.instanceMethod ({ cls := "StreamNodesModel", name := "expression", desc := "(I)I" } : Jvm.MethodName)) ∈ lw_all := lw_g (lw_at lw_m13 21 rfl) rfl
theorem q3010 : (Jvm.Cond.code ({ cls := "StreamNodesModel", name := "expression", desc := "(I)I" } : Jvm.MethodName) prog_26_method_32_code (3 : Nat) (Option.some Jvm.ClassFile.FieldType.int)) ∈ lw_all := lw_g (lw_at lw_m13 22 rfl) rfl
theorem q3011 : (Jvm.Cond.methodLink "StreamNodesModel" (424 : Nat) ({ cls := "StreamNodesModel", name := "nest", desc := "(I)I" } : Jvm.MethodName)) ∈ lw_all := lw_g (lw_at lw_m13 23 rfl) rfl
theorem q3012 : (Jvm.Cond.privateMethod ({ cls := "StreamNodesModel", name := "nest", desc := "(I)I" } : Jvm.MethodName)) ∈ lw_tbl := lw_at lw_m13 24 rfl
theorem q3013 : (Jvm.Cond.instanceMethod ({ cls := "StreamNodesModel", name := "nest", desc := "(I)I" } : Jvm.MethodName)) ∈ lw_all := lw_g (lw_at lw_m13 25 rfl) rfl
theorem q3014 : (Jvm.Cond.code ({ cls := "StreamNodesModel", name := "nest", desc := "(I)I" } : Jvm.MethodName) prog_26_method_19_code (2 : Nat) (Option.some Jvm.ClassFile.FieldType.int)) ∈ lw_all := lw_g (lw_at lw_m13 26 rfl) rfl
theorem q3015 : (Jvm.Cond.methodLink "StreamNodesModel" (420 : Nat) ({ cls := "StreamNodesModel", name := "make", desc := "(IIII)I" } : Jvm.MethodName)) ∈ lw_all := lw_g (lw_at lw_m13 27 rfl) rfl
theorem q3016 : (Jvm.Cond.privateMethod ({ cls := "StreamNodesModel", name := "make", desc := "(IIII)I" } : Jvm.MethodName)) ∈ lw_tbl := lw_at lw_m13 28 rfl
theorem q3017 : (Jvm.Cond.instanceMethod ({ cls := "StreamNodesModel", name := "make", desc := "(IIII)I" } : Jvm.MethodName)) ∈ lw_all := lw_g (lw_at lw_m13 29 rfl) rfl
theorem q3018 : (Jvm.Cond.code ({ cls := "StreamNodesModel", name := "make", desc := "(IIII)I" } : Jvm.MethodName) prog_26_method_29_code (7 : Nat) (Option.some Jvm.ClassFile.FieldType.int)) ∈ lw_all := lw_g (lw_at lw_m13 30 rfl) rfl
theorem q3019 : (Jvm.Cond.methodLink "StreamNodesModel" (415 : Nat) ({ cls := "java/lang/Math", name := "max", desc := "(II)I" } : Jvm.MethodName)) ∈ lw_all := lw_g (lw_at lw_m13 31 rfl) rfl
theorem q3020 : (Jvm.Cond.methodLink "StreamNodesModel" (427 : Nat) ({ cls := "StreamNodesModel", name := "implied", desc := "(I)I" } : Jvm.MethodName)) ∈ lw_all := lw_g (lw_at lw_m13 32 rfl) rfl
theorem q3021 : (Jvm.Cond.privateMethod ({ cls := "StreamNodesModel", name := "implied", desc := "(I)I" } : Jvm.MethodName)) ∈ lw_tbl := lw_at lw_m13 33 rfl
theorem q3022 : (Jvm.Cond.instanceMethod ({ cls := "StreamNodesModel", name := "implied", desc := "(I)I" } : Jvm.MethodName)) ∈ lw_all := lw_g (lw_at lw_m13 34 rfl) rfl
theorem q3023 : (Jvm.Cond.code ({ cls := "StreamNodesModel", name := "implied", desc := "(I)I" } : Jvm.MethodName) prog_26_method_33_code (3 : Nat) (Option.some Jvm.ClassFile.FieldType.int)) ∈ lw_all := lw_g (lw_at lw_m13 35 rfl) rfl
theorem q3024 : (Jvm.Cond.methodLink "StreamNodesModel" (434 : Nat) ({ cls := "StreamNodesModel", name := "either", desc := "(I)I" } : Jvm.MethodName)) ∈ lw_all := lw_g (lw_at lw_m13 36 rfl) rfl
theorem q3025 : (Jvm.Cond.privateMethod ({ cls := "StreamNodesModel", name := "either", desc := "(I)I" } : Jvm.MethodName)) ∈ lw_tbl := lw_at lw_m13 37 rfl
theorem q3026 : (Jvm.Cond.instanceMethod ({ cls := "StreamNodesModel", name := "either", desc := "(I)I" } : Jvm.MethodName)) ∈ lw_all := lw_g (lw_at lw_m13 38 rfl) rfl
theorem q3027 : (Jvm.Cond.code ({ cls := "StreamNodesModel", name := "either", desc := "(I)I" } : Jvm.MethodName) prog_26_method_34_code (5 : Nat) (Option.some Jvm.ClassFile.FieldType.int)) ∈ lw_all := lw_g (lw_at lw_m13 39 rfl) rfl
theorem q3028 : (Jvm.Cond.methodLink "StreamNodesModel" (437 : Nat) ({ cls := "StreamNodesModel", name := "both", desc := "(I)I" } : Jvm.MethodName)) ∈ lw_all := lw_g (lw_at lw_m13 40 rfl) rfl
theorem q3029 : (Jvm.Cond.privateMethod ({ cls := "StreamNodesModel", name := "both", desc := "(I)I" } : Jvm.MethodName)) ∈ lw_tbl := lw_at lw_m13 41 rfl
theorem q3030 : (Jvm.Cond.instanceMethod ({ cls := "StreamNodesModel", name := "both", desc := "(I)I" } : Jvm.MethodName)) ∈ lw_all := lw_g (lw_at lw_m13 42 rfl) rfl
theorem q3031 : (Jvm.Cond.code ({ cls := "StreamNodesModel", name := "both", desc := "(I)I" } : Jvm.MethodName) prog_26_method_35_code (4 : Nat) (Option.some Jvm.ClassFile.FieldType.int)) ∈ lw_all := lw_g (lw_at lw_m13 43 rfl) rfl
theorem q3032 : (Jvm.Cond.methodLink "StreamNodesModel" (440 : Nat) ({ cls := "StreamNodesModel", name := "compared", desc := "(I)I" } : Jvm.MethodName)) ∈ lw_all := lw_g (lw_at lw_m13 44 rfl) rfl
theorem q3033 : (Jvm.Cond.privateMethod ({ cls := "StreamNodesModel", name := "compared", desc := "(I)I" } : Jvm.MethodName)) ∈ lw_tbl := lw_at lw_m13 45 rfl
theorem q3034 : (Jvm.Cond.instanceMethod ({ cls := "StreamNodesModel", name := "compared", desc := "(I)I" } : Jvm.MethodName)) ∈ lw_all := lw_g (lw_at lw_m13 46 rfl) rfl
theorem q3035 : (Jvm.Cond.code ({ cls := "StreamNodesModel", name := "compared", desc := "(I)I" } : Jvm.MethodName) prog_26_method_36_code (6 : Nat) (Option.some Jvm.ClassFile.FieldType.int)) ∈ lw_all := lw_g (lw_at lw_m13 47 rfl) rfl
theorem q3036 : (Jvm.Cond.methodLink "StreamNodesModel" (443 : Nat) ({ cls := "StreamNodesModel", name := "sum", desc := "(I)I" } : Jvm.MethodName)) ∈ lw_all := lw_g (lw_at lw_m13 48 rfl) rfl
theorem q3037 : (Jvm.Cond.privateMethod ({ cls := "StreamNodesModel", name := "sum", desc := "(I)I" } : Jvm.MethodName)) ∈ lw_tbl := lw_at lw_m13 49 rfl
theorem q3038 : (Jvm.Cond.instanceMethod ({ cls := "StreamNodesModel", name := "sum", desc := "(I)I" } : Jvm.MethodName)) ∈ lw_all := lw_g (lw_at lw_m13 50 rfl) rfl
theorem q3039 : (Jvm.Cond.code ({ cls := "StreamNodesModel", name := "sum", desc := "(I)I" } : Jvm.MethodName) prog_26_method_37_code (5 : Nat) (Option.some Jvm.ClassFile.FieldType.int)) ∈ lw_all := lw_g (lw_at lw_m13 51 rfl) rfl
theorem q3040 : (Jvm.Cond.methodLink "StreamNodesModel" (446 : Nat) ({ cls := "StreamNodesModel", name := "product", desc := "(I)I" } : Jvm.MethodName)) ∈ lw_all := lw_g (lw_at lw_m13 52 rfl) rfl
theorem q3041 : (Jvm.Cond.privateMethod ({ cls := "StreamNodesModel", name := "product", desc := "(I)I" } : Jvm.MethodName)) ∈ lw_tbl := lw_at lw_m13 53 rfl
theorem q3042 : (Jvm.Cond.instanceMethod ({ cls := "StreamNodesModel", name := "product", desc := "(I)I" } : Jvm.MethodName)) ∈ lw_all := lw_g (lw_at lw_m13 54 rfl) rfl
theorem q3043 : (Jvm.Cond.code ({ cls := "StreamNodesModel", name := "product", desc := "(I)I" } : Jvm.MethodName) prog_26_method_38_code (5 : Nat) (Option.some Jvm.ClassFile.FieldType.int)) ∈ lw_all := lw_g (lw_at lw_m13 55 rfl) rfl
theorem q3044 : (Jvm.Cond.methodLink "StreamNodesModel" (449 : Nat) ({ cls := "StreamNodesModel", name := "unary", desc := "(I)I" } : Jvm.MethodName)) ∈ lw_all := lw_g (lw_at lw_m13 56 rfl) rfl
theorem q3045 : (Jvm.Cond.privateMethod ({ cls := "StreamNodesModel", name := "unary", desc := "(I)I" } : Jvm.MethodName)) ∈ lw_tbl := lw_at lw_m13 57 rfl
theorem q3046 : (Jvm.Cond.instanceMethod ({ cls := "StreamNodesModel", name := "unary", desc := "(I)I" } : Jvm.MethodName)) ∈ lw_all := lw_g (lw_at lw_m13 58 rfl) rfl
theorem q3047 : (Jvm.Cond.code ({ cls := "StreamNodesModel", name := "unary", desc := "(I)I" } : Jvm.MethodName) prog_26_method_39_code (6 : Nat) (Option.some Jvm.ClassFile.FieldType.int)) ∈ lw_all := lw_g (lw_at lw_m13 59 rfl) rfl
theorem q3048 : (Jvm.Cond.methodLink "StreamNodesModel" (452 : Nat) ({ cls := "StreamNodesModel", name := "atom", desc := "(I)I" } : Jvm.MethodName)) ∈ lw_all := lw_g (lw_at lw_m13 60 rfl) rfl
theorem q3049 : (Jvm.Cond.privateMethod ({ cls := "StreamNodesModel", name := "atom", desc := "(I)I" } : Jvm.MethodName)) ∈ lw_tbl := lw_at lw_m13 61 rfl
theorem q3050 : (Jvm.Cond.instanceMethod ({ cls := "StreamNodesModel", name := "atom", desc := "(I)I" } : Jvm.MethodName)) ∈ lw_all := lw_g (lw_at lw_m13 62 rfl) rfl
theorem q3051 : (Jvm.Cond.code ({ cls := "StreamNodesModel", name := "atom", desc := "(I)I" } : Jvm.MethodName) prog_26_method_40_code (5 : Nat) (Option.some Jvm.ClassFile.FieldType.int)) ∈ lw_all := lw_g (lw_at lw_m13 63 rfl) rfl
theorem q3052 : (Jvm.Cond.methodLink "StreamNodesModel" (412 : Nat) ({ cls := "StreamNodesModel", name := "call", desc := "(II)I" } : Jvm.MethodName)) ∈ lw_all := lw_g (lw_at lw_m13 64 rfl) rfl
theorem q3053 : (Jvm.Cond.privateMethod ({ cls := "StreamNodesModel", name := "call", desc := "(II)I" } : Jvm.MethodName)) ∈ lw_tbl := lw_at lw_m13 65 rfl
theorem q3054 : (Jvm.Cond.instanceMethod ({ cls := "StreamNodesModel", name := "call", desc := "(II)I" } : Jvm.MethodName)) ∈ lw_all := lw_g (lw_at lw_m13 66 rfl) rfl
theorem q3055 : (Jvm.Cond.code ({ cls := "StreamNodesModel", name := "call", desc := "(II)I" } : Jvm.MethodName) prog_26_method_31_code (6 : Nat) (Option.some Jvm.ClassFile.FieldType.int)) ∈ lw_all := lw_g (lw_at lw_m13 67 rfl) rfl
theorem q3056 : (Jvm.Cond.methodLink "StreamNodesModel" (430 : Nat) ({ cls := "StreamNodesModel", name := "two", desc := "(III)I" } : Jvm.MethodName)) ∈ lw_all := lw_g (lw_at lw_m13 68 rfl) rfl
theorem q3057 : (Jvm.Cond.privateMethod ({ cls := "StreamNodesModel", name := "two", desc := "(III)I" } : Jvm.MethodName)) ∈ lw_tbl := lw_at lw_m13 69 rfl
theorem q3058 : (Jvm.Cond.instanceMethod ({ cls := "StreamNodesModel", name := "two", desc := "(III)I" } : Jvm.MethodName)) ∈ lw_all := lw_g (lw_at lw_m13 70 rfl) rfl
theorem q3059 : (Jvm.Cond.code ({ cls := "StreamNodesModel", name := "two", desc := "(III)I" } : Jvm.MethodName) prog_26_method_30_code (4 : Nat) (Option.some Jvm.ClassFile.FieldType.int)) ∈ lw_all := lw_g (lw_at lw_m13 71 rfl) rfl
theorem q3060 : (Jvm.Cond.methodLink "StreamNodesModel" (403 : Nat) ({ cls := "StreamNodesModel", name := "judge", desc := "(I)V" } : Jvm.MethodName)) ∈ lw_all := lw_g (lw_at lw_m13 72 rfl) rfl
theorem q3061 : (Jvm.Cond.privateMethod ({ cls := "StreamNodesModel", name := "judge", desc := "(I)V" } : Jvm.MethodName)) ∈ lw_tbl := lw_at lw_m13 73 rfl
theorem q3062 : (Jvm.Cond.instanceMethod ({ cls := "StreamNodesModel", name := "judge", desc := "(I)V" } : Jvm.MethodName)) ∈ lw_all := lw_g (lw_at lw_m13 74 rfl) rfl
theorem q3063 : (Jvm.Cond.code ({ cls := "StreamNodesModel", name := "judge", desc := "(I)V" } : Jvm.MethodName) prog_26_method_44_code (7 : Nat) (Option.none : Option Jvm.ClassFile.FieldType)) ∈ lw_all := lw_g (lw_at lw_m13 75 rfl) rfl
theorem q3064 : (Jvm.Cond.methodLink "StreamNodesModel" (455 : Nat) ({ cls := "StreamNodesModel", name := "look", desc := "(II)V" } : Jvm.MethodName)) ∈ lw_all := lw_g (lw_at lw_m13 76 rfl) rfl
theorem q3065 : (Jvm.Cond.privateMethod ({ cls := "StreamNodesModel", name := "look", desc := "(II)V" } : Jvm.MethodName)) ∈ lw_tbl := lw_at lw_m13 77 rfl
theorem q3066 : (Jvm.Cond.instanceMethod ({ cls := "StreamNodesModel", name := "look", desc := "(II)V" } : Jvm.MethodName)) ∈ lw_all := lw_g (lw_at lw_m13 78 rfl) rfl
theorem q3067 : (Jvm.Cond.code ({ cls := "StreamNodesModel", name := "look", desc := "(II)V" } : Jvm.MethodName) prog_26_method_45_code (9 : Nat) (Option.none : Option Jvm.ClassFile.FieldType)) ∈ lw_all := lw_g (lw_at lw_m13 79 rfl) rfl
theorem q3068 : (Jvm.Cond.methodLink "StreamNodesModel" (458 : Nat) ({ cls := "StreamNodesModel", name := "type", desc := "(Z)V" } : Jvm.MethodName)) ∈ lw_all := lw_g (lw_at lw_m13 80 rfl) rfl
theorem q3069 : (Jvm.Cond.privateMethod ({ cls := "StreamNodesModel", name := "type", desc := "(Z)V" } : Jvm.MethodName)) ∈ lw_tbl := lw_at lw_m13 81 rfl
theorem q3070 : (Jvm.Cond.instanceMethod ({ cls := "StreamNodesModel", name := "type", desc := "(Z)V" } : Jvm.MethodName)) ∈ lw_all := lw_g (lw_at lw_m13 82 rfl) rfl
theorem q3071 : (Jvm.Cond.code ({ cls := "StreamNodesModel", name := "type", desc := "(Z)V" } : Jvm.MethodName) prog_26_method_41_code (2 : Nat) (Option.none : Option Jvm.ClassFile.FieldType)) ∈ lw_all := lw_g (lw_at lw_m13 83 rfl) rfl
theorem q3072 : (Jvm.Cond.methodLink "StreamNodesModel" (461 : Nat) ({ cls := "StreamNodesModel", name := "lookAtClock", desc := "(I)V" } : Jvm.MethodName)) ∈ lw_all := lw_g (lw_at lw_m13 84 rfl) rfl
theorem q3073 : (Jvm.Cond.privateMethod ({ cls := "StreamNodesModel", name := "lookAtClock", desc := "(I)V" } : Jvm.MethodName)) ∈ lw_tbl := lw_at lw_m13 85 rfl
theorem q3074 : (Jvm.Cond.instanceMethod ({ cls := "StreamNodesModel", name := "lookAtClock", desc := "(I)V" } : Jvm.MethodName)) ∈ lw_all := lw_g (lw_at lw_m13 86 rfl) rfl
theorem q3075 : (Jvm.Cond.code ({ cls := "StreamNodesModel", name := "lookAtClock", desc := "(I)V" } : Jvm.MethodName) prog_26_method_46_code (5 : Nat) (Option.none : Option Jvm.ClassFile.FieldType)) ∈ lw_all := lw_g (lw_at lw_m13 87 rfl) rfl
theorem q3076 : (Jvm.Cond.methodLink "StreamNodesModel" (464 : Nat) ({ cls := "StreamNodesModel", name := "clockOfVariable", desc := "(I)I" } : Jvm.MethodName)) ∈ lw_all := lw_g (lw_at lw_m13 88 rfl) rfl
theorem q3077 : (Jvm.Cond.privateMethod ({ cls := "StreamNodesModel", name := "clockOfVariable", desc := "(I)I" } : Jvm.MethodName)) ∈ lw_tbl := lw_at lw_m13 89 rfl
theorem q3078 : (Jvm.Cond.instanceMethod ({ cls := "StreamNodesModel", name := "clockOfVariable", desc := "(I)I" } : Jvm.MethodName)) ∈ lw_all := lw_g (lw_at lw_m13 90 rfl) rfl
theorem q3079 : (Jvm.Cond.code ({ cls := "StreamNodesModel", name := "clockOfVariable", desc := "(I)I" } : Jvm.MethodName) prog_26_method_43_code (2 : Nat) (Option.some Jvm.ClassFile.FieldType.int)) ∈ lw_all := lw_g (lw_at lw_m13 91 rfl) rfl
theorem q3080 : (Jvm.Cond.methodLink "StreamNodesModel" (467 : Nat) ({ cls := "StreamNodesModel", name := "together", desc := "(II)I" } : Jvm.MethodName)) ∈ lw_all := lw_g (lw_at lw_m13 92 rfl) rfl
theorem q3081 : (Jvm.Cond.privateMethod ({ cls := "StreamNodesModel", name := "together", desc := "(II)I" } : Jvm.MethodName)) ∈ lw_tbl := lw_at lw_m13 93 rfl
theorem q3082 : (Jvm.Cond.instanceMethod ({ cls := "StreamNodesModel", name := "together", desc := "(II)I" } : Jvm.MethodName)) ∈ lw_all := lw_g (lw_at lw_m13 94 rfl) rfl
theorem q3083 : (Jvm.Cond.code ({ cls := "StreamNodesModel", name := "together", desc := "(II)I" } : Jvm.MethodName) prog_26_method_42_code (3 : Nat) (Option.some Jvm.ClassFile.FieldType.int)) ∈ lw_all := lw_g (lw_at lw_m13 95 rfl) rfl
theorem q3084 : (Jvm.Cond.methodLink "StreamNodesModel" (503 : Nat) ({ cls := "StreamNodesModel", name := "around", desc := "(I)V" } : Jvm.MethodName)) ∈ lw_all := lw_g (lw_at lw_m13 96 rfl) rfl
theorem q3085 : (Jvm.Cond.privateMethod ({ cls := "StreamNodesModel", name := "around", desc := "(I)V" } : Jvm.MethodName)) ∈ lw_tbl := lw_at lw_m13 97 rfl
theorem q3086 : (Jvm.Cond.instanceMethod ({ cls := "StreamNodesModel", name := "around", desc := "(I)V" } : Jvm.MethodName)) ∈ lw_all := lw_g (lw_at lw_m13 98 rfl) rfl
theorem q3087 : (Jvm.Cond.code ({ cls := "StreamNodesModel", name := "around", desc := "(I)V" } : Jvm.MethodName) prog_26_method_47_code (9 : Nat) (Option.none : Option Jvm.ClassFile.FieldType)) ∈ lw_all := lw_g (lw_at lw_m13 99 rfl) rfl
theorem q3088 : (Jvm.Cond.methodLink "StreamNodesModel" (506 : Nat) ({ cls := "StreamNodesModel", name := "countParts", desc := "(I)V" } : Jvm.MethodName)) ∈ lw_all := lw_g (lw_at lw_m13 100 rfl) rfl
theorem q3089 : (Jvm.Cond.privateMethod ({ cls := "StreamNodesModel", name := "countParts", desc := "(I)V" } : Jvm.MethodName)) ∈ lw_tbl := lw_at lw_m13 101 rfl
theorem q3090 : (Jvm.Cond.instanceMethod ({ cls := "StreamNodesModel", name := "countParts", desc := "(I)V" } : Jvm.MethodName)) ∈ lw_all := lw_g (lw_at lw_m13 102 rfl) rfl
theorem q3091 : (Jvm.Cond.code ({ cls := "StreamNodesModel", name := "countParts", desc := "(I)V" } : Jvm.MethodName) prog_26_method_48_code (5 : Nat) (Option.none : Option Jvm.ClassFile.FieldType)) ∈ lw_all := lw_g (lw_at lw_m13 103 rfl) rfl
theorem q3092 : (Jvm.Cond.constant "StreamNodesModel" (470 : Nat) (100000 : Int32)) ∈ lw_all := lw_g (lw_at lw_m13 104 rfl) rfl
theorem q3093 : (Jvm.Cond.methodLink "StreamNodesModel" (471 : Nat) ({ cls := "java/lang/Math", name := "min", desc := "(II)I" } : Jvm.MethodName)) ∈ lw_all := lw_g (lw_at lw_m13 105 rfl) rfl
theorem q3094 : (Jvm.Cond.methodLink "StreamNodesModel" (474 : Nat) ({ cls := "StreamNodesModel", name := "putIn", desc := "(III)I" } : Jvm.MethodName)) ∈ lw_all := lw_g (lw_at lw_m13 106 rfl) rfl
theorem q3095 : (Jvm.Cond.privateMethod ({ cls := "StreamNodesModel", name := "putIn", desc := "(III)I" } : Jvm.MethodName)) ∈ lw_tbl := lw_at lw_m13 107 rfl
theorem q3096 : (Jvm.Cond.instanceMethod ({ cls := "StreamNodesModel", name := "putIn", desc := "(III)I" } : Jvm.MethodName)) ∈ lw_all := lw_g (lw_at lw_m13 108 rfl) rfl
theorem q3097 : (Jvm.Cond.code ({ cls := "StreamNodesModel", name := "putIn", desc := "(III)I" } : Jvm.MethodName) prog_26_method_49_code (7 : Nat) (Option.some Jvm.ClassFile.FieldType.int)) ∈ lw_all := lw_g (lw_at lw_m13 109 rfl) rfl
theorem q3098 : (Jvm.Cond.methodLink "StreamNodesModel" (509 : Nat) ({ cls := "StreamNodesModel", name := "causes", desc := "(I)V" } : Jvm.MethodName)) ∈ lw_all := lw_g (lw_at lw_m13 110 rfl) rfl
theorem q3099 : (Jvm.Cond.privateMethod ({ cls := "StreamNodesModel", name := "causes", desc := "(I)V" } : Jvm.MethodName)) ∈ lw_tbl := lw_at lw_m13 111 rfl
theorem q3100 : (Jvm.Cond.instanceMethod ({ cls := "StreamNodesModel", name := "causes", desc := "(I)V" } : Jvm.MethodName)) ∈ lw_all := lw_g (lw_at lw_m13 112 rfl) rfl
theorem q3101 : (Jvm.Cond.code ({ cls := "StreamNodesModel", name := "causes", desc := "(I)V" } : Jvm.MethodName) prog_26_method_55_code (7 : Nat) (Option.none : Option Jvm.ClassFile.FieldType)) ∈ lw_all := lw_g (lw_at lw_m13 113 rfl) rfl
theorem q3102 : (Jvm.Cond.methodLink "StreamNodesModel" (486 : Nat) ({ cls := "StreamNodesModel", name := "clockVariable", desc := "(II)I" } : Jvm.MethodName)) ∈ lw_all := lw_g (lw_at lw_m13 114 rfl) rfl
theorem q3103 : (Jvm.Cond.privateMethod ({ cls := "StreamNodesModel", name := "clockVariable", desc := "(II)I" } : Jvm.MethodName)) ∈ lw_tbl := lw_at lw_m13 115 rfl
theorem q3104 : (Jvm.Cond.instanceMethod ({ cls := "StreamNodesModel", name := "clockVariable", desc := "(II)I" } : Jvm.MethodName)) ∈ lw_all := lw_g (lw_at lw_m13 116 rfl) rfl
theorem q3105 : (Jvm.Cond.code ({ cls := "StreamNodesModel", name := "clockVariable", desc := "(II)I" } : Jvm.MethodName) prog_26_method_53_code (5 : Nat) (Option.some Jvm.ClassFile.FieldType.int)) ∈ lw_all := lw_g (lw_at lw_m13 117 rfl) rfl
theorem q3106 : (Jvm.Cond.methodLink "StreamNodesModel" (480 : Nat) ({ cls := "StreamNodesModel", name := "cause", desc := "(I)V" } : Jvm.MethodName)) ∈ lw_all := lw_g (lw_at lw_m13 118 rfl) rfl
theorem q3107 : (Jvm.Cond.privateMethod ({ cls := "StreamNodesModel", name := "cause", desc := "(I)V" } : Jvm.MethodName)) ∈ lw_tbl := lw_at lw_m13 119 rfl
theorem q3108 : (Jvm.Cond.instanceMethod ({ cls := "StreamNodesModel", name := "cause", desc := "(I)V" } : Jvm.MethodName)) ∈ lw_all := lw_g (lw_at lw_m13 120 rfl) rfl
theorem q3109 : (Jvm.Cond.code ({ cls := "StreamNodesModel", name := "cause", desc := "(I)V" } : Jvm.MethodName) prog_26_method_52_code (2 : Nat) (Option.none : Option Jvm.ClassFile.FieldType)) ∈ lw_all := lw_g (lw_at lw_m13 121 rfl) rfl
theorem q3110 : (Jvm.Cond.methodLink "StreamNodesModel" (489 : Nat) ({ cls := "StreamNodesModel", name := "argument", desc := "(II)I" } : Jvm.MethodName)) ∈ lw_all := lw_g (lw_at lw_m13 122 rfl) rfl
theorem q3111 : (Jvm.Cond.privateMethod ({ cls := "StreamNodesModel", name := "argument", desc := "(II)I" } : Jvm.MethodName)) ∈ lw_tbl := lw_at lw_m13 123 rfl
theorem q3112 : (Jvm.Cond.instanceMethod ({ cls := "StreamNodesModel", name := "argument", desc := "(II)I" } : Jvm.MethodName)) ∈ lw_all := lw_g (lw_at lw_m13 124 rfl) rfl
theorem q3113 : (Jvm.Cond.code ({ cls := "StreamNodesModel", name := "argument", desc := "(II)I" } : Jvm.MethodName) prog_26_method_56_code (5 : Nat) (Option.some Jvm.ClassFile.FieldType.int)) ∈ lw_all := lw_g (lw_at lw_m13 125 rfl) rfl
theorem q3114 : (Jvm.Cond.methodLink "StreamNodesModel" (492 : Nat) ({ cls := "StreamNodesModel", name := "partCauses", desc := "(II)V" } : Jvm.MethodName)) ∈ lw_all := lw_g (lw_at lw_m13 126 rfl) rfl
theorem q3115 : (Jvm.Cond.privateMethod ({ cls := "StreamNodesModel", name := "partCauses", desc := "(II)V" } : Jvm.MethodName)) ∈ lw_tbl := lw_at lw_m13 127 rfl
theorem q3116 : (Jvm.Cond.instanceMethod ({ cls := "StreamNodesModel", name := "partCauses", desc := "(II)V" } : Jvm.MethodName)) ∈ lw_all := lw_g (lw_at lw_m13 128 rfl) rfl
theorem q3117 : (Jvm.Cond.code ({ cls := "StreamNodesModel", name := "partCauses", desc := "(II)V" } : Jvm.MethodName) prog_26_method_54_code (4 : Nat) (Option.none : Option Jvm.ClassFile.FieldType)) ∈ lw_all := lw_g (lw_at lw_m13 129 rfl) rfl
theorem q3118 : (Jvm.Cond.methodLink "StreamNodesModel" (483 : Nat) ({ cls := "StreamNodesModel", name := "output", desc := "(III)I" } : Jvm.MethodName)) ∈ lw_all := lw_g (lw_at lw_m13 130 rfl) rfl
theorem q3119 : (Jvm.Cond.privateMethod ({ cls := "StreamNodesModel", name := "output", desc := "(III)I" } : Jvm.MethodName)) ∈ lw_tbl := lw_at lw_m13 131 rfl
theorem q3120 : (Jvm.Cond.instanceMethod ({ cls := "StreamNodesModel", name := "output", desc := "(III)I" } : Jvm.MethodName)) ∈ lw_all := lw_g (lw_at lw_m13 132 rfl) rfl
theorem q3121 : (Jvm.Cond.code ({ cls := "StreamNodesModel", name := "output", desc := "(III)I" } : Jvm.MethodName) prog_26_method_51_code (4 : Nat) (Option.some Jvm.ClassFile.FieldType.int)) ∈ lw_all := lw_g (lw_at lw_m13 133 rfl) rfl
theorem q3122 : (Jvm.Cond.methodLink "StreamNodesModel" (477 : Nat) ({ cls := "StreamNodesModel", name := "child", desc := "(II)I" } : Jvm.MethodName)) ∈ lw_all := lw_g (lw_at lw_m13 134 rfl) rfl
theorem q3123 : (Jvm.Cond.privateMethod ({ cls := "StreamNodesModel", name := "child", desc := "(II)I" } : Jvm.MethodName)) ∈ lw_tbl := lw_at lw_m13 135 rfl
theorem q3124 : (Jvm.Cond.instanceMethod ({ cls := "StreamNodesModel", name := "child", desc := "(II)I" } : Jvm.MethodName)) ∈ lw_all := lw_g (lw_at lw_m13 136 rfl) rfl
theorem q3125 : (Jvm.Cond.code ({ cls := "StreamNodesModel", name := "child", desc := "(II)I" } : Jvm.MethodName) prog_26_method_50_code (3 : Nat) (Option.some Jvm.ClassFile.FieldType.int)) ∈ lw_all := lw_g (lw_at lw_m13 137 rfl) rfl
theorem q3126 : (Jvm.Cond.methodLink "StreamNodesModel" (512 : Nat) ({ cls := "StreamNodesModel", name := "ordered", desc := "()V" } : Jvm.MethodName)) ∈ lw_all := lw_g (lw_at lw_m13 138 rfl) rfl
theorem q3127 : (Jvm.Cond.privateMethod ({ cls := "StreamNodesModel", name := "ordered", desc := "()V" } : Jvm.MethodName)) ∈ lw_tbl := lw_at lw_m13 139 rfl
theorem q3128 : (Jvm.Cond.instanceMethod ({ cls := "StreamNodesModel", name := "ordered", desc := "()V" } : Jvm.MethodName)) ∈ lw_all := lw_g (lw_at lw_m13 140 rfl) rfl
theorem q3129 : (Jvm.Cond.code ({ cls := "StreamNodesModel", name := "ordered", desc := "()V" } : Jvm.MethodName) prog_26_method_58_code (6 : Nat) (Option.none : Option Jvm.ClassFile.FieldType)) ∈ lw_all := lw_g (lw_at lw_m13 141 rfl) rfl
theorem q3130 : (Jvm.Cond.methodLink "StreamNodesModel" (495 : Nat) ({ cls := "StreamNodesModel", name := "caused", desc := "(II)Z" } : Jvm.MethodName)) ∈ lw_all := lw_g (lw_at lw_m13 142 rfl) rfl
theorem q3131 : (Jvm.Cond.privateMethod ({ cls := "StreamNodesModel", name := "caused", desc := "(II)Z" } : Jvm.MethodName)) ∈ lw_tbl := lw_at lw_m13 143 rfl
theorem q3132 : (Jvm.Cond.instanceMethod ({ cls := "StreamNodesModel", name := "caused", desc := "(II)Z" } : Jvm.MethodName)) ∈ lw_all := lw_g (lw_at lw_m13 144 rfl) rfl
theorem q3133 : (Jvm.Cond.code ({ cls := "StreamNodesModel", name := "caused", desc := "(II)Z" } : Jvm.MethodName) prog_26_method_57_code (7 : Nat) (Option.some Jvm.ClassFile.FieldType.boolean)) ∈ lw_all := lw_g (lw_at lw_m13 145 rfl) rfl
theorem q3134 : (Jvm.Cond.methodLink "StreamNodesModel" (498 : Nat) ({ cls := "StreamNodesModel", name := "placeOfVariable", desc := "(I)I" } : Jvm.MethodName)) ∈ lw_all := lw_g (lw_at lw_m13 146 rfl) rfl
theorem q3135 : (Jvm.Cond.privateMethod ({ cls := "StreamNodesModel", name := "placeOfVariable", desc := "(I)I" } : Jvm.MethodName)) ∈ lw_tbl := lw_at lw_m13 147 rfl
theorem q3136 : (Jvm.Cond.instanceMethod ({ cls := "StreamNodesModel", name := "placeOfVariable", desc := "(I)I" } : Jvm.MethodName)) ∈ lw_all := lw_g (lw_at lw_m13 148 rfl) rfl
theorem q3137 : (Jvm.Cond.code ({ cls := "StreamNodesModel", name := "placeOfVariable", desc := "(I)I" } : Jvm.MethodName) prog_26_method_59_code (6 : Nat) (Option.some Jvm.ClassFile.FieldType.int)) ∈ lw_all := lw_g (lw_at lw_m13 149 rfl) rfl
theorem q3138 : (Jvm.Cond.methodLink "StreamNodesModel" (521 : Nat) ({ cls := "java/util/Arrays", name := "fill", desc := "([II)V" } : Jvm.MethodName)) ∈ lw_all := lw_g (lw_at lw_m13 150 rfl) rfl
theorem q3142 : (Jvm.Cond.instanceMethod ({ cls := "StreamNodesModel", name := "fault", desc := "(I)I" } : Jvm.MethodName)) ∈ lw_all := lw_g (lw_at lw_m13 154 rfl) rfl
theorem q3143 : (Jvm.Cond.selects "StreamNodesModel" ({ cls := "StreamNodesModel", name := "fault", desc := "(I)I" } : Jvm.MethodName) ({ cls := "StreamNodesModel", name := "fault", desc := "(I)I" } : Jvm.MethodName)) ∈ lw_all := lw_g (lw_at lw_m13 155 rfl) rfl
theorem q3144 : (Jvm.Cond.code ({ cls := "StreamNodesModel", name := "fault", desc := "(I)I" } : Jvm.MethodName) prog_26_method_61_code (2 : Nat) (Option.some Jvm.ClassFile.FieldType.int)) ∈ lw_all := lw_g (lw_at lw_m13 156 rfl) rfl
theorem q3146 : (Jvm.Cond.instanceMethod ({ cls := "StreamNodesModel", name := "tick", desc := "(I)I" } : Jvm.MethodName)) ∈ lw_all := lw_g (lw_at lw_m13 158 rfl) rfl
theorem q3147 : (Jvm.Cond.selects "StreamNodesModel" ({ cls := "StreamNodesModel", name := "tick", desc := "(I)I" } : Jvm.MethodName) ({ cls := "StreamNodesModel", name := "tick", desc := "(I)I" } : Jvm.MethodName)) ∈ lw_all := lw_g (lw_at lw_m13 159 rfl) rfl
theorem q3148 : (Jvm.Cond.code ({ cls := "StreamNodesModel", name := "tick", desc := "(I)I" } : Jvm.MethodName) prog_26_method_69_code (3 : Nat) (Option.some Jvm.ClassFile.FieldType.int)) ∈ lw_all := lw_g (lw_at lw_m13 160 rfl) rfl
theorem q3149 : (Jvm.Cond.methodLink "StreamNodesModel" (551 : Nat) ({ cls := "StreamNodesModel", name := "instant", desc := "()V" } : Jvm.MethodName)) ∈ lw_all := lw_g (lw_at lw_m13 161 rfl) rfl
theorem q3150 : (Jvm.Cond.privateMethod ({ cls := "StreamNodesModel", name := "instant", desc := "()V" } : Jvm.MethodName)) ∈ lw_tbl := lw_at lw_m13 162 rfl
theorem q3151 : (Jvm.Cond.instanceMethod ({ cls := "StreamNodesModel", name := "instant", desc := "()V" } : Jvm.MethodName)) ∈ lw_all := lw_g (lw_at lw_m13 163 rfl) rfl
theorem q3152 : (Jvm.Cond.code ({ cls := "StreamNodesModel", name := "instant", desc := "()V" } : Jvm.MethodName) prog_26_method_67_code (7 : Nat) (Option.none : Option Jvm.ClassFile.FieldType)) ∈ lw_all := lw_g (lw_at lw_m13 164 rfl) rfl
theorem q3153 : (Jvm.Cond.methodLink "StreamNodesModel" (527 : Nat) ({ cls := "StreamNodesModel", name := "present", desc := "(II)Z" } : Jvm.MethodName)) ∈ lw_all := lw_g (lw_at lw_m13 165 rfl) rfl
theorem q3154 : (Jvm.Cond.privateMethod ({ cls := "StreamNodesModel", name := "present", desc := "(II)Z" } : Jvm.MethodName)) ∈ lw_tbl := lw_at lw_m13 166 rfl
theorem q3155 : (Jvm.Cond.instanceMethod ({ cls := "StreamNodesModel", name := "present", desc := "(II)Z" } : Jvm.MethodName)) ∈ lw_all := lw_g (lw_at lw_m13 167 rfl) rfl
theorem q3156 : (Jvm.Cond.code ({ cls := "StreamNodesModel", name := "present", desc := "(II)Z" } : Jvm.MethodName) prog_26_method_62_code (4 : Nat) (Option.some Jvm.ClassFile.FieldType.boolean)) ∈ lw_all := lw_g (lw_at lw_m13 168 rfl) rfl
theorem q3157 : (Jvm.Cond.methodLink "StreamNodesModel" (539 : Nat) ({ cls := "StreamNodesModel", name := "partOf", desc := "(II)I" } : Jvm.MethodName)) ∈ lw_all := lw_g (lw_at lw_m13 169 rfl) rfl
theorem q3158 : (Jvm.Cond.privateMethod ({ cls := "StreamNodesModel", name := "partOf", desc := "(II)I" } : Jvm.MethodName)) ∈ lw_tbl := lw_at lw_m13 170 rfl
theorem q3159 : (Jvm.Cond.instanceMethod ({ cls := "StreamNodesModel", name := "partOf", desc := "(II)I" } : Jvm.MethodName)) ∈ lw_all := lw_g (lw_at lw_m13 171 rfl) rfl
theorem q3160 : (Jvm.Cond.code ({ cls := "StreamNodesModel", name := "partOf", desc := "(II)I" } : Jvm.MethodName) prog_26_method_66_code (4 : Nat) (Option.some Jvm.ClassFile.FieldType.int)) ∈ lw_all := lw_g (lw_at lw_m13 172 rfl) rfl
theorem q3161 : (Jvm.Cond.methodLink "StreamNodesModel" (536 : Nat) ({ cls := "StreamNodesModel", name := "work", desc := "(II)V" } : Jvm.MethodName)) ∈ lw_all := lw_g (lw_at lw_m13 173 rfl) rfl
theorem q3162 : (Jvm.Cond.privateMethod ({ cls := "StreamNodesModel", name := "work", desc := "(II)V" } : Jvm.MethodName)) ∈ lw_tbl := lw_at lw_m13 174 rfl
theorem q3163 : (Jvm.Cond.instanceMethod ({ cls := "StreamNodesModel", name := "work", desc := "(II)V" } : Jvm.MethodName)) ∈ lw_all := lw_g (lw_at lw_m13 175 rfl) rfl
theorem q3164 : (Jvm.Cond.code ({ cls := "StreamNodesModel", name := "work", desc := "(II)V" } : Jvm.MethodName) prog_26_method_63_code (6 : Nat) (Option.none : Option Jvm.ClassFile.FieldType)) ∈ lw_all := lw_g (lw_at lw_m13 176 rfl) rfl
theorem q3165 : (Jvm.Cond.methodLink "StreamNodesModel" (530 : Nat) ({ cls := "StreamNodesModel", name := "joined", desc := "(III)I" } : Jvm.MethodName)) ∈ lw_all := lw_g (lw_at lw_m13 177 rfl) rfl
theorem q3166 : (Jvm.Cond.static ({ cls := "StreamNodesModel", name := "joined", desc := "(III)I" } : Jvm.MethodName)) ∈ lw_all := lw_g (lw_at lw_m13 178 rfl) rfl
theorem q3167 : (Jvm.Cond.code ({ cls := "StreamNodesModel", name := "joined", desc := "(III)I" } : Jvm.MethodName) prog_26_method_65_code (3 : Nat) (Option.some Jvm.ClassFile.FieldType.int)) ∈ lw_all := lw_g (lw_at lw_m13 179 rfl) rfl
theorem q3168 : (Jvm.Cond.methodLink "StreamNodesModel" (533 : Nat) ({ cls := "StreamNodesModel", name := "truth", desc := "(Z)I" } : Jvm.MethodName)) ∈ lw_all := lw_g (lw_at lw_m13 180 rfl) rfl
theorem q3169 : (Jvm.Cond.static ({ cls := "StreamNodesModel", name := "truth", desc := "(Z)I" } : Jvm.MethodName)) ∈ lw_all := lw_g (lw_at lw_m13 181 rfl) rfl
theorem q3170 : (Jvm.Cond.code ({ cls := "StreamNodesModel", name := "truth", desc := "(Z)I" } : Jvm.MethodName) prog_26_method_64_code (1 : Nat) (Option.some Jvm.ClassFile.FieldType.int)) ∈ lw_all := lw_g (lw_at lw_m13 182 rfl) rfl
theorem q3171 : (Jvm.Cond.methodLink "StreamNodesModel" (542 : Nat) ({ cls := "java/lang/System", name := "arraycopy", desc := "(Ljava/lang/Object;ILjava/lang/Object;II)V" } : Jvm.MethodName)) ∈ lw_all := lw_g (lw_at lw_m13 183 rfl) rfl
theorem q3172 : (Jvm.Cond.methodLink "StreamNodesModel" (548 : Nat) ({ cls := "StreamNodesModel", name := "remember", desc := "(I)V" } : Jvm.MethodName)) ∈ lw_all := lw_g (lw_at lw_m13 184 rfl) rfl
theorem q3173 : (Jvm.Cond.privateMethod ({ cls := "StreamNodesModel", name := "remember", desc := "(I)V" } : Jvm.MethodName)) ∈ lw_tbl := lw_at lw_m13 185 rfl
theorem q3174 : (Jvm.Cond.instanceMethod ({ cls := "StreamNodesModel", name := "remember", desc := "(I)V" } : Jvm.MethodName)) ∈ lw_all := lw_g (lw_at lw_m13 186 rfl) rfl
theorem q3175 : (Jvm.Cond.code ({ cls := "StreamNodesModel", name := "remember", desc := "(I)V" } : Jvm.MethodName) prog_26_method_68_code (7 : Nat) (Option.none : Option Jvm.ClassFile.FieldType)) ∈ lw_all := lw_g (lw_at lw_m13 187 rfl) rfl
theorem q3177 : (Jvm.Cond.instanceMethod ({ cls := "StreamNodesModel", name := "input", desc := "(II)I" } : Jvm.MethodName)) ∈ lw_all := lw_g (lw_at lw_m13 189 rfl) rfl
theorem q3178 : (Jvm.Cond.selects "StreamNodesModel" ({ cls := "StreamNodesModel", name := "input", desc := "(II)I" } : Jvm.MethodName) ({ cls := "StreamNodesModel", name := "input", desc := "(II)I" } : Jvm.MethodName)) ∈ lw_all := lw_g (lw_at lw_m13 190 rfl) rfl
theorem q3179 : (Jvm.Cond.code ({ cls := "StreamNodesModel", name := "input", desc := "(II)I" } : Jvm.MethodName) prog_26_method_71_code (4 : Nat) (Option.some Jvm.ClassFile.FieldType.int)) ∈ lw_all := lw_g (lw_at lw_m13 191 rfl) rfl
theorem q3181 : (Jvm.Cond.instanceMethod ({ cls := "StreamNodesModel", name := "value", desc := "(I)J" } : Jvm.MethodName)) ∈ lw_all := lw_g (lw_at lw_m13 193 rfl) rfl
theorem q3182 : (Jvm.Cond.selects "StreamNodesModel" ({ cls := "StreamNodesModel", name := "value", desc := "(I)J" } : Jvm.MethodName) ({ cls := "StreamNodesModel", name := "value", desc := "(I)J" } : Jvm.MethodName)) ∈ lw_all := lw_g (lw_at lw_m13 194 rfl) rfl
theorem q3183 : (Jvm.Cond.code ({ cls := "StreamNodesModel", name := "value", desc := "(I)J" } : Jvm.MethodName) prog_26_method_72_code (2 : Nat) (Option.some Jvm.ClassFile.FieldType.long)) ∈ lw_all := lw_g (lw_at lw_m13 195 rfl) rfl
theorem q3184 : (Jvm.Cond.methodLink "StreamNodesModel" (554 : Nat) ({ cls := "StreamNodesModel", name := "mainVariables", desc := "()I" } : Jvm.MethodName)) ∈ lw_all := lw_g (lw_at lw_m13 196 rfl) rfl
theorem q3185 : (Jvm.Cond.privateMethod ({ cls := "StreamNodesModel", name := "mainVariables", desc := "()I" } : Jvm.MethodName)) ∈ lw_tbl := lw_at lw_m13 197 rfl
theorem q3186 : (Jvm.Cond.instanceMethod ({ cls := "StreamNodesModel", name := "mainVariables", desc := "()I" } : Jvm.MethodName)) ∈ lw_all := lw_g (lw_at lw_m13 198 rfl) rfl
theorem q3187 : (Jvm.Cond.code ({ cls := "StreamNodesModel", name := "mainVariables", desc := "()I" } : Jvm.MethodName) prog_26_method_70_code (1 : Nat) (Option.some Jvm.ClassFile.FieldType.int)) ∈ lw_all := lw_g (lw_at lw_m13 199 rfl) rfl
theorem q3188 : (Jvm.Cond.constantLong "StreamNodesModel" (557 : Nat) (1099511627776 : Int64)) ∈ lw_all := lw_g (lw_at lw_m13 200 rfl) rfl
theorem q3190 : (Jvm.Cond.instanceMethod ({ cls := "StreamNodesModel", name := "about", desc := "(II)I" } : Jvm.MethodName)) ∈ lw_all := lw_g (lw_at lw_m13 202 rfl) rfl
theorem q3191 : (Jvm.Cond.selects "StreamNodesModel" ({ cls := "StreamNodesModel", name := "about", desc := "(II)I" } : Jvm.MethodName) ({ cls := "StreamNodesModel", name := "about", desc := "(II)I" } : Jvm.MethodName)) ∈ lw_all := lw_g (lw_at lw_m13 203 rfl) rfl
theorem q3192 : (Jvm.Cond.code ({ cls := "StreamNodesModel", name := "about", desc := "(II)I" } : Jvm.MethodName) prog_26_method_73_code (4 : Nat) (Option.some Jvm.ClassFile.FieldType.int)) ∈ lw_all := lw_g (lw_at lw_m13 204 rfl) rfl
theorem q3194 : (Jvm.Cond.instanceMethod ({ cls := "StreamNodesModel", name := "causes", desc := "(II)Z" } : Jvm.MethodName)) ∈ lw_all := lw_g (lw_at lw_m13 206 rfl) rfl
theorem q3195 : (Jvm.Cond.selects "StreamNodesModel" ({ cls := "StreamNodesModel", name := "causes", desc := "(II)Z" } : Jvm.MethodName) ({ cls := "StreamNodesModel", name := "causes", desc := "(II)Z" } : Jvm.MethodName)) ∈ lw_all := lw_g (lw_at lw_m13 207 rfl) rfl
theorem q3196 : (Jvm.Cond.code ({ cls := "StreamNodesModel", name := "causes", desc := "(II)Z" } : Jvm.MethodName) prog_26_method_74_code (3 : Nat) (Option.some Jvm.ClassFile.FieldType.boolean)) ∈ lw_all := lw_g (lw_at lw_m13 208 rfl) rfl
theorem q3198 : (Jvm.Cond.instanceMethod ({ cls := "StreamNodesModel", name := "restart", desc := "()I" } : Jvm.MethodName)) ∈ lw_all := lw_g (lw_at lw_m13 210 rfl) rfl
theorem q3199 : (Jvm.Cond.selects "StreamNodesModel" ({ cls := "StreamNodesModel", name := "restart", desc := "()I" } : Jvm.MethodName) ({ cls := "StreamNodesModel", name := "restart", desc := "()I" } : Jvm.MethodName)) ∈ lw_all := lw_g (lw_at lw_m13 211 rfl) rfl
theorem q3200 : (Jvm.Cond.code ({ cls := "StreamNodesModel", name := "restart", desc := "()I" } : Jvm.MethodName) prog_26_method_75_code (2 : Nat) (Option.some Jvm.ClassFile.FieldType.int)) ∈ lw_all := lw_g (lw_at lw_m13 212 rfl) rfl
theorem q3202 : (Jvm.Cond.instanceMethod ({ cls := "StreamNodesModel", name := "keep", desc := "()V" } : Jvm.MethodName)) ∈ lw_all := lw_g (lw_at lw_m13 214 rfl) rfl
theorem q3203 : (Jvm.Cond.selects "StreamNodesModel" ({ cls := "StreamNodesModel", name := "keep", desc := "()V" } : Jvm.MethodName) ({ cls := "StreamNodesModel", name := "keep", desc := "()V" } : Jvm.MethodName)) ∈ lw_all := lw_g (lw_at lw_m13 215 rfl) rfl
theorem q3204 : (Jvm.Cond.code ({ cls := "StreamNodesModel", name := "keep", desc := "()V" } : Jvm.MethodName) prog_26_method_76_code (1 : Nat) (Option.none : Option Jvm.ClassFile.FieldType)) ∈ lw_all := lw_g (lw_at lw_m13 216 rfl) rfl
theorem q3206 : (Jvm.Cond.instanceMethod ({ cls := "StreamNodesModel", name := "back", desc := "()I" } : Jvm.MethodName)) ∈ lw_all := lw_g (lw_at lw_m13 218 rfl) rfl
theorem q3207 : (Jvm.Cond.selects "StreamNodesModel" ({ cls := "StreamNodesModel", name := "back", desc := "()I" } : Jvm.MethodName) ({ cls := "StreamNodesModel", name := "back", desc := "()I" } : Jvm.MethodName)) ∈ lw_all := lw_g (lw_at lw_m13 219 rfl) rfl
theorem q3208 : (Jvm.Cond.code ({ cls := "StreamNodesModel", name := "back", desc := "()I" } : Jvm.MethodName) prog_26_method_77_code (2 : Nat) (Option.some Jvm.ClassFile.FieldType.int)) ∈ lw_all := lw_g (lw_at lw_m13 220 rfl) rfl
theorem q3210 : (Jvm.Cond.instanceMethod ({ cls := "StreamNodesModel", name := "count", desc := "(I)I" } : Jvm.MethodName)) ∈ lw_all := lw_g (lw_at lw_m13 222 rfl) rfl
theorem q3211 : (Jvm.Cond.selects "StreamNodesModel" ({ cls := "StreamNodesModel", name := "count", desc := "(I)I" } : Jvm.MethodName) ({ cls := "StreamNodesModel", name := "count", desc := "(I)I" } : Jvm.MethodName)) ∈ lw_all := lw_g (lw_at lw_m13 223 rfl) rfl
theorem q3212 : (Jvm.Cond.code ({ cls := "StreamNodesModel", name := "count", desc := "(I)I" } : Jvm.MethodName) prog_26_method_78_code (2 : Nat) (Option.some Jvm.ClassFile.FieldType.int)) ∈ lw_all := lw_g (lw_at lw_m13 224 rfl) rfl
theorem q3254 : (Jvm.Cond.castable "StreamNodesModel" "java/lang/Object") ∈ lw_tbl := lw_at lw_m14 26 rfl
theorem in_X6 : ∀ w ∈ wsX60, w ∈ lw_all := lw_in wsX60 [2667, 2669, 2671, 2673, 2675, 2677, 2679, 2681, 2683, 2685, 2687, 2689, 2691, 2693, 2695, 2697, 2699, 2701, 2703, 2705, 2707, 2709, 2711, 2713, 2715, 2717, 2719, 2721, 2723, 2725, 2727, 2729, 2731, 2733, 2735, 2737, 2739, 2741, 2743, 2745, 2747, 2749, 2751, 2753, 2755, 2757, 2759, 2761, 2763, 2765, 2767, 2769, 2771, 2773, 2775, 2777, 2779, 2781, 2783, 2785, 2787, 2789, 2791, 2793, 2795, 2797, 2799, 2801, 2803, 2805, 2807, 2809, 2811, 2813, 2815, 2817, 2819, 2821, 2823, 2825, 2827, 2829, 2831, 2833] (by decide +kernel) (by decide +kernel)
