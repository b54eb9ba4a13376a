/-! the kinds of cells: 1..27 objects, 28.. arrays; written by tools/gen_cls.py -/
set_option maxRecDepth 100000
def hp_T1 : u_T := fun k => match k with
  | 0 => ("StreamNodesModel", "tape", "[B", true)
  | 1 => ("StreamNodesModel", "size", "I", false)
  | 2 => ("StreamNodesModel", "thrown", "I", false)
  | 3 => ("StreamNodesModel", "faultKind", "I", false)
  | 4 => ("StreamNodesModel", "faultPlace", "I", false)
  | 5 => ("StreamNodesModel", "pos", "I", false)
  | 6 => ("StreamNodesModel", "token", "I", false)
  | 7 => ("StreamNodesModel", "tokenAt", "I", false)
  | 8 => ("StreamNodesModel", "tokenEnd", "I", false)
  | 9 => ("StreamNodesModel", "seen", "Z", false)
  | 10 => ("StreamNodesModel", "nodeAt", "[I", true)
  | 11 => ("StreamNodesModel", "nodeSize", "[I", true)
  | 12 => ("StreamNodesModel", "variableFrom", "[I", true)
  | 13 => ("StreamNodesModel", "inputCount", "[I", true)
  | 14 => ("StreamNodesModel", "outputCount", "[I", true)
  | 15 => ("StreamNodesModel", "equationFrom", "[I", true)
  | 16 => ("StreamNodesModel", "callCount", "[I", true)
  | 17 => ("StreamNodesModel", "stateCount", "[I", true)
  | 18 => ("StreamNodesModel", "nodes", "I", false)
  | 19 => ("StreamNodesModel", "variables", "I", false)
  | 20 => ("StreamNodesModel", "wordAt", "[I", true)
  | 21 => ("StreamNodesModel", "wordSize", "[I", true)
  | 22 => ("StreamNodesModel", "clockOf", "[I", true)
  | 23 => ("StreamNodesModel", "given", "[I", true)
  | 24 => ("StreamNodesModel", "truth", "[Z", true)
  | 25 => ("StreamNodesModel", "placeOf", "[I", true)
  | 26 => ("StreamNodesModel", "leftFrom", "[I", true)
  | 27 => ("StreamNodesModel", "bodyOf", "[I", true)
  | 28 => ("StreamNodesModel", "lefts", "[I", true)
  | 29 => ("StreamNodesModel", "fromOf", "[I", true)
  | 30 => ("StreamNodesModel", "equations", "I", false)
  | 31 => ("StreamNodesModel", "leftCount", "I", false)
  | 32 => ("StreamNodesModel", "sort", "[I", true)
  | 33 => ("StreamNodesModel", "one", "[I", true)
  | 34 => ("StreamNodesModel", "kid", "[I", true)
  | 35 => ("StreamNodesModel", "beside", "[I", true)
  | 36 => ("StreamNodesModel", "clock", "[I", true)
  | 37 => ("StreamNodesModel", "state", "[I", true)
  | 38 => ("StreamNodesModel", "price", "[I", true)
  | 39 => ("StreamNodesModel", "high", "[I", true)
  | 40 => ("StreamNodesModel", "parsed", "I", false)
  | 41 => ("StreamNodesModel", "isTruth", "[Z", true)
  | 42 => ("StreamNodesModel", "placeNow", "I", false)
  | 43 => ("StreamNodesModel", "full", "[I", true)
  | 44 => ("StreamNodesModel", "part", "[I", true)
  | 45 => ("StreamNodesModel", "low", "[I", true)
  | 46 => ("StreamNodesModel", "definedBy", "[I", true)
  | 47 => ("StreamNodesModel", "definedAs", "[I", true)
  | 48 => ("StreamNodesModel", "partsOf", "[I", true)
  | 49 => ("StreamNodesModel", "main", "I", false)
  | 50 => ("StreamNodesModel", "instances", "I", false)
  | 51 => ("StreamNodesModel", "all", "I", false)
  | 52 => ("StreamNodesModel", "states", "I", false)
  | 53 => ("StreamNodesModel", "memories", "I", false)
  | 54 => ("StreamNodesModel", "calls", "I", false)
  | 55 => ("StreamNodesModel", "allParts", "I", false)
  | 56 => ("StreamNodesModel", "nodeOf", "[I", true)
  | 57 => ("StreamNodesModel", "outer", "[I", true)
  | 58 => ("StreamNodesModel", "callOf", "[I", true)
  | 59 => ("StreamNodesModel", "base", "[I", true)
  | 60 => ("StreamNodesModel", "statesFrom", "[I", true)
  | 61 => ("StreamNodesModel", "callsFrom", "[I", true)
  | 62 => ("StreamNodesModel", "childOf", "[I", true)
  | 63 => ("StreamNodesModel", "instanceOf", "[I", true)
  | 64 => ("StreamNodesModel", "localOf", "[I", true)
  | 65 => ("StreamNodesModel", "causeFrom", "[I", true)
  | 66 => ("StreamNodesModel", "causeOf", "[I", true)
  | 67 => ("StreamNodesModel", "causesTotal", "I", false)
  | 68 => ("StreamNodesModel", "reached", "[Z", true)
  | 69 => ("StreamNodesModel", "todo", "[I", true)
  | 70 => ("StreamNodesModel", "order", "[I", true)
  | 71 => ("StreamNodesModel", "undone", "[Z", true)
  | 72 => ("StreamNodesModel", "instants", "I", false)
  | 73 => ("StreamNodesModel", "inputs", "[I", true)
  | 74 => ("StreamNodesModel", "value", "[I", true)
  | 75 => ("StreamNodesModel", "memory", "[I", true)
  | 76 => ("StreamNodesModel", "later", "[I", true)
  | 77 => ("StreamNodesModel", "worth", "[I", true)
  | 78 => ("StreamNodesModel", "here", "[Z", true)
  | 79 => ("StreamNodesModel", "keptMemory", "[I", true)
  | 80 => ("StreamNodesModel", "keptValue", "[I", true)
  | 81 => ("StreamNodesModel", "keptHere", "[Z", true)
  | 82 => ("StreamNodesModel", "keptInstants", "I", false)
  | _ => ("StreamNodesModel", "isKept", "Z", false)
def hp_t1 : Nat → FieldType := fun k => match k with
  | 0 => .array .byte
  | 1 => .int
  | 2 => .int
  | 3 => .int
  | 4 => .int
  | 5 => .int
  | 6 => .int
  | 7 => .int
  | 8 => .int
  | 9 => .boolean
  | 10 => .array .int
  | 11 => .array .int
  | 12 => .array .int
  | 13 => .array .int
  | 14 => .array .int
  | 15 => .array .int
  | 16 => .array .int
  | 17 => .array .int
  | 18 => .int
  | 19 => .int
  | 20 => .array .int
  | 21 => .array .int
  | 22 => .array .int
  | 23 => .array .int
  | 24 => .array .boolean
  | 25 => .array .int
  | 26 => .array .int
  | 27 => .array .int
  | 28 => .array .int
  | 29 => .array .int
  | 30 => .int
  | 31 => .int
  | 32 => .array .int
  | 33 => .array .int
  | 34 => .array .int
  | 35 => .array .int
  | 36 => .array .int
  | 37 => .array .int
  | 38 => .array .int
  | 39 => .array .int
  | 40 => .int
  | 41 => .array .boolean
  | 42 => .int
  | 43 => .array .int
  | 44 => .array .int
  | 45 => .array .int
  | 46 => .array .int
  | 47 => .array .int
  | 48 => .array .int
  | 49 => .int
  | 50 => .int
  | 51 => .int
  | 52 => .int
  | 53 => .int
  | 54 => .int
  | 55 => .int
  | 56 => .array .int
  | 57 => .array .int
  | 58 => .array .int
  | 59 => .array .int
  | 60 => .array .int
  | 61 => .array .int
  | 62 => .array .int
  | 63 => .array .int
  | 64 => .array .int
  | 65 => .array .int
  | 66 => .array .int
  | 67 => .int
  | 68 => .array .boolean
  | 69 => .array .int
  | 70 => .array .int
  | 71 => .array .boolean
  | 72 => .int
  | 73 => .array .int
  | 74 => .array .int
  | 75 => .array .int
  | 76 => .array .int
  | 77 => .array .int
  | 78 => .array .boolean
  | 79 => .array .int
  | 80 => .array .int
  | 81 => .array .boolean
  | 82 => .int
  | _ => .boolean
theorem hp_in1 : ∀ w ∈ u_ws "StreamNodesModel" hp_T1 84, w ∈ lw_all := lw_in _ [2667, 2669, 2671, 2673, 2675, 2677, 2679, 2681, 2683, 2685, 2687, 2689, 2691, 2693, 2695, 2697, 2699, 2701, 2703, 2705, 2707, 2709, 2711, 2713, 2715, 2717, 2719, 2721, 2723, 2725, 2727, 2729, 2731, 2733, 2735, 2737, 2739, 2741, 2743, 2745, 2747, 2749, 2751, 2753, 2755, 2757, 2759, 2761, 2763, 2765, 2767, 2769, 2771, 2773, 2775, 2777, 2779, 2781, 2783, 2785, 2787, 2789, 2791, 2793, 2795, 2797, 2799, 2801, 2803, 2805, 2807, 2809, 2811, 2813, 2815, 2817, 2819, 2821, 2823, 2825, 2827, 2829, 2831, 2833] (by decide +kernel) (by decide +kernel)
theorem hp_pt1 : ∀ k, k < 84 → parseFieldDescriptor (hp_T1 k).2.2.1 = some (hp_t1 k) := by decide +kernel
theorem hp_nm1 : ∀ a, a < 84 → ∀ b, b < 84 → a ≠ b → (hp_T1 a).2.1 ≠ (hp_T1 b).2.1 := by decide +kernel
def hp_T2 : u_T := fun k => match k with
  | 0 => ("StreamNodes", "tape", "[B", true)
  | 1 => ("StreamNodes", "taped", "I", false)
  | 2 => ("StreamNodes", "ever", "I", false)
  | 3 => ("StreamNodes", "bad", "LStreamNodes$Wrong;", true)
  | 4 => ("StreamNodes", "reader", "LStreamNodes$Reader;", true)
  | 5 => ("StreamNodes", "faultKind", "I", false)
  | 6 => ("StreamNodes", "faultPlace", "I", false)
  | 7 => ("StreamNodes", "main", "LStreamNodes$Node;", false)
  | 8 => ("StreamNodes", "now", "LStreamNodes$Now;", true)
  | 9 => ("StreamNodes", "graph", "LStreamNodes$Graph;", true)
  | 10 => ("StreamNodes", "instances", "Ljava/util/ArrayList;", true)
  | 11 => ("StreamNodes", "owner", "[LStreamNodes$Instance;", true)
  | 12 => ("StreamNodes", "where", "[LStreamNodes$Instance;", true)
  | 13 => ("StreamNodes", "giver", "[LStreamNodes$Expression;", true)
  | 14 => ("StreamNodes", "other", "[I", true)
  | 15 => ("StreamNodes", "places", "[I", true)
  | 16 => ("StreamNodes", "order", "[I", true)
  | 17 => ("StreamNodes", "input", "[I", true)
  | 18 => ("StreamNodes", "ordered", "I", false)
  | 19 => ("StreamNodes", "keptValue", "[I", true)
  | 20 => ("StreamNodes", "keptState", "[I", true)
  | 21 => ("StreamNodes", "keptThere", "[Z", true)
  | 22 => ("StreamNodes", "keptInstants", "I", false)
  | 23 => ("StreamNodes", "stack", "[I", true)
  | 24 => ("StreamNodes", "edge", "[I", true)
  | 25 => ("StreamNodes", "low", "[I", true)
  | 26 => ("StreamNodes", "seen", "[I", true)
  | 27 => ("StreamNodes", "open", "[I", true)
  | _ => ("StreamNodes", "waits", "[Z", true)
def hp_t2 : Nat → FieldType := fun k => match k with
  | 0 => .array .byte
  | 1 => .int
  | 2 => .int
  | 3 => .object "StreamNodes$Wrong"
  | 4 => .object "StreamNodes$Reader"
  | 5 => .int
  | 6 => .int
  | 7 => .object "StreamNodes$Node"
  | 8 => .object "StreamNodes$Now"
  | 9 => .object "StreamNodes$Graph"
  | 10 => .object "java/util/ArrayList"
  | 11 => .array (.object "StreamNodes$Instance")
  | 12 => .array (.object "StreamNodes$Instance")
  | 13 => .array (.object "StreamNodes$Expression")
  | 14 => .array .int
  | 15 => .array .int
  | 16 => .array .int
  | 17 => .array .int
  | 18 => .int
  | 19 => .array .int
  | 20 => .array .int
  | 21 => .array .boolean
  | 22 => .int
  | 23 => .array .int
  | 24 => .array .int
  | 25 => .array .int
  | 26 => .array .int
  | 27 => .array .int
  | _ => .array .boolean
theorem hp_in2 : ∀ w ∈ u_ws "StreamNodes" hp_T2 29, w ∈ lw_all := lw_in _ [446, 448, 450, 452, 454, 456, 458, 460, 462, 464, 466, 468, 470, 472, 474, 476, 478, 480, 482, 484, 486, 488, 490, 492, 494, 496, 498, 500, 502] (by decide +kernel) (by decide +kernel)
theorem hp_pt2 : ∀ k, k < 29 → parseFieldDescriptor (hp_T2 k).2.2.1 = some (hp_t2 k) := by decide +kernel
theorem hp_nm2 : ∀ a, a < 29 → ∀ b, b < 29 → a ≠ b → (hp_T2 a).2.1 ≠ (hp_T2 b).2.1 := by decide +kernel
def hp_T3 : u_T := fun k => match k with
  | 0 => ("java/lang/Throwable", "cause", "Ljava/lang/Throwable;", false)
  | 1 => ("java/lang/Throwable", "stackTrace", "[Ljava/lang/StackTraceElement;", false)
  | 2 => ("java/lang/Throwable", "suppressedExceptions", "Ljava/util/List;", false)
  | 3 => ("java/lang/Throwable", "detailMessage", "Ljava/lang/String;", false)
  | 4 => ("java/lang/Throwable", "backtrace", "Ljava/lang/Object;", false)
  | 5 => ("java/lang/Throwable", "depth", "I", false)
  | 6 => ("StreamNodes$Wrong", "kind", "I", false)
  | _ => ("StreamNodes$Wrong", "place", "I", false)
def hp_t3 : Nat → FieldType := fun k => match k with
  | 0 => .object "java/lang/Throwable"
  | 1 => .array (.object "java/lang/StackTraceElement")
  | 2 => .object "java/util/List"
  | 3 => .object "java/lang/String"
  | 4 => .object "java/lang/Object"
  | 5 => .int
  | 6 => .int
  | _ => .int
theorem hp_in3 : ∀ w ∈ u_ws "StreamNodes$Wrong" hp_T3 8, w ∈ lw_all := lw_in _ [185, 187, 189, 191, 193, 244, 236, 238] (by decide +kernel) (by decide +kernel)
theorem hp_pt3 : ∀ k, k < 8 → parseFieldDescriptor (hp_T3 k).2.2.1 = some (hp_t3 k) := by decide +kernel
theorem hp_nm3 : ∀ a, a < 8 → ∀ b, b < 8 → a ≠ b → (hp_T3 a).2.1 ≠ (hp_T3 b).2.1 := by decide +kernel
def hp_T4 : u_T := fun k => match k with
  | 0 => ("java/lang/Throwable", "cause", "Ljava/lang/Throwable;", false)
  | 1 => ("java/lang/Throwable", "stackTrace", "[Ljava/lang/StackTraceElement;", false)
  | 2 => ("java/lang/Throwable", "suppressedExceptions", "Ljava/util/List;", false)
  | 3 => ("java/lang/Throwable", "detailMessage", "Ljava/lang/String;", false)
  | 4 => ("java/lang/Throwable", "backtrace", "Ljava/lang/Object;", false)
  | 5 => ("java/lang/Throwable", "depth", "I", false)
  | 6 => ("StreamNodesModel$Wrong", "kind", "I", true)
  | _ => ("StreamNodesModel$Wrong", "place", "I", true)
def hp_t4 : Nat → FieldType := fun k => match k with
  | 0 => .object "java/lang/Throwable"
  | 1 => .array (.object "java/lang/StackTraceElement")
  | 2 => .object "java/util/List"
  | 3 => .object "java/lang/String"
  | 4 => .object "java/lang/Object"
  | 5 => .int
  | 6 => .int
  | _ => .int
theorem hp_in4 : ∀ w ∈ u_ws "StreamNodesModel$Wrong" hp_T4 8, w ∈ lw_all := lw_in _ [2903, 2904, 2905, 2906, 2907, 2928, 2924, 2926] (by decide +kernel) (by decide +kernel)
theorem hp_pt4 : ∀ k, k < 8 → parseFieldDescriptor (hp_T4 k).2.2.1 = some (hp_t4 k) := by decide +kernel
theorem hp_nm4 : ∀ a, a < 8 → ∀ b, b < 8 → a ≠ b → (hp_T4 a).2.1 ≠ (hp_T4 b).2.1 := by decide +kernel
def hp_T5 : u_T := fun k => match k with
  | 0 => ("StreamNodes$Beat", "of", "LStreamNodes$Variable;", true)
  | 1 => ("StreamNodes$Beat", "so", "Z", true)
  | _ => ("StreamNodes$Beat", "deep", "I", true)
def hp_t5 : Nat → FieldType := fun k => match k with
  | 0 => .object "StreamNodes$Variable"
  | 1 => .boolean
  | _ => .int
theorem hp_in5 : ∀ w ∈ u_ws "StreamNodes$Beat" hp_T5 3, w ∈ lw_all := lw_in _ [1509, 1511, 1513] (by decide +kernel) (by decide +kernel)
theorem hp_pt5 : ∀ k, k < 3 → parseFieldDescriptor (hp_T5 k).2.2.1 = some (hp_t5 k) := by decide +kernel
theorem hp_nm5 : ∀ a, a < 3 → ∀ b, b < 3 → a ≠ b → (hp_T5 a).2.1 ≠ (hp_T5 b).2.1 := by decide +kernel
def hp_T6 : u_T := fun k => match k with
  | 0 => ("StreamNodes$Variable", "name", "Ljava/lang/String;", true)
  | 1 => ("StreamNodes$Variable", "type", "LStreamNodes$Type;", true)
  | 2 => ("StreamNodes$Variable", "kind", "I", true)
  | 3 => ("StreamNodes$Variable", "index", "I", true)
  | 4 => ("StreamNodes$Variable", "clock", "LStreamNodes$Beat;", false)
  | _ => ("StreamNodes$Variable", "equation", "LStreamNodes$Equation;", false)
def hp_t6 : Nat → FieldType := fun k => match k with
  | 0 => .object "java/lang/String"
  | 1 => .object "StreamNodes$Type"
  | 2 => .int
  | 3 => .int
  | 4 => .object "StreamNodes$Beat"
  | _ => .object "StreamNodes$Equation"
theorem hp_in6 : ∀ w ∈ u_ws "StreamNodes$Variable" hp_T6 6, w ∈ lw_all := lw_in _ [1548, 1550, 1552, 1554, 1556, 1558] (by decide +kernel) (by decide +kernel)
theorem hp_pt6 : ∀ k, k < 6 → parseFieldDescriptor (hp_T6 k).2.2.1 = some (hp_t6 k) := by decide +kernel
theorem hp_nm6 : ∀ a, a < 6 → ∀ b, b < 6 → a ≠ b → (hp_T6 a).2.1 ≠ (hp_T6 b).2.1 := by decide +kernel
def hp_T7 : u_T := fun k => match k with
  | 0 => ("StreamNodes$Equation", "left", "Ljava/util/ArrayList;", true)
  | 1 => ("StreamNodes$Equation", "right", "LStreamNodes$Expression;", false)
  | _ => ("StreamNodes$Equation", "place", "I", false)
def hp_t7 : Nat → FieldType := fun k => match k with
  | 0 => .object "java/util/ArrayList"
  | 1 => .object "StreamNodes$Expression"
  | _ => .int
theorem hp_in7 : ∀ w ∈ u_ws "StreamNodes$Equation" hp_T7 3, w ∈ lw_all := lw_in _ [1720, 1722, 1724] (by decide +kernel) (by decide +kernel)
theorem hp_pt7 : ∀ k, k < 3 → parseFieldDescriptor (hp_T7 k).2.2.1 = some (hp_t7 k) := by decide +kernel
theorem hp_nm7 : ∀ a, a < 3 → ∀ b, b < 3 → a ≠ b → (hp_T7 a).2.1 ≠ (hp_T7 b).2.1 := by decide +kernel
def hp_T8 : u_T := fun k => match k with
  | 0 => ("StreamNodes$Node", "name", "Ljava/lang/String;", false)
  | 1 => ("StreamNodes$Node", "variables", "Ljava/util/ArrayList;", true)
  | 2 => ("StreamNodes$Node", "names", "Ljava/util/HashMap;", true)
  | 3 => ("StreamNodes$Node", "equations", "Ljava/util/ArrayList;", true)
  | 4 => ("StreamNodes$Node", "calls", "Ljava/util/ArrayList;", true)
  | 5 => ("StreamNodes$Node", "memories", "Ljava/util/ArrayList;", true)
  | 6 => ("StreamNodes$Node", "callers", "Ljava/util/ArrayList;", true)
  | 7 => ("StreamNodes$Node", "inputs", "I", false)
  | 8 => ("StreamNodes$Node", "outputs", "I", false)
  | 9 => ("StreamNodes$Node", "parts", "I", false)
  | 10 => ("StreamNodes$Node", "counted", "I", false)
  | _ => ("StreamNodes$Node", "all", "I", false)
def hp_t8 : Nat → FieldType := fun k => match k with
  | 0 => .object "java/lang/String"
  | 1 => .object "java/util/ArrayList"
  | 2 => .object "java/util/HashMap"
  | 3 => .object "java/util/ArrayList"
  | 4 => .object "java/util/ArrayList"
  | 5 => .object "java/util/ArrayList"
  | 6 => .object "java/util/ArrayList"
  | 7 => .int
  | 8 => .int
  | 9 => .int
  | 10 => .int
  | _ => .int
theorem hp_in8 : ∀ w ∈ u_ws "StreamNodes$Node" hp_T8 12, w ∈ lw_all := lw_in _ [1388, 1390, 1392, 1394, 1396, 1398, 1400, 1402, 1404, 1406, 1408, 1410] (by decide +kernel) (by decide +kernel)
theorem hp_pt8 : ∀ k, k < 12 → parseFieldDescriptor (hp_T8 k).2.2.1 = some (hp_t8 k) := by decide +kernel
theorem hp_nm8 : ∀ a, a < 12 → ∀ b, b < 12 → a ≠ b → (hp_T8 a).2.1 ≠ (hp_T8 b).2.1 := by decide +kernel
def hp_T9 : u_T := fun k => match k with
  | 0 => ("StreamNodes$Graph", "first", "[I", true)
  | 1 => ("StreamNodes$Graph", "to", "[I", true)
  | _ => ("StreamNodes$Graph", "edges", "I", false)
def hp_t9 : Nat → FieldType := fun k => match k with
  | 0 => .array .int
  | 1 => .array .int
  | _ => .int
theorem hp_in9 : ∀ w ∈ u_ws "StreamNodes$Graph" hp_T9 3, w ∈ lw_all := lw_in _ [404, 406, 408] (by decide +kernel) (by decide +kernel)
theorem hp_pt9 : ∀ k, k < 3 → parseFieldDescriptor (hp_T9 k).2.2.1 = some (hp_t9 k) := by decide +kernel
theorem hp_nm9 : ∀ a, a < 3 → ∀ b, b < 3 → a ≠ b → (hp_T9 a).2.1 ≠ (hp_T9 b).2.1 := by decide +kernel
def hp_T10 : u_T := fun k => match k with
  | 0 => ("StreamNodes$Now", "value", "[I", true)
  | 1 => ("StreamNodes$Now", "state", "[I", true)
  | 2 => ("StreamNodes$Now", "next", "[I", true)
  | 3 => ("StreamNodes$Now", "there", "[Z", true)
  | 4 => ("StreamNodes$Now", "variables", "I", false)
  | 5 => ("StreamNodes$Now", "places", "I", false)
  | _ => ("StreamNodes$Now", "instants", "I", false)
def hp_t10 : Nat → FieldType := fun k => match k with
  | 0 => .array .int
  | 1 => .array .int
  | 2 => .array .int
  | 3 => .array .boolean
  | 4 => .int
  | 5 => .int
  | _ => .int
theorem hp_in10 : ∀ w ∈ u_ws "StreamNodes$Now" hp_T10 7, w ∈ lw_all := lw_in _ [374, 376, 378, 380, 382, 384, 386] (by decide +kernel) (by decide +kernel)
theorem hp_pt10 : ∀ k, k < 7 → parseFieldDescriptor (hp_T10 k).2.2.1 = some (hp_t10 k) := by decide +kernel
theorem hp_nm10 : ∀ a, a < 7 → ∀ b, b < 7 → a ≠ b → (hp_T10 a).2.1 ≠ (hp_T10 b).2.1 := by decide +kernel
def hp_T11 : u_T := fun k => match k with
  | 0 => ("StreamNodes$Instance", "node", "LStreamNodes$Node;", true)
  | 1 => ("StreamNodes$Instance", "around", "LStreamNodes$Instance;", true)
  | 2 => ("StreamNodes$Instance", "call", "LStreamNodes$Call;", true)
  | 3 => ("StreamNodes$Instance", "now", "LStreamNodes$Now;", true)
  | 4 => ("StreamNodes$Instance", "base", "I", true)
  | 5 => ("StreamNodes$Instance", "memory", "I", true)
  | 6 => ("StreamNodes$Instance", "at", "[I", true)
  | _ => ("StreamNodes$Instance", "inside", "Ljava/util/ArrayList;", true)
def hp_t11 : Nat → FieldType := fun k => match k with
  | 0 => .object "StreamNodes$Node"
  | 1 => .object "StreamNodes$Instance"
  | 2 => .object "StreamNodes$Call"
  | 3 => .object "StreamNodes$Now"
  | 4 => .int
  | 5 => .int
  | 6 => .array .int
  | _ => .object "java/util/ArrayList"
theorem hp_in11 : ∀ w ∈ u_ws "StreamNodes$Instance" hp_T11 8, w ∈ lw_all := lw_in _ [2276, 2278, 2280, 2282, 2284, 2286, 2288, 2290] (by decide +kernel) (by decide +kernel)
theorem hp_pt11 : ∀ k, k < 8 → parseFieldDescriptor (hp_T11 k).2.2.1 = some (hp_t11 k) := by decide +kernel
theorem hp_nm11 : ∀ a, a < 8 → ∀ b, b < 8 → a ≠ b → (hp_T11 a).2.1 ≠ (hp_T11 b).2.1 := by decide +kernel
def hp_T12 : u_T := fun k => match k with
  | 0 => ("StreamNodes$Reader", "bad", "LStreamNodes$Wrong;", true)
  | 1 => ("StreamNodes$Reader", "b", "[B", false)
  | 2 => ("StreamNodes$Reader", "size", "I", false)
  | 3 => ("StreamNodes$Reader", "at", "I", false)
  | 4 => ("StreamNodes$Reader", "behind", "I", false)
  | 5 => ("StreamNodes$Reader", "number", "I", false)
  | 6 => ("StreamNodes$Reader", "sign", "LStreamNodes$Sign;", false)
  | 7 => ("StreamNodes$Reader", "word", "Ljava/lang/String;", false)
  | 8 => ("StreamNodes$Reader", "nodes", "Ljava/util/ArrayList;", true)
  | 9 => ("StreamNodes$Reader", "named", "Ljava/util/HashMap;", true)
  | _ => ("StreamNodes$Reader", "node", "LStreamNodes$Node;", false)
def hp_t12 : Nat → FieldType := fun k => match k with
  | 0 => .object "StreamNodes$Wrong"
  | 1 => .array .byte
  | 2 => .int
  | 3 => .int
  | 4 => .int
  | 5 => .int
  | 6 => .object "StreamNodes$Sign"
  | 7 => .object "java/lang/String"
  | 8 => .object "java/util/ArrayList"
  | 9 => .object "java/util/HashMap"
  | _ => .object "StreamNodes$Node"
theorem hp_in12 : ∀ w ∈ u_ws "StreamNodes$Reader" hp_T12 11, w ∈ lw_all := lw_in _ [325, 327, 329, 331, 333, 335, 337, 339, 341, 343, 345] (by decide +kernel) (by decide +kernel)
theorem hp_pt12 : ∀ k, k < 11 → parseFieldDescriptor (hp_T12 k).2.2.1 = some (hp_t12 k) := by decide +kernel
theorem hp_nm12 : ∀ a, a < 11 → ∀ b, b < 11 → a ≠ b → (hp_T12 a).2.1 ≠ (hp_T12 b).2.1 := by decide +kernel
def hp_T13 : u_T := fun k => match k with
  | 0 => ("StreamNodes$Expression", "type", "LStreamNodes$Type;", false)
  | 1 => ("StreamNodes$Expression", "clock", "LStreamNodes$Beat;", false)
  | 2 => ("StreamNodes$Expression", "height", "I", false)
  | 3 => ("StreamNodes$Constant", "value", "I", true)
  | _ => ("StreamNodes$Constant", "own", "LStreamNodes$Type;", true)
def hp_t13 : Nat → FieldType := fun k => match k with
  | 0 => .object "StreamNodes$Type"
  | 1 => .object "StreamNodes$Beat"
  | 2 => .int
  | 3 => .int
  | _ => .object "StreamNodes$Type"
theorem hp_in13 : ∀ w ∈ u_ws "StreamNodes$Constant" hp_T13 5, w ∈ lw_all := lw_in _ [1951, 1952, 1953, 1947, 1949] (by decide +kernel) (by decide +kernel)
theorem hp_pt13 : ∀ k, k < 5 → parseFieldDescriptor (hp_T13 k).2.2.1 = some (hp_t13 k) := by decide +kernel
theorem hp_nm13 : ∀ a, a < 5 → ∀ b, b < 5 → a ≠ b → (hp_T13 a).2.1 ≠ (hp_T13 b).2.1 := by decide +kernel
def hp_T14 : u_T := fun k => match k with
  | 0 => ("StreamNodes$Expression", "type", "LStreamNodes$Type;", false)
  | 1 => ("StreamNodes$Expression", "clock", "LStreamNodes$Beat;", false)
  | 2 => ("StreamNodes$Expression", "height", "I", false)
  | _ => ("StreamNodes$Name", "of", "LStreamNodes$Variable;", true)
def hp_t14 : Nat → FieldType := fun k => match k with
  | 0 => .object "StreamNodes$Type"
  | 1 => .object "StreamNodes$Beat"
  | 2 => .int
  | _ => .object "StreamNodes$Variable"
theorem hp_in14 : ∀ w ∈ u_ws "StreamNodes$Name" hp_T14 4, w ∈ lw_all := lw_in _ [1964, 1965, 1966, 1962] (by decide +kernel) (by decide +kernel)
theorem hp_pt14 : ∀ k, k < 4 → parseFieldDescriptor (hp_T14 k).2.2.1 = some (hp_t14 k) := by decide +kernel
theorem hp_nm14 : ∀ a, a < 4 → ∀ b, b < 4 → a ≠ b → (hp_T14 a).2.1 ≠ (hp_T14 b).2.1 := by decide +kernel
def hp_T15 : u_T := fun k => match k with
  | 0 => ("StreamNodes$Expression", "type", "LStreamNodes$Type;", false)
  | 1 => ("StreamNodes$Expression", "clock", "LStreamNodes$Beat;", false)
  | 2 => ("StreamNodes$Expression", "height", "I", false)
  | 3 => ("StreamNodes$Together", "inside", "Ljava/util/ArrayList;", true)
  | 4 => ("StreamNodes$Together", "bad", "LStreamNodes$Wrong;", true)
  | _ => ("StreamNodes$Operation", "op", "I", true)
def hp_t15 : Nat → FieldType := fun k => match k with
  | 0 => .object "StreamNodes$Type"
  | 1 => .object "StreamNodes$Beat"
  | 2 => .int
  | 3 => .object "java/util/ArrayList"
  | 4 => .object "StreamNodes$Wrong"
  | _ => .int
theorem hp_in15 : ∀ w ∈ u_ws "StreamNodes$Operation" hp_T15 6, w ∈ lw_all := lw_in _ [1895, 1896, 1897, 1893, 1894, 1891] (by decide +kernel) (by decide +kernel)
theorem hp_pt15 : ∀ k, k < 6 → parseFieldDescriptor (hp_T15 k).2.2.1 = some (hp_t15 k) := by decide +kernel
theorem hp_nm15 : ∀ a, a < 6 → ∀ b, b < 6 → a ≠ b → (hp_T15 a).2.1 ≠ (hp_T15 b).2.1 := by decide +kernel
def hp_T16 : u_T := fun k => match k with
  | 0 => ("StreamNodes$Expression", "type", "LStreamNodes$Type;", false)
  | 1 => ("StreamNodes$Expression", "clock", "LStreamNodes$Beat;", false)
  | 2 => ("StreamNodes$Expression", "height", "I", false)
  | 3 => ("StreamNodes$Together", "inside", "Ljava/util/ArrayList;", true)
  | _ => ("StreamNodes$Together", "bad", "LStreamNodes$Wrong;", true)
def hp_t16 : Nat → FieldType := fun k => match k with
  | 0 => .object "StreamNodes$Type"
  | 1 => .object "StreamNodes$Beat"
  | 2 => .int
  | 3 => .object "java/util/ArrayList"
  | _ => .object "StreamNodes$Wrong"
theorem hp_in16 : ∀ w ∈ u_ws "StreamNodes$Choice" hp_T16 5, w ∈ lw_all := lw_in _ [1846, 1847, 1848, 1844, 1845] (by decide +kernel) (by decide +kernel)
theorem hp_pt16 : ∀ k, k < 5 → parseFieldDescriptor (hp_T16 k).2.2.1 = some (hp_t16 k) := by decide +kernel
theorem hp_nm16 : ∀ a, a < 5 → ∀ b, b < 5 → a ≠ b → (hp_T16 a).2.1 ≠ (hp_T16 b).2.1 := by decide +kernel
def hp_T17 : u_T := fun k => match k with
  | 0 => ("StreamNodes$Expression", "type", "LStreamNodes$Type;", false)
  | 1 => ("StreamNodes$Expression", "clock", "LStreamNodes$Beat;", false)
  | 2 => ("StreamNodes$Expression", "height", "I", false)
  | 3 => ("StreamNodes$Together", "inside", "Ljava/util/ArrayList;", true)
  | 4 => ("StreamNodes$Together", "bad", "LStreamNodes$Wrong;", true)
  | 5 => ("StreamNodes$First", "delayed", "Z", true)
  | _ => ("StreamNodes$First", "number", "I", false)
def hp_t17 : Nat → FieldType := fun k => match k with
  | 0 => .object "StreamNodes$Type"
  | 1 => .object "StreamNodes$Beat"
  | 2 => .int
  | 3 => .object "java/util/ArrayList"
  | 4 => .object "StreamNodes$Wrong"
  | 5 => .boolean
  | _ => .int
theorem hp_in17 : ∀ w ∈ u_ws "StreamNodes$First" hp_T17 7, w ∈ lw_all := lw_in _ [2006, 2007, 2008, 2004, 2005, 2000, 2002] (by decide +kernel) (by decide +kernel)
theorem hp_pt17 : ∀ k, k < 7 → parseFieldDescriptor (hp_T17 k).2.2.1 = some (hp_t17 k) := by decide +kernel
theorem hp_nm17 : ∀ a, a < 7 → ∀ b, b < 7 → a ≠ b → (hp_T17 a).2.1 ≠ (hp_T17 b).2.1 := by decide +kernel
def hp_T18 : u_T := fun k => match k with
  | 0 => ("StreamNodes$Expression", "type", "LStreamNodes$Type;", false)
  | 1 => ("StreamNodes$Expression", "clock", "LStreamNodes$Beat;", false)
  | 2 => ("StreamNodes$Expression", "height", "I", false)
  | 3 => ("StreamNodes$Together", "inside", "Ljava/util/ArrayList;", true)
  | 4 => ("StreamNodes$Together", "bad", "LStreamNodes$Wrong;", true)
  | _ => ("StreamNodes$Before", "number", "I", false)
def hp_t18 : Nat → FieldType := fun k => match k with
  | 0 => .object "StreamNodes$Type"
  | 1 => .object "StreamNodes$Beat"
  | 2 => .int
  | 3 => .object "java/util/ArrayList"
  | 4 => .object "StreamNodes$Wrong"
  | _ => .int
theorem hp_in18 : ∀ w ∈ u_ws "StreamNodes$Before" hp_T18 6, w ∈ lw_all := lw_in _ [1915, 1916, 1917, 1913, 1914, 1911] (by decide +kernel) (by decide +kernel)
theorem hp_pt18 : ∀ k, k < 6 → parseFieldDescriptor (hp_T18 k).2.2.1 = some (hp_t18 k) := by decide +kernel
theorem hp_nm18 : ∀ a, a < 6 → ∀ b, b < 6 → a ≠ b → (hp_T18 a).2.1 ≠ (hp_T18 b).2.1 := by decide +kernel
def hp_T19 : u_T := fun k => match k with
  | 0 => ("StreamNodes$Expression", "type", "LStreamNodes$Type;", false)
  | 1 => ("StreamNodes$Expression", "clock", "LStreamNodes$Beat;", false)
  | 2 => ("StreamNodes$Expression", "height", "I", false)
  | 3 => ("StreamNodes$Together", "inside", "Ljava/util/ArrayList;", true)
  | 4 => ("StreamNodes$Together", "bad", "LStreamNodes$Wrong;", true)
  | 5 => ("StreamNodes$When", "on", "LStreamNodes$Variable;", true)
  | _ => ("StreamNodes$When", "so", "Z", true)
def hp_t19 : Nat → FieldType := fun k => match k with
  | 0 => .object "StreamNodes$Type"
  | 1 => .object "StreamNodes$Beat"
  | 2 => .int
  | 3 => .object "java/util/ArrayList"
  | 4 => .object "StreamNodes$Wrong"
  | 5 => .object "StreamNodes$Variable"
  | _ => .boolean
theorem hp_in19 : ∀ w ∈ u_ws "StreamNodes$When" hp_T19 7, w ∈ lw_all := lw_in _ [1982, 1983, 1984, 1980, 1981, 1976, 1978] (by decide +kernel) (by decide +kernel)
theorem hp_pt19 : ∀ k, k < 7 → parseFieldDescriptor (hp_T19 k).2.2.1 = some (hp_t19 k) := by decide +kernel
theorem hp_nm19 : ∀ a, a < 7 → ∀ b, b < 7 → a ≠ b → (hp_T19 a).2.1 ≠ (hp_T19 b).2.1 := by decide +kernel
def hp_T20 : u_T := fun k => match k with
  | 0 => ("StreamNodes$Expression", "type", "LStreamNodes$Type;", false)
  | 1 => ("StreamNodes$Expression", "clock", "LStreamNodes$Beat;", false)
  | 2 => ("StreamNodes$Expression", "height", "I", false)
  | 3 => ("StreamNodes$Together", "inside", "Ljava/util/ArrayList;", true)
  | 4 => ("StreamNodes$Together", "bad", "LStreamNodes$Wrong;", true)
  | _ => ("StreamNodes$Current", "number", "I", false)
def hp_t20 : Nat → FieldType := fun k => match k with
  | 0 => .object "StreamNodes$Type"
  | 1 => .object "StreamNodes$Beat"
  | 2 => .int
  | 3 => .object "java/util/ArrayList"
  | 4 => .object "StreamNodes$Wrong"
  | _ => .int
theorem hp_in20 : ∀ w ∈ u_ws "StreamNodes$Current" hp_T20 6, w ∈ lw_all := lw_in _ [1931, 1932, 1933, 1929, 1930, 1927] (by decide +kernel) (by decide +kernel)
theorem hp_pt20 : ∀ k, k < 6 → parseFieldDescriptor (hp_T20 k).2.2.1 = some (hp_t20 k) := by decide +kernel
theorem hp_nm20 : ∀ a, a < 6 → ∀ b, b < 6 → a ≠ b → (hp_T20 a).2.1 ≠ (hp_T20 b).2.1 := by decide +kernel
def hp_T21 : u_T := fun k => match k with
  | 0 => ("StreamNodes$Expression", "type", "LStreamNodes$Type;", false)
  | 1 => ("StreamNodes$Expression", "clock", "LStreamNodes$Beat;", false)
  | 2 => ("StreamNodes$Expression", "height", "I", false)
  | 3 => ("StreamNodes$Together", "inside", "Ljava/util/ArrayList;", true)
  | 4 => ("StreamNodes$Together", "bad", "LStreamNodes$Wrong;", true)
  | 5 => ("StreamNodes$Call", "of", "LStreamNodes$Node;", true)
  | 6 => ("StreamNodes$Call", "wanted", "I", true)
  | 7 => ("StreamNodes$Call", "many", "LStreamNodes$Equation;", false)
  | _ => ("StreamNodes$Call", "number", "I", false)
def hp_t21 : Nat → FieldType := fun k => match k with
  | 0 => .object "StreamNodes$Type"
  | 1 => .object "StreamNodes$Beat"
  | 2 => .int
  | 3 => .object "java/util/ArrayList"
  | 4 => .object "StreamNodes$Wrong"
  | 5 => .object "StreamNodes$Node"
  | 6 => .int
  | 7 => .object "StreamNodes$Equation"
  | _ => .int
theorem hp_in21 : ∀ w ∈ u_ws "StreamNodes$Call" hp_T21 9, w ∈ lw_all := lw_in _ [1819, 1821, 1823, 1815, 1817, 1807, 1809, 1811, 1813] (by decide +kernel) (by decide +kernel)
theorem hp_pt21 : ∀ k, k < 9 → parseFieldDescriptor (hp_T21 k).2.2.1 = some (hp_t21 k) := by decide +kernel
theorem hp_nm21 : ∀ a, a < 9 → ∀ b, b < 9 → a ≠ b → (hp_T21 a).2.1 ≠ (hp_T21 b).2.1 := by decide +kernel
def hp_T22 : u_T := fun k => match k with
  | 0 => ("java/util/ArrayList", "elementData", "[Ljava/lang/Object;", false)
  | 1 => ("java/util/ArrayList", "size", "I", false)
  | _ => ("java/util/AbstractList", "modCount", "I", false)
def hp_t22 : Nat → FieldType := fun k => match k with
  | 0 => .array (.object "java/lang/Object")
  | 1 => .int
  | _ => .int
theorem hp_in22 : ∀ w ∈ u_ws "java/util/ArrayList" hp_T22 3, w ∈ lw_all := lw_in _ [274, 276, 278] (by decide +kernel) (by decide +kernel)
theorem hp_pt22 : ∀ k, k < 3 → parseFieldDescriptor (hp_T22 k).2.2.1 = some (hp_t22 k) := by decide +kernel
theorem hp_nm22 : ∀ a, a < 3 → ∀ b, b < 3 → a ≠ b → (hp_T22 a).2.1 ≠ (hp_T22 b).2.1 := by decide +kernel
def hp_T23 : u_T := fun k => match k with
  | 0 => ("java/util/AbstractMap", "keySet", "Ljava/util/Set;", false)
  | 1 => ("java/util/AbstractMap", "values", "Ljava/util/Collection;", false)
  | 2 => ("java/util/HashMap", "table", "[Ljava/util/HashMap$Node;", false)
  | 3 => ("java/util/HashMap", "entrySet", "Ljava/util/Set;", false)
  | 4 => ("java/util/HashMap", "size", "I", false)
  | 5 => ("java/util/HashMap", "modCount", "I", false)
  | 6 => ("java/util/HashMap", "threshold", "I", false)
  | _ => ("java/util/HashMap", "loadFactor", "F", true)
def hp_t23 : Nat → FieldType := fun k => match k with
  | 0 => .object "java/util/Set"
  | 1 => .object "java/util/Collection"
  | 2 => .array (.object "java/util/HashMap$Node")
  | 3 => .object "java/util/Set"
  | 4 => .int
  | 5 => .int
  | 6 => .int
  | _ => .float
theorem hp_in23 : ∀ w ∈ u_ws "java/util/HashMap" hp_T23 8, w ∈ lw_all := lw_in _ [308, 310, 296, 298, 300, 302, 304, 306] (by decide +kernel) (by decide +kernel)
theorem hp_pt23 : ∀ k, k < 8 → parseFieldDescriptor (hp_T23 k).2.2.1 = some (hp_t23 k) := by decide +kernel
theorem hp_nm23 : ∀ a, a < 8 → ∀ b, b < 8 → a ≠ b → (hp_T23 a).2.1 ≠ (hp_T23 b).2.1 := by decide +kernel
def hp_T24 : u_T := fun k => match k with
  | 0 => ("java/util/HashMap$Node", "hash", "I", true)
  | 1 => ("java/util/HashMap$Node", "key", "Ljava/lang/Object;", true)
  | 2 => ("java/util/HashMap$Node", "value", "Ljava/lang/Object;", false)
  | _ => ("java/util/HashMap$Node", "next", "Ljava/util/HashMap$Node;", false)
def hp_t24 : Nat → FieldType := fun k => match k with
  | 0 => .int
  | 1 => .object "java/lang/Object"
  | 2 => .object "java/lang/Object"
  | _ => .object "java/util/HashMap$Node"
theorem hp_in24 : ∀ w ∈ u_ws "java/util/HashMap$Node" hp_T24 4, w ∈ lw_all := lw_in _ [1612, 1614, 1616, 1618] (by decide +kernel) (by decide +kernel)
theorem hp_pt24 : ∀ k, k < 4 → parseFieldDescriptor (hp_T24 k).2.2.1 = some (hp_t24 k) := by decide +kernel
theorem hp_nm24 : ∀ a, a < 4 → ∀ b, b < 4 → a ≠ b → (hp_T24 a).2.1 ≠ (hp_T24 b).2.1 := by decide +kernel
def hp_T25 : u_T := fun k => match k with
  | 0 => ("java/util/HashMap$Node", "hash", "I", true)
  | 1 => ("java/util/HashMap$Node", "key", "Ljava/lang/Object;", true)
  | 2 => ("java/util/HashMap$Node", "value", "Ljava/lang/Object;", false)
  | 3 => ("java/util/HashMap$Node", "next", "Ljava/util/HashMap$Node;", false)
  | 4 => ("java/util/HashMap$TreeNode", "parent", "Ljava/util/HashMap$TreeNode;", false)
  | 5 => ("java/util/HashMap$TreeNode", "left", "Ljava/util/HashMap$TreeNode;", false)
  | 6 => ("java/util/HashMap$TreeNode", "right", "Ljava/util/HashMap$TreeNode;", false)
  | 7 => ("java/util/HashMap$TreeNode", "prev", "Ljava/util/HashMap$TreeNode;", false)
  | 8 => ("java/util/HashMap$TreeNode", "red", "Z", false)
  | 9 => ("java/util/LinkedHashMap$Entry", "before", "Ljava/util/LinkedHashMap$Entry;", false)
  | _ => ("java/util/LinkedHashMap$Entry", "after", "Ljava/util/LinkedHashMap$Entry;", false)
def hp_t25 : Nat → FieldType := fun k => match k with
  | 0 => .int
  | 1 => .object "java/lang/Object"
  | 2 => .object "java/lang/Object"
  | 3 => .object "java/util/HashMap$Node"
  | 4 => .object "java/util/HashMap$TreeNode"
  | 5 => .object "java/util/HashMap$TreeNode"
  | 6 => .object "java/util/HashMap$TreeNode"
  | 7 => .object "java/util/HashMap$TreeNode"
  | 8 => .boolean
  | 9 => .object "java/util/LinkedHashMap$Entry"
  | _ => .object "java/util/LinkedHashMap$Entry"
theorem hp_in25 : ∀ w ∈ u_ws "java/util/HashMap$TreeNode" hp_T25 11, w ∈ lw_all := lw_in _ [1679, 1680, 1681, 1682, 1665, 1667, 1669, 1671, 1673, 1675, 1677] (by decide +kernel) (by decide +kernel)
theorem hp_pt25 : ∀ k, k < 11 → parseFieldDescriptor (hp_T25 k).2.2.1 = some (hp_t25 k) := by decide +kernel
theorem hp_nm25 : ∀ a, a < 11 → ∀ b, b < 11 → a ≠ b → (hp_T25 a).2.1 ≠ (hp_T25 b).2.1 := by decide +kernel
def hp_T26 : u_T := fun k => match k with
  | 0 => ("java/lang/String", "value", "[B", true)
  | 1 => ("java/lang/String", "coder", "B", true)
  | 2 => ("java/lang/String", "hash", "I", false)
  | _ => ("java/lang/String", "hashIsZero", "Z", false)
def hp_t26 : Nat → FieldType := fun k => match k with
  | 0 => .array .byte
  | 1 => .byte
  | 2 => .int
  | _ => .boolean
theorem hp_in26 : ∀ w ∈ u_ws "java/lang/String" hp_T26 4, w ∈ lw_all := lw_in _ [827, 829, 831, 833] (by decide +kernel) (by decide +kernel)
theorem hp_pt26 : ∀ k, k < 4 → parseFieldDescriptor (hp_T26 k).2.2.1 = some (hp_t26 k) := by decide +kernel
theorem hp_nm26 : ∀ a, a < 4 → ∀ b, b < 4 → a ≠ b → (hp_T26 a).2.1 ≠ (hp_T26 b).2.1 := by decide +kernel
def hp_T27 : u_T := fun k => match k with
  | 0 => ("java/lang/AbstractStringBuilder", "value", "[B", false)
  | 1 => ("java/lang/AbstractStringBuilder", "coder", "B", false)
  | 2 => ("java/lang/AbstractStringBuilder", "maybeLatin1", "Z", false)
  | _ => ("java/lang/AbstractStringBuilder", "count", "I", false)
def hp_t27 : Nat → FieldType := fun k => match k with
  | 0 => .array .byte
  | 1 => .byte
  | 2 => .boolean
  | _ => .int
theorem hp_in27 : ∀ w ∈ u_ws "java/lang/StringBuilder" hp_T27 4, w ∈ lw_all := lw_in _ [564, 566, 568, 570] (by decide +kernel) (by decide +kernel)
theorem hp_pt27 : ∀ k, k < 4 → parseFieldDescriptor (hp_T27 k).2.2.1 = some (hp_t27 k) := by decide +kernel
theorem hp_nm27 : ∀ a, a < 4 → ∀ b, b < 4 → a ≠ b → (hp_T27 a).2.1 ≠ (hp_T27 b).2.1 := by decide +kernel
def hp_C : Nat → String := fun c => match c with
  | 1 => "StreamNodesModel"
  | 2 => "StreamNodes"
  | 3 => "StreamNodes$Wrong"
  | 4 => "StreamNodesModel$Wrong"
  | 5 => "StreamNodes$Beat"
  | 6 => "StreamNodes$Variable"
  | 7 => "StreamNodes$Equation"
  | 8 => "StreamNodes$Node"
  | 9 => "StreamNodes$Graph"
  | 10 => "StreamNodes$Now"
  | 11 => "StreamNodes$Instance"
  | 12 => "StreamNodes$Reader"
  | 13 => "StreamNodes$Constant"
  | 14 => "StreamNodes$Name"
  | 15 => "StreamNodes$Operation"
  | 16 => "StreamNodes$Choice"
  | 17 => "StreamNodes$First"
  | 18 => "StreamNodes$Before"
  | 19 => "StreamNodes$When"
  | 20 => "StreamNodes$Current"
  | 21 => "StreamNodes$Call"
  | 22 => "java/util/ArrayList"
  | 23 => "java/util/HashMap"
  | 24 => "java/util/HashMap$Node"
  | 25 => "java/util/HashMap$TreeNode"
  | 26 => "java/lang/String"
  | 27 => "java/lang/StringBuilder"
  | _ => "StreamNodesModel"
def hp_T : Nat → u_T := fun c => match c with
  | 1 => hp_T1
  | 2 => hp_T2
  | 3 => hp_T3
  | 4 => hp_T4
  | 5 => hp_T5
  | 6 => hp_T6
  | 7 => hp_T7
  | 8 => hp_T8
  | 9 => hp_T9
  | 10 => hp_T10
  | 11 => hp_T11
  | 12 => hp_T12
  | 13 => hp_T13
  | 14 => hp_T14
  | 15 => hp_T15
  | 16 => hp_T16
  | 17 => hp_T17
  | 18 => hp_T18
  | 19 => hp_T19
  | 20 => hp_T20
  | 21 => hp_T21
  | 22 => hp_T22
  | 23 => hp_T23
  | 24 => hp_T24
  | 25 => hp_T25
  | 26 => hp_T26
  | 27 => hp_T27
  | _ => hp_T1
def hp_ty : Nat → Nat → FieldType := fun c => match c with
  | 1 => hp_t1
  | 2 => hp_t2
  | 3 => hp_t3
  | 4 => hp_t4
  | 5 => hp_t5
  | 6 => hp_t6
  | 7 => hp_t7
  | 8 => hp_t8
  | 9 => hp_t9
  | 10 => hp_t10
  | 11 => hp_t11
  | 12 => hp_t12
  | 13 => hp_t13
  | 14 => hp_t14
  | 15 => hp_t15
  | 16 => hp_t16
  | 17 => hp_t17
  | 18 => hp_t18
  | 19 => hp_t19
  | 20 => hp_t20
  | 21 => hp_t21
  | 22 => hp_t22
  | 23 => hp_t23
  | 24 => hp_t24
  | 25 => hp_t25
  | 26 => hp_t26
  | 27 => hp_t27
  | _ => hp_t1
def hp_N : Nat → Nat := fun c => match c with
  | 1 => 84
  | 2 => 29
  | 3 => 8
  | 4 => 8
  | 5 => 3
  | 6 => 6
  | 7 => 3
  | 8 => 12
  | 9 => 3
  | 10 => 7
  | 11 => 8
  | 12 => 11
  | 13 => 5
  | 14 => 4
  | 15 => 6
  | 16 => 5
  | 17 => 7
  | 18 => 6
  | 19 => 7
  | 20 => 6
  | 21 => 9
  | 22 => 3
  | 23 => 8
  | 24 => 4
  | 25 => 11
  | 26 => 4
  | 27 => 4
  | _ => 84
def hp_at : Nat → FieldType := fun c => match c with
  | 28 => .int
  | 29 => .boolean
  | 30 => .byte
  | 31 => .long
  | 32 => .object "java/lang/Object"
  | 33 => .object "StreamNodes$Instance"
  | 34 => .object "StreamNodes$Expression"
  | _ => .object "java/util/HashMap$Node"
theorem hp_inA : ∀ c, c < 28 → ∀ w ∈ u_ws (hp_C c) (hp_T c) (hp_N c), w ∈ lw_all := by
  intro c hc
  match c, hc with
  | 0, _ => exact hp_in1
  | 1, _ => exact hp_in1
  | 2, _ => exact hp_in2
  | 3, _ => exact hp_in3
  | 4, _ => exact hp_in4
  | 5, _ => exact hp_in5
  | 6, _ => exact hp_in6
  | 7, _ => exact hp_in7
  | 8, _ => exact hp_in8
  | 9, _ => exact hp_in9
  | 10, _ => exact hp_in10
  | 11, _ => exact hp_in11
  | 12, _ => exact hp_in12
  | 13, _ => exact hp_in13
  | 14, _ => exact hp_in14
  | 15, _ => exact hp_in15
  | 16, _ => exact hp_in16
  | 17, _ => exact hp_in17
  | 18, _ => exact hp_in18
  | 19, _ => exact hp_in19
  | 20, _ => exact hp_in20
  | 21, _ => exact hp_in21
  | 22, _ => exact hp_in22
  | 23, _ => exact hp_in23
  | 24, _ => exact hp_in24
  | 25, _ => exact hp_in25
  | 26, _ => exact hp_in26
  | 27, _ => exact hp_in27
  | c + 28, h => exact absurd h (by omega)
theorem hp_ptA : ∀ c, c < 28 → ∀ k, k < hp_N c → parseFieldDescriptor (hp_T c k).2.2.1 = some (hp_ty c k) := by
  intro c hc
  match c, hc with
  | 0, _ => exact hp_pt1
  | 1, _ => exact hp_pt1
  | 2, _ => exact hp_pt2
  | 3, _ => exact hp_pt3
  | 4, _ => exact hp_pt4
  | 5, _ => exact hp_pt5
  | 6, _ => exact hp_pt6
  | 7, _ => exact hp_pt7
  | 8, _ => exact hp_pt8
  | 9, _ => exact hp_pt9
  | 10, _ => exact hp_pt10
  | 11, _ => exact hp_pt11
  | 12, _ => exact hp_pt12
  | 13, _ => exact hp_pt13
  | 14, _ => exact hp_pt14
  | 15, _ => exact hp_pt15
  | 16, _ => exact hp_pt16
  | 17, _ => exact hp_pt17
  | 18, _ => exact hp_pt18
  | 19, _ => exact hp_pt19
  | 20, _ => exact hp_pt20
  | 21, _ => exact hp_pt21
  | 22, _ => exact hp_pt22
  | 23, _ => exact hp_pt23
  | 24, _ => exact hp_pt24
  | 25, _ => exact hp_pt25
  | 26, _ => exact hp_pt26
  | 27, _ => exact hp_pt27
  | c + 28, h => exact absurd h (by omega)
theorem hp_nmA : ∀ c, c < 28 → ∀ a, a < hp_N c → ∀ b, b < hp_N c → a ≠ b → (hp_T c a).2.1 ≠ (hp_T c b).2.1 := by
  intro c hc
  match c, hc with
  | 0, _ => exact hp_nm1
  | 1, _ => exact hp_nm1
  | 2, _ => exact hp_nm2
  | 3, _ => exact hp_nm3
  | 4, _ => exact hp_nm4
  | 5, _ => exact hp_nm5
  | 6, _ => exact hp_nm6
  | 7, _ => exact hp_nm7
  | 8, _ => exact hp_nm8
  | 9, _ => exact hp_nm9
  | 10, _ => exact hp_nm10
  | 11, _ => exact hp_nm11
  | 12, _ => exact hp_nm12
  | 13, _ => exact hp_nm13
  | 14, _ => exact hp_nm14
  | 15, _ => exact hp_nm15
  | 16, _ => exact hp_nm16
  | 17, _ => exact hp_nm17
  | 18, _ => exact hp_nm18
  | 19, _ => exact hp_nm19
  | 20, _ => exact hp_nm20
  | 21, _ => exact hp_nm21
  | 22, _ => exact hp_nm22
  | 23, _ => exact hp_nm23
  | 24, _ => exact hp_nm24
  | 25, _ => exact hp_nm25
  | 26, _ => exact hp_nm26
  | 27, _ => exact hp_nm27
  | c + 28, h => exact absurd h (by omega)
def hp_caL : List (String × String) := [("StreamNodes$Wrong", "StreamNodes$Wrong"),
  ("[B", "java/lang/Cloneable"),
  ("java/lang/IllegalArgumentException", "java/lang/IllegalArgumentException"),
  ("java/lang/System$2", "jdk/internal/access/JavaLangAccess"),
  ("StreamNodes$Sign", "java/lang/Comparable"),
  ("StreamNodes$Type", "java/lang/Comparable"),
  ("java/lang/String", "java/lang/Comparable"),
  ("java/lang/StringBuilder", "java/lang/Comparable"),
  ("StreamNodes$Before", "StreamNodes$Memory"),
  ("StreamNodes$Current", "StreamNodes$Memory"),
  ("StreamNodes$First", "StreamNodes$Memory"),
  ("java/lang/IllegalStateException", "java/lang/IllegalStateException"),
  ("java/util/NoSuchElementException", "java/util/NoSuchElementException"),
  ("StreamNodesModel$Wrong", "StreamNodesModel$Wrong"),
  ("StreamNodes$Sign", "java/lang/Enum"),
  ("StreamNodes$Type", "java/lang/Enum"),
  ("StreamNodes$Before", "StreamNodes$Expression"),
  ("StreamNodes$Call", "StreamNodes$Expression"),
  ("StreamNodes$Choice", "StreamNodes$Expression"),
  ("StreamNodes$Constant", "StreamNodes$Expression"),
  ("StreamNodes$Current", "StreamNodes$Expression"),
  ("StreamNodes$First", "StreamNodes$Expression"),
  ("StreamNodes$Name", "StreamNodes$Expression"),
  ("StreamNodes$Operation", "StreamNodes$Expression"),
  ("StreamNodes$When", "StreamNodes$Expression"),
  ("StreamNodes$Before", "StreamNodes$Together"),
  ("StreamNodes$Call", "StreamNodes$Together"),
  ("StreamNodes$Choice", "StreamNodes$Together"),
  ("StreamNodes$Current", "StreamNodes$Together"),
  ("StreamNodes$First", "StreamNodes$Together"),
  ("StreamNodes$Operation", "StreamNodes$Together"),
  ("StreamNodes$When", "StreamNodes$Together"),
  ("StreamNodes$Instance", "java/lang/Object"),
  ("StreamNodes$Expression", "java/lang/Object"),
  ("java/util/HashMap$Node", "java/lang/Object"),
  ("StreamNodes", "java/lang/Object"),
  ("StreamNodes$Wrong", "java/lang/Object"),
  ("StreamNodes$Reader", "java/lang/Object"),
  ("java/util/ArrayList", "java/lang/Object"),
  ("java/util/HashMap", "java/lang/Object"),
  ("StreamNodes$Now", "java/lang/Object"),
  ("StreamNodes$Graph", "java/lang/Object"),
  ("StreamNodesModel", "java/lang/Object"),
  ("java/lang/IllegalStateException", "java/lang/Object"),
  ("java/lang/IllegalArgumentException", "java/lang/Object"),
  ("StreamNodes$Sign", "java/lang/Object"),
  ("java/lang/StringBuilder", "java/lang/Object"),
  ("java/lang/String", "java/lang/Object"),
  ("java/lang/System$2", "java/lang/Object"),
  ("jdk/internal/misc/Unsafe", "java/lang/Object"),
  ("StreamNodes$Node", "java/lang/Object"),
  ("StreamNodes$Type", "java/lang/Object"),
  ("StreamNodes$Beat", "java/lang/Object"),
  ("StreamNodes$Variable", "java/lang/Object"),
  ("java/util/HashMap$TreeNode", "java/lang/Object"),
  ("StreamNodes$Equation", "java/lang/Object"),
  ("StreamNodes$Call", "java/lang/Object"),
  ("StreamNodes$Choice", "java/lang/Object"),
  ("StreamNodes$Operation", "java/lang/Object"),
  ("StreamNodes$Before", "java/lang/Object"),
  ("StreamNodes$Current", "java/lang/Object"),
  ("StreamNodes$Constant", "java/lang/Object"),
  ("StreamNodes$Name", "java/lang/Object"),
  ("StreamNodes$When", "java/lang/Object"),
  ("StreamNodes$First", "java/lang/Object"),
  ("StreamNodesModel$Wrong", "java/lang/Object"),
  ("java/util/NoSuchElementException", "java/lang/Object"),
  ("java/lang/Throwable", "java/lang/Object"),
  ("java/util/HashMap$TreeNode", "java/util/HashMap$Node"),
  ("[B", "java/lang/Object"),
  ("[I", "java/lang/Object"),
  ("[Z", "java/lang/Object"),
  ("[LStreamNodes$Instance;", "java/lang/Object"),
  ("[LStreamNodes$Expression;", "java/lang/Object"),
  ("[Ljava/lang/Object;", "java/lang/Object"),
  ("[Ljava/util/HashMap$Node;", "java/lang/Object"),
  ("[J", "java/lang/Object")]
def hp_ncL : List (String × String) := [("StreamNodes", "StreamNodes$Before"),
  ("StreamNodes", "StreamNodes$Call"),
  ("StreamNodes", "StreamNodes$Expression"),
  ("StreamNodes", "StreamNodes$First"),
  ("StreamNodes", "StreamNodes$Instance"),
  ("StreamNodes", "StreamNodes$Memory"),
  ("StreamNodes", "StreamNodes$Together"),
  ("StreamNodes", "StreamNodes$Wrong"),
  ("StreamNodes", "StreamNodesModel$Wrong"),
  ("StreamNodes", "[B"),
  ("StreamNodes", "java/lang/Comparable"),
  ("StreamNodes", "java/lang/IllegalArgumentException"),
  ("StreamNodes", "java/lang/IllegalStateException"),
  ("StreamNodes", "java/lang/String"),
  ("StreamNodes", "java/util/HashMap$TreeNode"),
  ("StreamNodes", "java/util/NoSuchElementException"),
  ("StreamNodes$Beat", "StreamNodes$Before"),
  ("StreamNodes$Beat", "StreamNodes$Call"),
  ("StreamNodes$Beat", "StreamNodes$Expression"),
  ("StreamNodes$Beat", "StreamNodes$First"),
  ("StreamNodes$Beat", "StreamNodes$Instance"),
  ("StreamNodes$Beat", "StreamNodes$Memory"),
  ("StreamNodes$Beat", "StreamNodes$Together"),
  ("StreamNodes$Beat", "StreamNodes$Wrong"),
  ("StreamNodes$Beat", "StreamNodesModel$Wrong"),
  ("StreamNodes$Beat", "[B"),
  ("StreamNodes$Beat", "java/lang/Comparable"),
  ("StreamNodes$Beat", "java/lang/IllegalArgumentException"),
  ("StreamNodes$Beat", "java/lang/IllegalStateException"),
  ("StreamNodes$Beat", "java/lang/String"),
  ("StreamNodes$Beat", "java/util/HashMap$TreeNode"),
  ("StreamNodes$Beat", "java/util/NoSuchElementException"),
  ("StreamNodes$Before", "StreamNodes$Call"),
  ("StreamNodes$Before", "StreamNodes$First"),
  ("StreamNodes$Before", "StreamNodes$Instance"),
  ("StreamNodes$Before", "StreamNodes$Wrong"),
  ("StreamNodes$Before", "StreamNodesModel$Wrong"),
  ("StreamNodes$Before", "[B"),
  ("StreamNodes$Before", "java/lang/Comparable"),
  ("StreamNodes$Before", "java/lang/IllegalArgumentException"),
  ("StreamNodes$Before", "java/lang/IllegalStateException"),
  ("StreamNodes$Before", "java/lang/String"),
  ("StreamNodes$Before", "java/util/HashMap$TreeNode"),
  ("StreamNodes$Before", "java/util/NoSuchElementException"),
  ("StreamNodes$Call", "StreamNodes$Before"),
  ("StreamNodes$Call", "StreamNodes$First"),
  ("StreamNodes$Call", "StreamNodes$Instance"),
  ("StreamNodes$Call", "StreamNodes$Memory"),
  ("StreamNodes$Call", "StreamNodes$Wrong"),
  ("StreamNodes$Call", "StreamNodesModel$Wrong"),
  ("StreamNodes$Call", "[B"),
  ("StreamNodes$Call", "java/lang/Comparable"),
  ("StreamNodes$Call", "java/lang/IllegalArgumentException"),
  ("StreamNodes$Call", "java/lang/IllegalStateException"),
  ("StreamNodes$Call", "java/lang/String"),
  ("StreamNodes$Call", "java/util/HashMap$TreeNode"),
  ("StreamNodes$Call", "java/util/NoSuchElementException"),
  ("StreamNodes$Choice", "StreamNodes$Before"),
  ("StreamNodes$Choice", "StreamNodes$Call"),
  ("StreamNodes$Choice", "StreamNodes$First"),
  ("StreamNodes$Choice", "StreamNodes$Instance"),
  ("StreamNodes$Choice", "StreamNodes$Memory"),
  ("StreamNodes$Choice", "StreamNodes$Wrong"),
  ("StreamNodes$Choice", "StreamNodesModel$Wrong"),
  ("StreamNodes$Choice", "[B"),
  ("StreamNodes$Choice", "java/lang/Comparable"),
  ("StreamNodes$Choice", "java/lang/IllegalArgumentException"),
  ("StreamNodes$Choice", "java/lang/IllegalStateException"),
  ("StreamNodes$Choice", "java/lang/String"),
  ("StreamNodes$Choice", "java/util/HashMap$TreeNode"),
  ("StreamNodes$Choice", "java/util/NoSuchElementException"),
  ("StreamNodes$Constant", "StreamNodes$Before"),
  ("StreamNodes$Constant", "StreamNodes$Call"),
  ("StreamNodes$Constant", "StreamNodes$First"),
  ("StreamNodes$Constant", "StreamNodes$Instance"),
  ("StreamNodes$Constant", "StreamNodes$Memory"),
  ("StreamNodes$Constant", "StreamNodes$Together"),
  ("StreamNodes$Constant", "StreamNodes$Wrong"),
  ("StreamNodes$Constant", "StreamNodesModel$Wrong"),
  ("StreamNodes$Constant", "[B"),
  ("StreamNodes$Constant", "java/lang/Comparable"),
  ("StreamNodes$Constant", "java/lang/IllegalArgumentException"),
  ("StreamNodes$Constant", "java/lang/IllegalStateException"),
  ("StreamNodes$Constant", "java/lang/String"),
  ("StreamNodes$Constant", "java/util/HashMap$TreeNode"),
  ("StreamNodes$Constant", "java/util/NoSuchElementException"),
  ("StreamNodes$Current", "StreamNodes$Before"),
  ("StreamNodes$Current", "StreamNodes$Call"),
  ("StreamNodes$Current", "StreamNodes$First"),
  ("StreamNodes$Current", "StreamNodes$Instance"),
  ("StreamNodes$Current", "StreamNodes$Wrong"),
  ("StreamNodes$Current", "StreamNodesModel$Wrong"),
  ("StreamNodes$Current", "[B"),
  ("StreamNodes$Current", "java/lang/Comparable"),
  ("StreamNodes$Current", "java/lang/IllegalArgumentException"),
  ("StreamNodes$Current", "java/lang/IllegalStateException"),
  ("StreamNodes$Current", "java/lang/String"),
  ("StreamNodes$Current", "java/util/HashMap$TreeNode"),
  ("StreamNodes$Current", "java/util/NoSuchElementException"),
  ("StreamNodes$Equation", "StreamNodes$Before"),
  ("StreamNodes$Equation", "StreamNodes$Call"),
  ("StreamNodes$Equation", "StreamNodes$Expression"),
  ("StreamNodes$Equation", "StreamNodes$First"),
  ("StreamNodes$Equation", "StreamNodes$Instance"),
  ("StreamNodes$Equation", "StreamNodes$Memory"),
  ("StreamNodes$Equation", "StreamNodes$Together"),
  ("StreamNodes$Equation", "StreamNodes$Wrong"),
  ("StreamNodes$Equation", "StreamNodesModel$Wrong"),
  ("StreamNodes$Equation", "[B"),
  ("StreamNodes$Equation", "java/lang/Comparable"),
  ("StreamNodes$Equation", "java/lang/IllegalArgumentException"),
  ("StreamNodes$Equation", "java/lang/IllegalStateException"),
  ("StreamNodes$Equation", "java/lang/String"),
  ("StreamNodes$Equation", "java/util/HashMap$TreeNode"),
  ("StreamNodes$Equation", "java/util/NoSuchElementException"),
  ("StreamNodes$First", "StreamNodes$Before"),
  ("StreamNodes$First", "StreamNodes$Call"),
  ("StreamNodes$First", "StreamNodes$Instance"),
  ("StreamNodes$First", "StreamNodes$Wrong"),
  ("StreamNodes$First", "StreamNodesModel$Wrong"),
  ("StreamNodes$First", "[B"),
  ("StreamNodes$First", "java/lang/Comparable"),
  ("StreamNodes$First", "java/lang/IllegalArgumentException"),
  ("StreamNodes$First", "java/lang/IllegalStateException"),
  ("StreamNodes$First", "java/lang/String"),
  ("StreamNodes$First", "java/util/HashMap$TreeNode"),
  ("StreamNodes$First", "java/util/NoSuchElementException"),
  ("StreamNodes$Graph", "StreamNodes$Before"),
  ("StreamNodes$Graph", "StreamNodes$Call"),
  ("StreamNodes$Graph", "StreamNodes$Expression"),
  ("StreamNodes$Graph", "StreamNodes$First"),
  ("StreamNodes$Graph", "StreamNodes$Instance"),
  ("StreamNodes$Graph", "StreamNodes$Memory"),
  ("StreamNodes$Graph", "StreamNodes$Together"),
  ("StreamNodes$Graph", "StreamNodes$Wrong"),
  ("StreamNodes$Graph", "StreamNodesModel$Wrong"),
  ("StreamNodes$Graph", "[B"),
  ("StreamNodes$Graph", "java/lang/Comparable"),
  ("StreamNodes$Graph", "java/lang/IllegalArgumentException"),
  ("StreamNodes$Graph", "java/lang/IllegalStateException"),
  ("StreamNodes$Graph", "java/lang/String"),
  ("StreamNodes$Graph", "java/util/HashMap$TreeNode"),
  ("StreamNodes$Graph", "java/util/NoSuchElementException"),
  ("StreamNodes$Instance", "StreamNodes$Before"),
  ("StreamNodes$Instance", "StreamNodes$Call"),
  ("StreamNodes$Instance", "StreamNodes$Expression"),
  ("StreamNodes$Instance", "StreamNodes$First"),
  ("StreamNodes$Instance", "StreamNodes$Memory"),
  ("StreamNodes$Instance", "StreamNodes$Together"),
  ("StreamNodes$Instance", "StreamNodes$Wrong"),
  ("StreamNodes$Instance", "StreamNodesModel$Wrong"),
  ("StreamNodes$Instance", "[B"),
  ("StreamNodes$Instance", "java/lang/Comparable"),
  ("StreamNodes$Instance", "java/lang/IllegalArgumentException"),
  ("StreamNodes$Instance", "java/lang/IllegalStateException"),
  ("StreamNodes$Instance", "java/lang/String"),
  ("StreamNodes$Instance", "java/util/HashMap$TreeNode"),
  ("StreamNodes$Instance", "java/util/NoSuchElementException"),
  ("StreamNodes$Name", "StreamNodes$Before"),
  ("StreamNodes$Name", "StreamNodes$Call"),
  ("StreamNodes$Name", "StreamNodes$First"),
  ("StreamNodes$Name", "StreamNodes$Instance"),
  ("StreamNodes$Name", "StreamNodes$Memory"),
  ("StreamNodes$Name", "StreamNodes$Together"),
  ("StreamNodes$Name", "StreamNodes$Wrong"),
  ("StreamNodes$Name", "StreamNodesModel$Wrong"),
  ("StreamNodes$Name", "[B"),
  ("StreamNodes$Name", "java/lang/Comparable"),
  ("StreamNodes$Name", "java/lang/IllegalArgumentException"),
  ("StreamNodes$Name", "java/lang/IllegalStateException"),
  ("StreamNodes$Name", "java/lang/String"),
  ("StreamNodes$Name", "java/util/HashMap$TreeNode"),
  ("StreamNodes$Name", "java/util/NoSuchElementException"),
  ("StreamNodes$Node", "StreamNodes$Before"),
  ("StreamNodes$Node", "StreamNodes$Call"),
  ("StreamNodes$Node", "StreamNodes$Expression"),
  ("StreamNodes$Node", "StreamNodes$First"),
  ("StreamNodes$Node", "StreamNodes$Instance"),
  ("StreamNodes$Node", "StreamNodes$Memory"),
  ("StreamNodes$Node", "StreamNodes$Together"),
  ("StreamNodes$Node", "StreamNodes$Wrong"),
  ("StreamNodes$Node", "StreamNodesModel$Wrong"),
  ("StreamNodes$Node", "[B"),
  ("StreamNodes$Node", "java/lang/Comparable"),
  ("StreamNodes$Node", "java/lang/IllegalArgumentException"),
  ("StreamNodes$Node", "java/lang/IllegalStateException"),
  ("StreamNodes$Node", "java/lang/String"),
  ("StreamNodes$Node", "java/util/HashMap$TreeNode"),
  ("StreamNodes$Node", "java/util/NoSuchElementException"),
  ("StreamNodes$Now", "StreamNodes$Before"),
  ("StreamNodes$Now", "StreamNodes$Call"),
  ("StreamNodes$Now", "StreamNodes$Expression"),
  ("StreamNodes$Now", "StreamNodes$First"),
  ("StreamNodes$Now", "StreamNodes$Instance"),
  ("StreamNodes$Now", "StreamNodes$Memory"),
  ("StreamNodes$Now", "StreamNodes$Together"),
  ("StreamNodes$Now", "StreamNodes$Wrong"),
  ("StreamNodes$Now", "StreamNodesModel$Wrong"),
  ("StreamNodes$Now", "[B"),
  ("StreamNodes$Now", "java/lang/Comparable"),
  ("StreamNodes$Now", "java/lang/IllegalArgumentException"),
  ("StreamNodes$Now", "java/lang/IllegalStateException"),
  ("StreamNodes$Now", "java/lang/String"),
  ("StreamNodes$Now", "java/util/HashMap$TreeNode"),
  ("StreamNodes$Now", "java/util/NoSuchElementException"),
  ("StreamNodes$Operation", "StreamNodes$Before"),
  ("StreamNodes$Operation", "StreamNodes$Call"),
  ("StreamNodes$Operation", "StreamNodes$First"),
  ("StreamNodes$Operation", "StreamNodes$Instance"),
  ("StreamNodes$Operation", "StreamNodes$Memory"),
  ("StreamNodes$Operation", "StreamNodes$Wrong"),
  ("StreamNodes$Operation", "StreamNodesModel$Wrong"),
  ("StreamNodes$Operation", "[B"),
  ("StreamNodes$Operation", "java/lang/Comparable"),
  ("StreamNodes$Operation", "java/lang/IllegalArgumentException"),
  ("StreamNodes$Operation", "java/lang/IllegalStateException"),
  ("StreamNodes$Operation", "java/lang/String"),
  ("StreamNodes$Operation", "java/util/HashMap$TreeNode"),
  ("StreamNodes$Operation", "java/util/NoSuchElementException"),
  ("StreamNodes$Reader", "StreamNodes$Before"),
  ("StreamNodes$Reader", "StreamNodes$Call"),
  ("StreamNodes$Reader", "StreamNodes$Expression"),
  ("StreamNodes$Reader", "StreamNodes$First"),
  ("StreamNodes$Reader", "StreamNodes$Instance"),
  ("StreamNodes$Reader", "StreamNodes$Memory"),
  ("StreamNodes$Reader", "StreamNodes$Together"),
  ("StreamNodes$Reader", "StreamNodes$Wrong"),
  ("StreamNodes$Reader", "StreamNodesModel$Wrong"),
  ("StreamNodes$Reader", "[B"),
  ("StreamNodes$Reader", "java/lang/Comparable"),
  ("StreamNodes$Reader", "java/lang/IllegalArgumentException"),
  ("StreamNodes$Reader", "java/lang/IllegalStateException"),
  ("StreamNodes$Reader", "java/lang/String"),
  ("StreamNodes$Reader", "java/util/HashMap$TreeNode"),
  ("StreamNodes$Reader", "java/util/NoSuchElementException"),
  ("StreamNodes$Variable", "StreamNodes$Before"),
  ("StreamNodes$Variable", "StreamNodes$Call"),
  ("StreamNodes$Variable", "StreamNodes$Expression"),
  ("StreamNodes$Variable", "StreamNodes$First"),
  ("StreamNodes$Variable", "StreamNodes$Instance"),
  ("StreamNodes$Variable", "StreamNodes$Memory"),
  ("StreamNodes$Variable", "StreamNodes$Together"),
  ("StreamNodes$Variable", "StreamNodes$Wrong"),
  ("StreamNodes$Variable", "StreamNodesModel$Wrong"),
  ("StreamNodes$Variable", "[B"),
  ("StreamNodes$Variable", "java/lang/Comparable"),
  ("StreamNodes$Variable", "java/lang/IllegalArgumentException"),
  ("StreamNodes$Variable", "java/lang/IllegalStateException"),
  ("StreamNodes$Variable", "java/lang/String"),
  ("StreamNodes$Variable", "java/util/HashMap$TreeNode"),
  ("StreamNodes$Variable", "java/util/NoSuchElementException"),
  ("StreamNodes$When", "StreamNodes$Before"),
  ("StreamNodes$When", "StreamNodes$Call"),
  ("StreamNodes$When", "StreamNodes$First"),
  ("StreamNodes$When", "StreamNodes$Instance"),
  ("StreamNodes$When", "StreamNodes$Memory"),
  ("StreamNodes$When", "StreamNodes$Wrong"),
  ("StreamNodes$When", "StreamNodesModel$Wrong"),
  ("StreamNodes$When", "[B"),
  ("StreamNodes$When", "java/lang/Comparable"),
  ("StreamNodes$When", "java/lang/IllegalArgumentException"),
  ("StreamNodes$When", "java/lang/IllegalStateException"),
  ("StreamNodes$When", "java/lang/String"),
  ("StreamNodes$When", "java/util/HashMap$TreeNode"),
  ("StreamNodes$When", "java/util/NoSuchElementException"),
  ("StreamNodes$Wrong", "StreamNodes$Before"),
  ("StreamNodes$Wrong", "StreamNodes$Call"),
  ("StreamNodes$Wrong", "StreamNodes$Expression"),
  ("StreamNodes$Wrong", "StreamNodes$First"),
  ("StreamNodes$Wrong", "StreamNodes$Instance"),
  ("StreamNodes$Wrong", "StreamNodes$Memory"),
  ("StreamNodes$Wrong", "StreamNodes$Together"),
  ("StreamNodes$Wrong", "StreamNodesModel$Wrong"),
  ("StreamNodes$Wrong", "[B"),
  ("StreamNodes$Wrong", "java/lang/Comparable"),
  ("StreamNodes$Wrong", "java/lang/IllegalArgumentException"),
  ("StreamNodes$Wrong", "java/lang/IllegalStateException"),
  ("StreamNodes$Wrong", "java/lang/String"),
  ("StreamNodes$Wrong", "java/util/HashMap$TreeNode"),
  ("StreamNodes$Wrong", "java/util/NoSuchElementException"),
  ("StreamNodesModel", "StreamNodes$Before"),
  ("StreamNodesModel", "StreamNodes$Call"),
  ("StreamNodesModel", "StreamNodes$Expression"),
  ("StreamNodesModel", "StreamNodes$First"),
  ("StreamNodesModel", "StreamNodes$Instance"),
  ("StreamNodesModel", "StreamNodes$Memory"),
  ("StreamNodesModel", "StreamNodes$Together"),
  ("StreamNodesModel", "StreamNodes$Wrong"),
  ("StreamNodesModel", "StreamNodesModel$Wrong"),
  ("StreamNodesModel", "[B"),
  ("StreamNodesModel", "java/lang/Comparable"),
  ("StreamNodesModel", "java/lang/IllegalArgumentException"),
  ("StreamNodesModel", "java/lang/IllegalStateException"),
  ("StreamNodesModel", "java/lang/String"),
  ("StreamNodesModel", "java/util/HashMap$TreeNode"),
  ("StreamNodesModel", "java/util/NoSuchElementException"),
  ("StreamNodesModel$Wrong", "StreamNodes$Before"),
  ("StreamNodesModel$Wrong", "StreamNodes$Call"),
  ("StreamNodesModel$Wrong", "StreamNodes$Expression"),
  ("StreamNodesModel$Wrong", "StreamNodes$First"),
  ("StreamNodesModel$Wrong", "StreamNodes$Instance"),
  ("StreamNodesModel$Wrong", "StreamNodes$Memory"),
  ("StreamNodesModel$Wrong", "StreamNodes$Together"),
  ("StreamNodesModel$Wrong", "StreamNodes$Wrong"),
  ("StreamNodesModel$Wrong", "[B"),
  ("StreamNodesModel$Wrong", "java/lang/Comparable"),
  ("StreamNodesModel$Wrong", "java/lang/IllegalArgumentException"),
  ("StreamNodesModel$Wrong", "java/lang/IllegalStateException"),
  ("StreamNodesModel$Wrong", "java/lang/String"),
  ("StreamNodesModel$Wrong", "java/util/HashMap$TreeNode"),
  ("StreamNodesModel$Wrong", "java/util/NoSuchElementException"),
  ("java/lang/IllegalArgumentException", "StreamNodes$Before"),
  ("java/lang/IllegalArgumentException", "StreamNodes$Call"),
  ("java/lang/IllegalArgumentException", "StreamNodes$Expression"),
  ("java/lang/IllegalArgumentException", "StreamNodes$First"),
  ("java/lang/IllegalArgumentException", "StreamNodes$Instance"),
  ("java/lang/IllegalArgumentException", "StreamNodes$Memory"),
  ("java/lang/IllegalArgumentException", "StreamNodes$Together"),
  ("java/lang/IllegalArgumentException", "StreamNodes$Wrong"),
  ("java/lang/IllegalArgumentException", "StreamNodesModel$Wrong"),
  ("java/lang/IllegalArgumentException", "[B"),
  ("java/lang/IllegalArgumentException", "java/lang/Comparable"),
  ("java/lang/IllegalArgumentException", "java/lang/IllegalStateException"),
  ("java/lang/IllegalArgumentException", "java/lang/String"),
  ("java/lang/IllegalArgumentException", "java/util/HashMap$TreeNode"),
  ("java/lang/IllegalArgumentException", "java/util/NoSuchElementException"),
  ("java/lang/IllegalStateException", "StreamNodes$Before"),
  ("java/lang/IllegalStateException", "StreamNodes$Call"),
  ("java/lang/IllegalStateException", "StreamNodes$Expression"),
  ("java/lang/IllegalStateException", "StreamNodes$First"),
  ("java/lang/IllegalStateException", "StreamNodes$Instance"),
  ("java/lang/IllegalStateException", "StreamNodes$Memory"),
  ("java/lang/IllegalStateException", "StreamNodes$Together"),
  ("java/lang/IllegalStateException", "StreamNodes$Wrong"),
  ("java/lang/IllegalStateException", "StreamNodesModel$Wrong"),
  ("java/lang/IllegalStateException", "[B"),
  ("java/lang/IllegalStateException", "java/lang/Comparable"),
  ("java/lang/IllegalStateException", "java/lang/IllegalArgumentException"),
  ("java/lang/IllegalStateException", "java/lang/String"),
  ("java/lang/IllegalStateException", "java/util/HashMap$TreeNode"),
  ("java/lang/IllegalStateException", "java/util/NoSuchElementException"),
  ("java/lang/String", "StreamNodes$Before"),
  ("java/lang/String", "StreamNodes$Call"),
  ("java/lang/String", "StreamNodes$Expression"),
  ("java/lang/String", "StreamNodes$First"),
  ("java/lang/String", "StreamNodes$Instance"),
  ("java/lang/String", "StreamNodes$Memory"),
  ("java/lang/String", "StreamNodes$Together"),
  ("java/lang/String", "StreamNodes$Wrong"),
  ("java/lang/String", "StreamNodesModel$Wrong"),
  ("java/lang/String", "[B"),
  ("java/lang/String", "java/lang/IllegalArgumentException"),
  ("java/lang/String", "java/lang/IllegalStateException"),
  ("java/lang/String", "java/util/HashMap$TreeNode"),
  ("java/lang/String", "java/util/NoSuchElementException"),
  ("java/lang/StringBuilder", "StreamNodes$Before"),
  ("java/lang/StringBuilder", "StreamNodes$Call"),
  ("java/lang/StringBuilder", "StreamNodes$Expression"),
  ("java/lang/StringBuilder", "StreamNodes$First"),
  ("java/lang/StringBuilder", "StreamNodes$Instance"),
  ("java/lang/StringBuilder", "StreamNodes$Memory"),
  ("java/lang/StringBuilder", "StreamNodes$Together"),
  ("java/lang/StringBuilder", "StreamNodes$Wrong"),
  ("java/lang/StringBuilder", "StreamNodesModel$Wrong"),
  ("java/lang/StringBuilder", "[B"),
  ("java/lang/StringBuilder", "java/lang/IllegalArgumentException"),
  ("java/lang/StringBuilder", "java/lang/IllegalStateException"),
  ("java/lang/StringBuilder", "java/lang/String"),
  ("java/lang/StringBuilder", "java/util/HashMap$TreeNode"),
  ("java/lang/StringBuilder", "java/util/NoSuchElementException"),
  ("java/util/ArrayList", "StreamNodes$Before"),
  ("java/util/ArrayList", "StreamNodes$Call"),
  ("java/util/ArrayList", "StreamNodes$Expression"),
  ("java/util/ArrayList", "StreamNodes$First"),
  ("java/util/ArrayList", "StreamNodes$Instance"),
  ("java/util/ArrayList", "StreamNodes$Memory"),
  ("java/util/ArrayList", "StreamNodes$Together"),
  ("java/util/ArrayList", "StreamNodes$Wrong"),
  ("java/util/ArrayList", "StreamNodesModel$Wrong"),
  ("java/util/ArrayList", "[B"),
  ("java/util/ArrayList", "java/lang/Comparable"),
  ("java/util/ArrayList", "java/lang/IllegalArgumentException"),
  ("java/util/ArrayList", "java/lang/IllegalStateException"),
  ("java/util/ArrayList", "java/lang/String"),
  ("java/util/ArrayList", "java/util/HashMap$TreeNode"),
  ("java/util/ArrayList", "java/util/NoSuchElementException"),
  ("java/util/HashMap", "StreamNodes$Before"),
  ("java/util/HashMap", "StreamNodes$Call"),
  ("java/util/HashMap", "StreamNodes$Expression"),
  ("java/util/HashMap", "StreamNodes$First"),
  ("java/util/HashMap", "StreamNodes$Instance"),
  ("java/util/HashMap", "StreamNodes$Memory"),
  ("java/util/HashMap", "StreamNodes$Together"),
  ("java/util/HashMap", "StreamNodes$Wrong"),
  ("java/util/HashMap", "StreamNodesModel$Wrong"),
  ("java/util/HashMap", "[B"),
  ("java/util/HashMap", "java/lang/Comparable"),
  ("java/util/HashMap", "java/lang/IllegalArgumentException"),
  ("java/util/HashMap", "java/lang/IllegalStateException"),
  ("java/util/HashMap", "java/lang/String"),
  ("java/util/HashMap", "java/util/HashMap$TreeNode"),
  ("java/util/HashMap", "java/util/NoSuchElementException"),
  ("java/util/HashMap$Node", "StreamNodes$Before"),
  ("java/util/HashMap$Node", "StreamNodes$Call"),
  ("java/util/HashMap$Node", "StreamNodes$Expression"),
  ("java/util/HashMap$Node", "StreamNodes$First"),
  ("java/util/HashMap$Node", "StreamNodes$Instance"),
  ("java/util/HashMap$Node", "StreamNodes$Memory"),
  ("java/util/HashMap$Node", "StreamNodes$Together"),
  ("java/util/HashMap$Node", "StreamNodes$Wrong"),
  ("java/util/HashMap$Node", "StreamNodesModel$Wrong"),
  ("java/util/HashMap$Node", "[B"),
  ("java/util/HashMap$Node", "java/lang/Comparable"),
  ("java/util/HashMap$Node", "java/lang/IllegalArgumentException"),
  ("java/util/HashMap$Node", "java/lang/IllegalStateException"),
  ("java/util/HashMap$Node", "java/lang/String"),
  ("java/util/HashMap$Node", "java/util/HashMap$TreeNode"),
  ("java/util/HashMap$Node", "java/util/NoSuchElementException"),
  ("java/util/HashMap$TreeNode", "StreamNodes$Before"),
  ("java/util/HashMap$TreeNode", "StreamNodes$Call"),
  ("java/util/HashMap$TreeNode", "StreamNodes$Expression"),
  ("java/util/HashMap$TreeNode", "StreamNodes$First"),
  ("java/util/HashMap$TreeNode", "StreamNodes$Instance"),
  ("java/util/HashMap$TreeNode", "StreamNodes$Memory"),
  ("java/util/HashMap$TreeNode", "StreamNodes$Together"),
  ("java/util/HashMap$TreeNode", "StreamNodes$Wrong"),
  ("java/util/HashMap$TreeNode", "StreamNodesModel$Wrong"),
  ("java/util/HashMap$TreeNode", "[B"),
  ("java/util/HashMap$TreeNode", "java/lang/Comparable"),
  ("java/util/HashMap$TreeNode", "java/lang/IllegalArgumentException"),
  ("java/util/HashMap$TreeNode", "java/lang/IllegalStateException"),
  ("java/util/HashMap$TreeNode", "java/lang/String"),
  ("java/util/HashMap$TreeNode", "java/util/NoSuchElementException"),
  ("java/util/NoSuchElementException", "StreamNodes$Before"),
  ("java/util/NoSuchElementException", "StreamNodes$Call"),
  ("java/util/NoSuchElementException", "StreamNodes$Expression"),
  ("java/util/NoSuchElementException", "StreamNodes$First"),
  ("java/util/NoSuchElementException", "StreamNodes$Instance"),
  ("java/util/NoSuchElementException", "StreamNodes$Memory"),
  ("java/util/NoSuchElementException", "StreamNodes$Together"),
  ("java/util/NoSuchElementException", "StreamNodes$Wrong"),
  ("java/util/NoSuchElementException", "StreamNodesModel$Wrong"),
  ("java/util/NoSuchElementException", "[B"),
  ("java/util/NoSuchElementException", "java/lang/Comparable"),
  ("java/util/NoSuchElementException", "java/lang/IllegalArgumentException"),
  ("java/util/NoSuchElementException", "java/lang/IllegalStateException"),
  ("java/util/NoSuchElementException", "java/lang/String"),
  ("java/util/NoSuchElementException", "java/util/HashMap$TreeNode")]
def hp_aoL : List (String) := ["StreamNodes$Instance",
  "StreamNodes$Expression",
  "java/lang/Object",
  "java/util/HashMap$Node"]
def hp_nfL : List (String × Nat × String × String × String × String) := [("StreamNodes$Reader", 317, "StreamNodes", "BASE", "LStreamNodes$Beat;", "StreamNodes"),
  ("StreamNodes$Variable", 7, "StreamNodes", "BASE", "LStreamNodes$Beat;", "StreamNodes"),
  ("StreamNodes$Together", 20, "StreamNodes", "ANY", "LStreamNodes$Beat;", "StreamNodes"),
  ("StreamNodes$Constant", 17, "StreamNodes", "ANY", "LStreamNodes$Beat;", "StreamNodes"),
  ("StreamNodes$Current", 29, "StreamNodes", "ANY", "LStreamNodes$Beat;", "StreamNodes"),
  ("StreamNodes$Current", 35, "StreamNodes", "BASE", "LStreamNodes$Beat;", "StreamNodes"),
  ("StreamNodes$When", 37, "StreamNodes", "ANY", "LStreamNodes$Beat;", "StreamNodes"),
  ("StreamNodes$Reader", 453, "StreamNodes", "ANY", "LStreamNodes$Beat;", "StreamNodes")]
def hp_nmL : List (String × Nat × MethodName × String) := [("StreamNodes", 34, ⟨"StreamNodes$Wrong", "<init>", "()V"⟩, "StreamNodes"),
  ("StreamNodes", 50, ⟨"StreamNodes$Now", "<init>", "()V"⟩, "StreamNodes"),
  ("StreamNodes", 57, ⟨"StreamNodes$Graph", "<init>", "()V"⟩, "StreamNodes"),
  ("StreamNodes$Reader", 254, ⟨"StreamNodes$Node", "<init>", "()V"⟩, "StreamNodes"),
  ("StreamNodes$Reader", 348, ⟨"StreamNodes$Equation", "<init>", "()V"⟩, "StreamNodes"),
  ("StreamNodes$Together", 1, ⟨"StreamNodes$Expression", "<init>", "()V"⟩, "StreamNodes"),
  ("StreamNodes$Constant", 1, ⟨"StreamNodes$Expression", "<init>", "()V"⟩, "StreamNodes"),
  ("StreamNodes$Name", 1, ⟨"StreamNodes$Expression", "<init>", "()V"⟩, "StreamNodes"),
  ("StreamNodes$Call", 49, ⟨"StreamNodes", "wrong", "(LStreamNodes$Wrong;I)LStreamNodes$Wrong;"⟩, "StreamNodes"),
  ("StreamNodes$Choice", 35, ⟨"StreamNodes", "wrong", "(LStreamNodes$Wrong;I)LStreamNodes$Wrong;"⟩, "StreamNodes"),
  ("StreamNodes$First", 33, ⟨"StreamNodes", "wrong", "(LStreamNodes$Wrong;I)LStreamNodes$Wrong;"⟩, "StreamNodes"),
  ("StreamNodes$Operation", 35, ⟨"StreamNodes", "wrong", "(LStreamNodes$Wrong;I)LStreamNodes$Wrong;"⟩, "StreamNodes"),
  ("StreamNodes$Together", 42, ⟨"StreamNodes", "wrong", "(LStreamNodes$Wrong;I)LStreamNodes$Wrong;"⟩, "StreamNodes"),
  ("StreamNodes$Reader", 446, ⟨"StreamNodes", "wrong", "(LStreamNodes$Wrong;I)LStreamNodes$Wrong;"⟩, "StreamNodes"),
  ("StreamNodes$Together", 38, ⟨"StreamNodes", "alike", "(LStreamNodes$Beat;LStreamNodes$Beat;)Z"⟩, "StreamNodes"),
  ("StreamNodes$Current", 42, ⟨"StreamNodes", "wrong", "(LStreamNodes$Wrong;I)LStreamNodes$Wrong;"⟩, "StreamNodes"),
  ("StreamNodes$When", 47, ⟨"StreamNodes", "alike", "(LStreamNodes$Beat;LStreamNodes$Beat;)Z"⟩, "StreamNodes"),
  ("StreamNodes$When", 55, ⟨"StreamNodes", "wrong", "(LStreamNodes$Wrong;I)LStreamNodes$Wrong;"⟩, "StreamNodes"),
  ("StreamNodes$Reader", 456, ⟨"StreamNodes", "alike", "(LStreamNodes$Beat;LStreamNodes$Beat;)Z"⟩, "StreamNodes")]
def hp_dcL : List (MethodName) := [⟨"java/lang/RuntimeException", "<init>", "()V"⟩,
  ⟨"java/lang/RuntimeException", "<init>", "(Ljava/lang/String;)V"⟩,
  ⟨"java/lang/Exception", "<init>", "()V"⟩,
  ⟨"java/lang/Exception", "<init>", "(Ljava/lang/String;)V"⟩,
  ⟨"java/lang/Throwable", "<init>", "()V"⟩,
  ⟨"java/lang/Throwable", "<init>", "(Ljava/lang/String;)V"⟩,
  ⟨"jdk/internal/access/JavaLangAccess", "getUTF16Char", "([BI)C"⟩,
  ⟨"java/lang/Object", "hashCode", "()I"⟩,
  ⟨"java/lang/Object", "equals", "(Ljava/lang/Object;)Z"⟩,
  ⟨"java/lang/Comparable", "compareTo", "(Ljava/lang/Object;)I"⟩,
  ⟨"StreamNodes$Expression", "typed", "()LStreamNodes$Type;"⟩,
  ⟨"StreamNodes$Together", "all", "(LStreamNodes$Type;)V"⟩,
  ⟨"StreamNodes$Expression", "clocked", "()LStreamNodes$Beat;"⟩,
  ⟨"StreamNodes$Expression", "settle", "(LStreamNodes$Beat;)V"⟩,
  ⟨"StreamNodes$Expression", "parts", "()I"⟩,
  ⟨"StreamNodes$Memory", "places", "()I"⟩,
  ⟨"StreamNodes$Expression", "causes", "(LStreamNodes$Instance;LStreamNodes$Graph;)V"⟩,
  ⟨"StreamNodes$Expression", "value", "(LStreamNodes$Instance;)I"⟩,
  ⟨"StreamNodes$Together", "part", "(ILStreamNodes$Instance;)I"⟩,
  ⟨"StreamNodes$Memory", "next", "(LStreamNodes$Instance;I[I)V"⟩,
  ⟨"java/lang/Object", "getClass", "()Ljava/lang/Class;"⟩]
def hp_fwL : List (String × MethodName × MethodName) := [("StreamNodes$First", ⟨"StreamNodes$Memory", "places", "()I"⟩, ⟨"StreamNodes$First", "places", "()I"⟩),
  ("StreamNodes$First", ⟨"StreamNodes$Memory", "next", "(LStreamNodes$Instance;I[I)V"⟩, ⟨"StreamNodes$First", "next", "(LStreamNodes$Instance;I[I)V"⟩),
  ("StreamNodes$Before", ⟨"StreamNodes$Memory", "places", "()I"⟩, ⟨"StreamNodes$Before", "places", "()I"⟩),
  ("StreamNodes$Before", ⟨"StreamNodes$Memory", "next", "(LStreamNodes$Instance;I[I)V"⟩, ⟨"StreamNodes$Before", "next", "(LStreamNodes$Instance;I[I)V"⟩),
  ("StreamNodes$Current", ⟨"StreamNodes$Memory", "places", "()I"⟩, ⟨"StreamNodes$Current", "places", "()I"⟩),
  ("StreamNodes$Current", ⟨"StreamNodes$Memory", "next", "(LStreamNodes$Instance;I[I)V"⟩, ⟨"StreamNodes$Current", "next", "(LStreamNodes$Instance;I[I)V"⟩),
  ("java/lang/String", ⟨"java/lang/Comparable", "compareTo", "(Ljava/lang/Object;)I"⟩, ⟨"java/lang/String", "compareTo", "(Ljava/lang/Object;)I"⟩)]
def hp_ldL : List (String × Nat × String) := [("java/util/Arrays", 337, " > "),
  ("StreamNodes$Reader", 182, "node"),
  ("jdk/internal/util/ArraysSupport", 92, "unrecognized basic type: "),
  ("StreamNodes$Reader", 187, "returns"),
  ("StreamNodes$Reader", 189, "var"),
  ("StreamNodes$Reader", 191, "let"),
  ("StreamNodes$Reader", 193, "tel"),
  ("StreamNodes$Reader", 195, "int"),
  ("StreamNodes$Reader", 197, "bool"),
  ("StreamNodes$Reader", 199, "when"),
  ("StreamNodes$Reader", 201, "not"),
  ("StreamNodes$Reader", 203, "and"),
  ("StreamNodes$Reader", 205, "or"),
  ("StreamNodes$Reader", 207, "xor"),
  ("StreamNodes$Reader", 209, "if"),
  ("StreamNodes$Reader", 211, "then"),
  ("StreamNodes$Reader", 213, "else"),
  ("StreamNodes$Reader", 215, "pre"),
  ("StreamNodes$Reader", 217, "current"),
  ("StreamNodes$Reader", 219, "fby"),
  ("StreamNodes$Reader", 221, "div"),
  ("StreamNodes$Reader", 223, "mod"),
  ("StreamNodes$Reader", 225, "true"),
  ("StreamNodes$Reader", 227, "false"),
  ("StreamNodesModel", 321, "node"),
  ("StreamNodesModel", 323, "returns"),
  ("StreamNodesModel", 325, "var"),
  ("StreamNodesModel", 327, "let"),
  ("StreamNodesModel", 329, "tel"),
  ("StreamNodesModel", 331, "int"),
  ("StreamNodesModel", 333, "bool"),
  ("StreamNodesModel", 335, "when"),
  ("StreamNodesModel", 337, "not"),
  ("StreamNodesModel", 339, "and"),
  ("StreamNodesModel", 341, "or"),
  ("StreamNodesModel", 343, "xor"),
  ("StreamNodesModel", 345, "if"),
  ("StreamNodesModel", 347, "then"),
  ("StreamNodesModel", 349, "else"),
  ("StreamNodesModel", 351, "pre"),
  ("StreamNodesModel", 353, "current"),
  ("StreamNodesModel", 355, "fby"),
  ("StreamNodesModel", 357, "div"),
  ("StreamNodesModel", 359, "mod"),
  ("StreamNodesModel", 361, "true"),
  ("StreamNodesModel", 363, "false")]
def hp_stL : List (String × String × String) := [("java/lang/Throwable", "UNASSIGNED_STACK", "[Ljava/lang/StackTraceElement;"),
  ("java/lang/Throwable", "SUPPRESSED_SENTINEL", "Ljava/util/List;"),
  ("java/util/ArrayList", "DEFAULTCAPACITY_EMPTY_ELEMENTDATA", "[Ljava/lang/Object;"),
  ("StreamNodes$Sign", "END", "LStreamNodes$Sign;"),
  ("jdk/internal/util/Preconditions", "SIOOBE_FORMATTER", "Ljava/util/function/BiFunction;"),
  ("StreamNodes$Sign", "BAD", "LStreamNodes$Sign;"),
  ("StreamNodes$Sign", "WORD", "LStreamNodes$Sign;"),
  ("java/lang/Integer", "DigitOnes", "[B"),
  ("java/lang/Integer", "DigitTens", "[B"),
  ("StreamNodes$Sign", "NUMBER", "LStreamNodes$Sign;"),
  ("StreamNodes$Sign", "OPEN", "LStreamNodes$Sign;"),
  ("StreamNodes$Sign", "CLOSE", "LStreamNodes$Sign;"),
  ("StreamNodes$Sign", "COLON", "LStreamNodes$Sign;"),
  ("StreamNodes$Sign", "SEMI", "LStreamNodes$Sign;"),
  ("StreamNodes$Sign", "COMMA", "LStreamNodes$Sign;"),
  ("StreamNodes$Sign", "PLUS", "LStreamNodes$Sign;"),
  ("StreamNodes$Sign", "TIMES", "LStreamNodes$Sign;"),
  ("StreamNodes$Sign", "ARROW", "LStreamNodes$Sign;"),
  ("StreamNodes$Sign", "MINUS", "LStreamNodes$Sign;"),
  ("StreamNodes$Sign", "IMPLIES", "LStreamNodes$Sign;"),
  ("StreamNodes$Sign", "EQUAL", "LStreamNodes$Sign;"),
  ("StreamNodes$Sign", "OTHER", "LStreamNodes$Sign;"),
  ("StreamNodes$Sign", "ATMOST", "LStreamNodes$Sign;"),
  ("StreamNodes$Sign", "LESS", "LStreamNodes$Sign;"),
  ("StreamNodes$Sign", "ATLEAST", "LStreamNodes$Sign;"),
  ("StreamNodes$Sign", "MORE", "LStreamNodes$Sign;"),
  ("jdk/internal/util/ArraysSupport", "JLA", "Ljdk/internal/access/JavaLangAccess;"),
  ("jdk/internal/util/ArraysSupport", "U", "Ljdk/internal/misc/Unsafe;"),
  ("StreamNodes$Type", "INT", "LStreamNodes$Type;"),
  ("StreamNodes$Type", "BOOL", "LStreamNodes$Type;"),
  ("StreamNodes", "BASE", "LStreamNodes$Beat;"),
  ("StreamNodes", "ANY", "LStreamNodes$Beat;")]
def hp_siL : List (String × String × String × Int32) := [("java/lang/String", "COMPACT_STRINGS", "Z", 1),
  ("java/lang/StringUTF16", "$assertionsDisabled", "Z", 1),
  ("java/lang/StringUTF16", "HI_BYTE_SHIFT", "I", 0),
  ("java/lang/StringUTF16", "LO_BYTE_SHIFT", "I", 8),
  ("jdk/internal/misc/Unsafe", "ARRAY_BYTE_BASE_OFFSET", "I", 16),
  ("jdk/internal/util/ArraysSupport", "LOG2_ARRAY_BYTE_INDEX_SCALE", "I", 0),
  ("jdk/internal/util/ArraysSupport", "LOG2_ARRAY_LONG_INDEX_SCALE", "I", 3),
  ("jdk/internal/misc/UnsafeConstants", "BIG_ENDIAN", "Z", 0),
  ("jdk/internal/util/ArraysSupport", "BIG_ENDIAN", "Z", 0),
  ("jdk/internal/util/ArraysSupport", "LOG2_BYTE_BIT_SIZE", "I", 3),
  ("jdk/internal/util/ArraysSupport", "LOG2_ARRAY_INT_INDEX_SCALE", "I", 2),
  ("java/util/HashMap$TreeNode", "$assertionsDisabled", "Z", 1)]
