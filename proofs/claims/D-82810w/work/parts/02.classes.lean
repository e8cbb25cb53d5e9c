/-! classes: names, fields, words (out of claim/names), and the list of tags -/
set_option maxRecDepth 100000
def RX1 : String := "ScriptTypes"
def TX1 : u_T := fun k => match k with
  | 0 => ("ScriptTypes", "texts", "LScriptTypes$Texts;", true)
  | 1 => ("ScriptTypes", "names", "I", false)
  | 2 => ("ScriptTypes", "row", "[B", true)
  | 3 => ("ScriptTypes", "made", "I", false)
  | 4 => ("ScriptTypes", "tape", "[B", true)
  | 5 => ("ScriptTypes", "length", "I", false)
  | 6 => ("ScriptTypes", "keywords", "LScriptTypes$Texts;", true)
  | 7 => ("ScriptTypes", "signs", "LScriptTypes$Texts;", true)
  | 8 => ("ScriptTypes", "functions", "Ljava/util/ArrayList;", false)
  | 9 => ("ScriptTypes", "code", "LScriptTypes$Coder;", true)
  | 10 => ("ScriptTypes", "there", "Z", false)
  | 11 => ("ScriptTypes", "labels", "I", false)
  | 12 => ("ScriptTypes", "sites", "I", false)
  | 13 => ("ScriptTypes", "sortOf", "[B", true)
  | 14 => ("ScriptTypes", "codeOf", "[B", true)
  | 15 => ("ScriptTypes", "pairOf", "[S", true)
  | 16 => ("ScriptTypes", "protoOf", "[S", true)
  | 17 => ("ScriptTypes", "linkOf", "[S", true)
  | 18 => ("ScriptTypes", "firstOf", "[S", true)
  | 19 => ("ScriptTypes", "lastOf", "[S", true)
  | 20 => ("ScriptTypes", "latest", "[S", true)
  | 21 => ("ScriptTypes", "propertyName", "[S", true)
  | 22 => ("ScriptTypes", "propertyNext", "[S", true)
  | 23 => ("ScriptTypes", "propertySort", "[B", true)
  | 24 => ("ScriptTypes", "propertyValue", "[I", true)
  | 25 => ("ScriptTypes", "stamp", "[I", true)
  | 26 => ("ScriptTypes", "objects", "I", false)
  | 27 => ("ScriptTypes", "properties", "I", false)
  | 28 => ("ScriptTypes", "spare", "I", false)
  | 29 => ("ScriptTypes", "stamps", "I", false)
  | 30 => ("ScriptTypes", "noRoom", "LScriptTypes$NoRoom;", true)
  | 31 => ("ScriptTypes", "thrown", "LScriptTypes$Thrown;", true)
  | 32 => ("ScriptTypes", "result", "I", false)
  | 33 => ("ScriptTypes", "resultSort", "I", false)
  | 34 => ("ScriptTypes", "sort", "[B", true)
  | 35 => ("ScriptTypes", "value", "[I", true)
  | 36 => ("ScriptTypes", "limit", "[I", true)
  | 37 => ("ScriptTypes", "seenTo", "[I", true)
  | 38 => ("ScriptTypes", "top", "I", false)
  | 39 => ("ScriptTypes", "frameCode", "[S", true)
  | 40 => ("ScriptTypes", "frameScope", "[S", true)
  | 41 => ("ScriptTypes", "framePlace", "[S", true)
  | 42 => ("ScriptTypes", "frameBase", "[S", true)
  | 43 => ("ScriptTypes", "frameMade", "[S", true)
  | 44 => ("ScriptTypes", "frameTries", "[S", true)
  | 45 => ("ScriptTypes", "thisSort", "[B", true)
  | 46 => ("ScriptTypes", "thisValue", "[I", true)
  | 47 => ("ScriptTypes", "tryPlace", "[S", true)
  | 48 => ("ScriptTypes", "tryTop", "[S", true)
  | 49 => ("ScriptTypes", "frames", "I", false)
  | 50 => ("ScriptTypes", "tries", "I", false)
  | 51 => ("ScriptTypes", "status", "I", false)
  | 52 => ("ScriptTypes", "steps", "I", false)
  | 53 => ("ScriptTypes", "lines", "I", false)
  | 54 => ("ScriptTypes", "uncaughtSort", "I", false)
  | 55 => ("ScriptTypes", "uncaught", "I", false)
  | 56 => ("ScriptTypes", "line", "[S", true)
  | 57 => ("ScriptTypes", "thrownSort", "I", false)
  | 58 => ("ScriptTypes", "thrownValue", "I", false)
  | 59 => ("ScriptTypes", "table", "LScriptTypes$Table;", false)
  | 60 => ("ScriptTypes", "now", "LScriptTypes$Work;", false)
  | 61 => ("ScriptTypes", "then", "LScriptTypes$Work;", false)
  | 62 => ("ScriptTypes", "solved", "Z", false)
  | 63 => ("ScriptTypes", "reached", "I", false)
  | 64 => ("ScriptTypes", "due", "[Z", true)
  | 65 => ("ScriptTypes", "calls", "[S", true)
  | 66 => ("ScriptTypes", "warning", "[B", true)
  | 67 => ("ScriptTypes", "digitsLow", "J", false)
  | 68 => ("ScriptTypes", "digitsHigh", "J", false)
  | 69 => ("ScriptTypes", "indexLow", "J", false)
  | 70 => ("ScriptTypes", "indexHigh", "J", false)
  | 71 => ("ScriptTypes", "arraysLow", "J", false)
  | 72 => ("ScriptTypes", "arraysHigh", "J", false)
  | 73 => ("ScriptTypes", "madeLow", "J", false)
  | 74 => ("ScriptTypes", "madeHigh", "J", false)
  | 75 => ("ScriptTypes", "exitFrom", "I", false)
  | 76 => ("ScriptTypes", "at", "I", false)
  | 77 => ("ScriptTypes", "normal", "Z", false)
  | 78 => ("ScriptTypes", "x", "LScriptTypes$Bag;", true)
  | 79 => ("ScriptTypes", "y", "LScriptTypes$Bag;", true)
  | 80 => ("ScriptTypes", "z", "LScriptTypes$Bag;", true)
  | 81 => ("ScriptTypes", "out", "LScriptTypes$Bag;", true)
  | 82 => ("ScriptTypes", "found", "LScriptTypes$Bag;", true)
  | 83 => ("ScriptTypes", "callee", "LScriptTypes$Bag;", true)
  | 84 => ("ScriptTypes", "self", "LScriptTypes$Bag;", true)
  | 85 => ("ScriptTypes", "given", "[LScriptTypes$Bag;", true)
  | 86 => ("ScriptTypes", "errors", "LScriptTypes$Bag;", true)
  | 87 => ("ScriptTypes", "then2", "LScriptTypes$Kept;", true)
  | 88 => ("ScriptTypes", "keysLow", "J", false)
  | 89 => ("ScriptTypes", "keysHigh", "J", false)
  | 90 => ("ScriptTypes", "other", "Z", false)
  | 91 => ("ScriptTypes", "missed", "Z", false)
  | 92 => ("ScriptTypes", "some", "Z", false)
  | 93 => ("ScriptTypes", "scopeLow", "J", false)
  | 94 => ("ScriptTypes", "scopeHigh", "J", false)
  | 95 => ("ScriptTypes", "base", "I", false)
  | _ => ("ScriptTypes", "kept", "LScriptTypes$Kept;", true)
def tyX1 : Nat → FieldType := fun k => match k with
  | 0 => .object "ScriptTypes$Texts"
  | 1 => .int
  | 2 => .array .byte
  | 3 => .int
  | 4 => .array .byte
  | 5 => .int
  | 6 => .object "ScriptTypes$Texts"
  | 7 => .object "ScriptTypes$Texts"
  | 8 => .object "java/util/ArrayList"
  | 9 => .object "ScriptTypes$Coder"
  | 10 => .boolean
  | 11 => .int
  | 12 => .int
  | 13 => .array .byte
  | 14 => .array .byte
  | 15 => .array .short
  | 16 => .array .short
  | 17 => .array .short
  | 18 => .array .short
  | 19 => .array .short
  | 20 => .array .short
  | 21 => .array .short
  | 22 => .array .short
  | 23 => .array .byte
  | 24 => .array .int
  | 25 => .array .int
  | 26 => .int
  | 27 => .int
  | 28 => .int
  | 29 => .int
  | 30 => .object "ScriptTypes$NoRoom"
  | 31 => .object "ScriptTypes$Thrown"
  | 32 => .int
  | 33 => .int
  | 34 => .array .byte
  | 35 => .array .int
  | 36 => .array .int
  | 37 => .array .int
  | 38 => .int
  | 39 => .array .short
  | 40 => .array .short
  | 41 => .array .short
  | 42 => .array .short
  | 43 => .array .short
  | 44 => .array .short
  | 45 => .array .byte
  | 46 => .array .int
  | 47 => .array .short
  | 48 => .array .short
  | 49 => .int
  | 50 => .int
  | 51 => .int
  | 52 => .int
  | 53 => .int
  | 54 => .int
  | 55 => .int
  | 56 => .array .short
  | 57 => .int
  | 58 => .int
  | 59 => .object "ScriptTypes$Table"
  | 60 => .object "ScriptTypes$Work"
  | 61 => .object "ScriptTypes$Work"
  | 62 => .boolean
  | 63 => .int
  | 64 => .array .boolean
  | 65 => .array .short
  | 66 => .array .byte
  | 67 => .long
  | 68 => .long
  | 69 => .long
  | 70 => .long
  | 71 => .long
  | 72 => .long
  | 73 => .long
  | 74 => .long
  | 75 => .int
  | 76 => .int
  | 77 => .boolean
  | 78 => .object "ScriptTypes$Bag"
  | 79 => .object "ScriptTypes$Bag"
  | 80 => .object "ScriptTypes$Bag"
  | 81 => .object "ScriptTypes$Bag"
  | 82 => .object "ScriptTypes$Bag"
  | 83 => .object "ScriptTypes$Bag"
  | 84 => .object "ScriptTypes$Bag"
  | 85 => .array (.object "ScriptTypes$Bag")
  | 86 => .object "ScriptTypes$Bag"
  | 87 => .object "ScriptTypes$Kept"
  | 88 => .long
  | 89 => .long
  | 90 => .boolean
  | 91 => .boolean
  | 92 => .boolean
  | 93 => .long
  | 94 => .long
  | 95 => .int
  | _ => .object "ScriptTypes$Kept"
abbrev wsX10 : List Cond := u_ws RX1 TX1 97
theorem nmX1 : ∀ a, a < 97 → ∀ b, b < 97 → a ≠ b → (TX1 a).2.1 ≠ (TX1 b).2.1 := by decide +kernel
theorem tyX1_ok : ∀ k, k < 97 → parseFieldDescriptor (TX1 k).2.2.1 = some (tyX1 k) := by decide +kernel
theorem in_X1 : ∀ w ∈ wsX10, w ∈ lw_all := lw_in wsX10 [940, 942, 944, 946, 948, 950, 952, 954, 956, 958, 960, 962, 964, 966, 968, 970, 972, 974, 976, 978, 980, 982, 984, 986, 988, 990, 992, 994, 996, 998, 1000, 1002, 1004, 1006, 1008, 1010, 1012, 1014, 1016, 1018, 1020, 1022, 1024, 1026, 1028, 1030, 1032, 1034, 1036, 1038, 1040, 1042, 1044, 1046, 1048, 1050, 1052, 1054, 1056, 1058, 1060, 1062, 1064, 1066, 1068, 1070, 1072, 1074, 1076, 1078, 1080, 1082, 1084, 1086, 1088, 1090, 1092, 1094, 1096, 1098, 1100, 1102, 1104, 1106, 1108, 1110, 1112, 1114, 1116, 1118, 1120, 1122, 1124, 1126, 1128, 1130, 1132] (by decide +kernel) (by decide +kernel)
def RX8 : String := "ScriptTypesModel"
def TX8 : u_T := fun k => match k with
  | 0 => ("ScriptTypesModel", "thrown", "I", false)
  | 1 => ("ScriptTypesModel", "tape", "[B", true)
  | 2 => ("ScriptTypesModel", "taped", "I", false)
  | 3 => ("ScriptTypesModel", "source", "[B", true)
  | 4 => ("ScriptTypesModel", "size", "I", false)
  | 5 => ("ScriptTypesModel", "signs", "[C", true)
  | 6 => ("ScriptTypesModel", "lengths", "[I", true)
  | 7 => ("ScriptTypesModel", "strings", "I", false)
  | 8 => ("ScriptTypesModel", "names", "I", false)
  | 9 => ("ScriptTypesModel", "manyNames", "Z", false)
  | 10 => ("ScriptTypesModel", "text", "[C", true)
  | 11 => ("ScriptTypesModel", "textLength", "I", false)
  | 12 => ("ScriptTypesModel", "tokens", "I", false)
  | 13 => ("ScriptTypesModel", "kind", "[I", true)
  | 14 => ("ScriptTypesModel", "which", "[I", true)
  | 15 => ("ScriptTypesModel", "from", "[I", true)
  | 16 => ("ScriptTypesModel", "until", "[I", true)
  | 17 => ("ScriptTypesModel", "line", "[I", true)
  | 18 => ("ScriptTypesModel", "at", "I", false)
  | 19 => ("ScriptTypesModel", "lineNow", "I", false)
  | 20 => ("ScriptTypesModel", "t", "I", false)
  | 21 => ("ScriptTypesModel", "fault", "I", false)
  | 22 => ("ScriptTypesModel", "faultLine", "I", false)
  | 23 => ("ScriptTypesModel", "deep", "I", false)
  | 24 => ("ScriptTypesModel", "nodes", "I", false)
  | 25 => ("ScriptTypesModel", "sort", "[I", true)
  | 26 => ("ScriptTypesModel", "word", "[I", true)
  | 27 => ("ScriptTypesModel", "next", "[I", true)
  | 28 => ("ScriptTypesModel", "inBrackets", "[Z", true)
  | 29 => ("ScriptTypesModel", "firsts", "[I", true)
  | 30 => ("ScriptTypesModel", "lasts", "[I", true)
  | 31 => ("ScriptTypesModel", "lists", "I", false)
  | 32 => ("ScriptTypesModel", "functions", "I", false)
  | 33 => ("ScriptTypesModel", "calledBy", "[I", true)
  | 34 => ("ScriptTypesModel", "isDeclared", "[Z", true)
  | 35 => ("ScriptTypesModel", "parameters", "[I", true)
  | 36 => ("ScriptTypesModel", "parameterMany", "[I", true)
  | 37 => ("ScriptTypesModel", "around", "[I", true)
  | 38 => ("ScriptTypesModel", "body", "[I", true)
  | 39 => ("ScriptTypesModel", "held", "[I", true)
  | 40 => ("ScriptTypesModel", "heldMany", "[I", true)
  | 41 => ("ScriptTypesModel", "globalNames", "[I", true)
  | 42 => ("ScriptTypesModel", "globalMany", "I", false)
  | 43 => ("ScriptTypesModel", "inside", "I", false)
  | 44 => ("ScriptTypesModel", "loops", "I", false)
  | 45 => ("ScriptTypesModel", "switches", "I", false)
  | 46 => ("ScriptTypesModel", "instructions", "I", false)
  | 47 => ("ScriptTypesModel", "manyInstructions", "Z", false)
  | 48 => ("ScriptTypesModel", "operation", "[I", true)
  | 49 => ("ScriptTypesModel", "a", "[I", true)
  | 50 => ("ScriptTypesModel", "b", "[I", true)
  | 51 => ("ScriptTypesModel", "functionOf", "[I", true)
  | 52 => ("ScriptTypesModel", "beginOf", "[I", true)
  | 53 => ("ScriptTypesModel", "marks", "I", false)
  | 54 => ("ScriptTypesModel", "markAt", "[I", true)
  | 55 => ("ScriptTypesModel", "sites", "I", false)
  | 56 => ("ScriptTypesModel", "coding", "I", false)
  | 57 => ("ScriptTypesModel", "variables", "[I", true)
  | 58 => ("ScriptTypesModel", "variableMany", "[I", true)
  | 59 => ("ScriptTypesModel", "wraps", "I", false)
  | 60 => ("ScriptTypesModel", "wrapped", "I", false)
  | 61 => ("ScriptTypesModel", "wrap", "[I", false)
  | 62 => ("ScriptTypesModel", "wrapList", "[I", false)
  | 63 => ("ScriptTypesModel", "wrapOut", "[I", false)
  | 64 => ("ScriptTypesModel", "wrapOn", "[I", false)
  | 65 => ("ScriptTypesModel", "wrapAround", "[I", false)
  | 66 => ("ScriptTypesModel", "lefts", "I", false)
  | 67 => ("ScriptTypesModel", "left", "[I", true)
  | 68 => ("ScriptTypesModel", "waiting", "I", false)
  | 69 => ("ScriptTypesModel", "waits", "[I", true)
  | 70 => ("ScriptTypesModel", "leaving", "I", false)
  | 71 => ("ScriptTypesModel", "labels", "I", false)
  | 72 => ("ScriptTypesModel", "hasScript", "Z", false)
  | 73 => ("ScriptTypesModel", "state", "I", false)
  | 74 => ("ScriptTypesModel", "steps", "I", false)
  | 75 => ("ScriptTypesModel", "noRoom", "Z", false)
  | 76 => ("ScriptTypesModel", "objects", "I", false)
  | 77 => ("ScriptTypesModel", "label", "[I", true)
  | 78 => ("ScriptTypesModel", "proto", "[I", true)
  | 79 => ("ScriptTypesModel", "link", "[I", true)
  | 80 => ("ScriptTypesModel", "sortOf", "[I", true)
  | 81 => ("ScriptTypesModel", "codeOf", "[I", true)
  | 82 => ("ScriptTypesModel", "firstOf", "[I", true)
  | 83 => ("ScriptTypesModel", "lastOf", "[I", true)
  | 84 => ("ScriptTypesModel", "properties", "I", false)
  | 85 => ("ScriptTypesModel", "free", "I", false)
  | 86 => ("ScriptTypesModel", "serials", "I", false)
  | 87 => ("ScriptTypesModel", "propertyName", "[I", true)
  | 88 => ("ScriptTypesModel", "propertySort", "[I", true)
  | 89 => ("ScriptTypesModel", "propertyValue", "[I", true)
  | 90 => ("ScriptTypesModel", "propertySerial", "[I", true)
  | 91 => ("ScriptTypesModel", "propertyNext", "[I", true)
  | 92 => ("ScriptTypesModel", "frames", "I", false)
  | 93 => ("ScriptTypesModel", "frameFunction", "[I", true)
  | 94 => ("ScriptTypesModel", "frameScope", "[I", true)
  | 95 => ("ScriptTypesModel", "frameThisSort", "[I", true)
  | 96 => ("ScriptTypesModel", "frameThis", "[I", true)
  | 97 => ("ScriptTypesModel", "framePlace", "[I", true)
  | 98 => ("ScriptTypesModel", "frameHeight", "[I", true)
  | 99 => ("ScriptTypesModel", "frameNew", "[I", true)
  | 100 => ("ScriptTypesModel", "frameTries", "[I", true)
  | 101 => ("ScriptTypesModel", "tryPlace", "[I", true)
  | 102 => ("ScriptTypesModel", "tryHeight", "[I", true)
  | 103 => ("ScriptTypesModel", "stackSort", "[I", true)
  | 104 => ("ScriptTypesModel", "stackValue", "[I", true)
  | 105 => ("ScriptTypesModel", "stackGiven", "[I", true)
  | 106 => ("ScriptTypesModel", "stackLast", "[I", true)
  | 107 => ("ScriptTypesModel", "printedMany", "I", false)
  | 108 => ("ScriptTypesModel", "printedLines", "[I", true)
  | 109 => ("ScriptTypesModel", "tossedSort", "I", false)
  | 110 => ("ScriptTypesModel", "tossed", "I", false)
  | 111 => ("ScriptTypesModel", "gotSort", "I", false)
  | 112 => ("ScriptTypesModel", "got", "I", false)
  | 113 => ("ScriptTypesModel", "isNumber", "Z", false)
  | 114 => ("ScriptTypesModel", "argumentsAt", "I", false)
  | 115 => ("ScriptTypesModel", "argumentMany", "I", false)
  | 116 => ("ScriptTypesModel", "bits", "[J", true)
  | 117 => ("ScriptTypesModel", "low", "[J", true)
  | 118 => ("ScriptTypesModel", "high", "[J", true)
  | 119 => ("ScriptTypesModel", "solved", "Z", false)
  | 120 => ("ScriptTypesModel", "reachedMany", "I", false)
  | 121 => ("ScriptTypesModel", "points", "I", false)
  | 122 => ("ScriptTypesModel", "reached", "[Z", true)
  | 123 => ("ScriptTypesModel", "due", "[Z", true)
  | 124 => ("ScriptTypesModel", "warnings", "[I", true)
  | 125 => ("ScriptTypesModel", "heights", "[I", true)
  | 126 => ("ScriptTypesModel", "stackAt", "[I", true)
  | 127 => ("ScriptTypesModel", "stacked", "I", false)
  | 128 => ("ScriptTypesModel", "scopeLow", "[J", true)
  | 129 => ("ScriptTypesModel", "scopeHigh", "[J", true)
  | 130 => ("ScriptTypesModel", "tries", "[I", true)
  | 131 => ("ScriptTypesModel", "triesPlace", "[I", true)
  | 132 => ("ScriptTypesModel", "triesHeight", "[I", true)
  | 133 => ("ScriptTypesModel", "isThere", "[Z", true)
  | 134 => ("ScriptTypesModel", "mayBeNull", "[Z", true)
  | 135 => ("ScriptTypesModel", "protoLow", "[J", true)
  | 136 => ("ScriptTypesModel", "protoHigh", "[J", true)
  | 137 => ("ScriptTypesModel", "linkLow", "[J", true)
  | 138 => ("ScriptTypesModel", "linkHigh", "[J", true)
  | 139 => ("ScriptTypesModel", "isInt", "[Z", true)
  | 140 => ("ScriptTypesModel", "isIndex", "[Z", true)
  | 141 => ("ScriptTypesModel", "isHundred", "[Z", true)
  | 142 => ("ScriptTypesModel", "isArraySite", "[Z", true)
  | 143 => ("ScriptTypesModel", "keysLow", "J", false)
  | 144 => ("ScriptTypesModel", "keysHigh", "J", false)
  | 145 => ("ScriptTypesModel", "missed", "Z", false)
  | 146 => ("ScriptTypesModel", "handed", "[I", true)
  | 147 => ("ScriptTypesModel", "handedMany", "I", false)
  | 148 => ("ScriptTypesModel", "at0", "I", false)
  | 149 => ("ScriptTypesModel", "warning", "I", false)
  | _ => ("ScriptTypesModel", "goesOn", "Z", false)
def tyX8 : Nat → FieldType := fun k => match k with
  | 0 => .int
  | 1 => .array .byte
  | 2 => .int
  | 3 => .array .byte
  | 4 => .int
  | 5 => .array .char
  | 6 => .array .int
  | 7 => .int
  | 8 => .int
  | 9 => .boolean
  | 10 => .array .char
  | 11 => .int
  | 12 => .int
  | 13 => .array .int
  | 14 => .array .int
  | 15 => .array .int
  | 16 => .array .int
  | 17 => .array .int
  | 18 => .int
  | 19 => .int
  | 20 => .int
  | 21 => .int
  | 22 => .int
  | 23 => .int
  | 24 => .int
  | 25 => .array .int
  | 26 => .array .int
  | 27 => .array .int
  | 28 => .array .boolean
  | 29 => .array .int
  | 30 => .array .int
  | 31 => .int
  | 32 => .int
  | 33 => .array .int
  | 34 => .array .boolean
  | 35 => .array .int
  | 36 => .array .int
  | 37 => .array .int
  | 38 => .array .int
  | 39 => .array .int
  | 40 => .array .int
  | 41 => .array .int
  | 42 => .int
  | 43 => .int
  | 44 => .int
  | 45 => .int
  | 46 => .int
  | 47 => .boolean
  | 48 => .array .int
  | 49 => .array .int
  | 50 => .array .int
  | 51 => .array .int
  | 52 => .array .int
  | 53 => .int
  | 54 => .array .int
  | 55 => .int
  | 56 => .int
  | 57 => .array .int
  | 58 => .array .int
  | 59 => .int
  | 60 => .int
  | 61 => .array .int
  | 62 => .array .int
  | 63 => .array .int
  | 64 => .array .int
  | 65 => .array .int
  | 66 => .int
  | 67 => .array .int
  | 68 => .int
  | 69 => .array .int
  | 70 => .int
  | 71 => .int
  | 72 => .boolean
  | 73 => .int
  | 74 => .int
  | 75 => .boolean
  | 76 => .int
  | 77 => .array .int
  | 78 => .array .int
  | 79 => .array .int
  | 80 => .array .int
  | 81 => .array .int
  | 82 => .array .int
  | 83 => .array .int
  | 84 => .int
  | 85 => .int
  | 86 => .int
  | 87 => .array .int
  | 88 => .array .int
  | 89 => .array .int
  | 90 => .array .int
  | 91 => .array .int
  | 92 => .int
  | 93 => .array .int
  | 94 => .array .int
  | 95 => .array .int
  | 96 => .array .int
  | 97 => .array .int
  | 98 => .array .int
  | 99 => .array .int
  | 100 => .array .int
  | 101 => .array .int
  | 102 => .array .int
  | 103 => .array .int
  | 104 => .array .int
  | 105 => .array .int
  | 106 => .array .int
  | 107 => .int
  | 108 => .array .int
  | 109 => .int
  | 110 => .int
  | 111 => .int
  | 112 => .int
  | 113 => .boolean
  | 114 => .int
  | 115 => .int
  | 116 => .array .long
  | 117 => .array .long
  | 118 => .array .long
  | 119 => .boolean
  | 120 => .int
  | 121 => .int
  | 122 => .array .boolean
  | 123 => .array .boolean
  | 124 => .array .int
  | 125 => .array .int
  | 126 => .array .int
  | 127 => .int
  | 128 => .array .long
  | 129 => .array .long
  | 130 => .array .int
  | 131 => .array .int
  | 132 => .array .int
  | 133 => .array .boolean
  | 134 => .array .boolean
  | 135 => .array .long
  | 136 => .array .long
  | 137 => .array .long
  | 138 => .array .long
  | 139 => .array .boolean
  | 140 => .array .boolean
  | 141 => .array .boolean
  | 142 => .array .boolean
  | 143 => .long
  | 144 => .long
  | 145 => .boolean
  | 146 => .array .int
  | 147 => .int
  | 148 => .int
  | 149 => .int
  | _ => .boolean
abbrev wsX80 : List Cond := u_ws RX8 TX8 151
theorem nmX8 : ∀ a, a < 151 → ∀ b, b < 151 → a ≠ b → (TX8 a).2.1 ≠ (TX8 b).2.1 := by decide +kernel
theorem tyX8_ok : ∀ k, k < 151 → parseFieldDescriptor (TX8 k).2.2.1 = some (tyX8 k) := by decide +kernel
theorem in_X8 : ∀ w ∈ wsX80, w ∈ lw_all := lw_in wsX80 [3652, 3654, 3656, 3658, 3660, 3662, 3664, 3666, 3668, 3670, 3672, 3674, 3676, 3678, 3680, 3682, 3684, 3686, 3688, 3690, 3692, 3694, 3696, 3698, 3700, 3702, 3704, 3706, 3708, 3710, 3712, 3714, 3716, 3718, 3720, 3722, 3724, 3726, 3728, 3730, 3732, 3734, 3736, 3738, 3740, 3742, 3744, 3746, 3748, 3750, 3752, 3754, 3756, 3758, 3760, 3762, 3764, 3766, 3768, 3770, 3772, 3774, 3776, 3778, 3780, 3782, 3784, 3786, 3788, 3790, 3792, 3794, 3796, 3798, 3800, 3802, 3804, 3806, 3808, 3810, 3812, 3814, 3816, 3818, 3820, 3822, 3824, 3826, 3828, 3830, 3832, 3834, 3836, 3838, 3840, 3842, 3844, 3846, 3848, 3850, 3852, 3854, 3856, 3858, 3860, 3862, 3864, 3866, 3868, 3870, 3872, 3874, 3876, 3878, 3880, 3882, 3884, 3886, 3888, 3890, 3892, 3894, 3896, 3898, 3900, 3902, 3904, 3906, 3908, 3910, 3912, 3914, 3916, 3918, 3920, 3922, 3924, 3926, 3928, 3930, 3932, 3934, 3936, 3938, 3940, 3942, 3944, 3946, 3948, 3950, 3952] (by decide +kernel) (by decide +kernel)
def RX2 : String := "ScriptTypes$Texts"
def TX2 : u_T := fun k => match k with
  | 0 => ("ScriptTypes$Texts", "signs", "[B", true)
  | 1 => ("ScriptTypes$Texts", "from", "[I", true)
  | _ => ("ScriptTypes$Texts", "many", "I", false)
def tyX2 : Nat → FieldType := fun k => match k with
  | 0 => .array .byte
  | 1 => .array .int
  | _ => .int
abbrev wsX20 : List Cond := u_ws RX2 TX2 3
theorem nmX2 : ∀ a, a < 3 → ∀ b, b < 3 → a ≠ b → (TX2 a).2.1 ≠ (TX2 b).2.1 := by decide +kernel
theorem tyX2_ok : ∀ k, k < 3 → parseFieldDescriptor (TX2 k).2.2.1 = some (tyX2 k) := by decide +kernel
theorem in_X2 : ∀ w ∈ wsX20, w ∈ lw_all := lw_in wsX20 [528, 530, 532] (by decide +kernel) (by decide +kernel)
def RX3 : String := "ScriptTypes$Coder"
def TX3 : u_T := fun k => match k with
  | 0 => ("ScriptTypes$Coder", "operation", "[B", true)
  | 1 => ("ScriptTypes$Coder", "a", "[S", true)
  | 2 => ("ScriptTypes$Coder", "open", "[S", true)
  | 3 => ("ScriptTypes$Coder", "under", "[S", true)
  | 4 => ("ScriptTypes$Coder", "b", "[I", true)
  | 5 => ("ScriptTypes$Coder", "of", "[B", true)
  | 6 => ("ScriptTypes$Coder", "sitePlace", "[I", true)
  | 7 => ("ScriptTypes$Coder", "many", "I", false)
  | 8 => ("ScriptTypes$Coder", "sites", "I", false)
  | 9 => ("ScriptTypes$Coder", "around", "LScriptTypes$Around;", false)
  | 10 => ("ScriptTypes$Coder", "arounds", "Ljava/util/ArrayList;", true)
  | 11 => ("ScriptTypes$Coder", "used", "I", false)
  | _ => ("ScriptTypes$Coder", "function", "LScriptTypes$Code;", false)
def tyX3 : Nat → FieldType := fun k => match k with
  | 0 => .array .byte
  | 1 => .array .short
  | 2 => .array .short
  | 3 => .array .short
  | 4 => .array .int
  | 5 => .array .byte
  | 6 => .array .int
  | 7 => .int
  | 8 => .int
  | 9 => .object "ScriptTypes$Around"
  | 10 => .object "java/util/ArrayList"
  | 11 => .int
  | _ => .object "ScriptTypes$Code"
abbrev wsX30 : List Cond := u_ws RX3 TX3 13
theorem nmX3 : ∀ a, a < 13 → ∀ b, b < 13 → a ≠ b → (TX3 a).2.1 ≠ (TX3 b).2.1 := by decide +kernel
theorem tyX3_ok : ∀ k, k < 13 → parseFieldDescriptor (TX3 k).2.2.1 = some (tyX3 k) := by decide +kernel
theorem in_X3 : ∀ w ∈ wsX30, w ∈ lw_all := lw_in wsX30 [594, 596, 598, 600, 602, 604, 606, 608, 610, 612, 614, 616, 618] (by decide +kernel) (by decide +kernel)
def RX6 : String := "ScriptTypes$Bag"
def TX6 : u_T := fun k => match k with
  | 0 => ("ScriptTypes$Bag", "low", "J", false)
  | 1 => ("ScriptTypes$Bag", "high", "J", false)
  | _ => ("ScriptTypes$Bag", "rest", "J", false)
def tyX6 : Nat → FieldType := fun k => match k with
  | 0 => .long
  | 1 => .long
  | _ => .long
abbrev wsX60 : List Cond := u_ws RX6 TX6 3
theorem nmX6 : ∀ a, a < 3 → ∀ b, b < 3 → a ≠ b → (TX6 a).2.1 ≠ (TX6 b).2.1 := by decide +kernel
theorem tyX6_ok : ∀ k, k < 3 → parseFieldDescriptor (TX6 k).2.2.1 = some (tyX6 k) := by decide +kernel
theorem in_X6 : ∀ w ∈ wsX60, w ∈ lw_all := lw_in wsX60 [720, 722, 724] (by decide +kernel) (by decide +kernel)
def RX7 : String := "ScriptTypes$Kept"
def TX7 : u_T := fun k => match k with
  | 0 => ("ScriptTypes$Kept", "all", "LScriptTypes;", true)
  | 1 => ("ScriptTypes$Kept", "low", "[J", true)
  | 2 => ("ScriptTypes$Kept", "high", "[J", true)
  | 3 => ("ScriptTypes$Kept", "rest", "[J", true)
  | 4 => ("ScriptTypes$Kept", "protoLow", "J", false)
  | _ => ("ScriptTypes$Kept", "is", "Z", false)
def tyX7 : Nat → FieldType := fun k => match k with
  | 0 => .object "ScriptTypes"
  | 1 => .array .long
  | 2 => .array .long
  | 3 => .array .long
  | 4 => .long
  | _ => .boolean
abbrev wsX70 : List Cond := u_ws RX7 TX7 6
theorem nmX7 : ∀ a, a < 6 → ∀ b, b < 6 → a ≠ b → (TX7 a).2.1 ≠ (TX7 b).2.1 := by decide +kernel
theorem tyX7_ok : ∀ k, k < 6 → parseFieldDescriptor (TX7 k).2.2.1 = some (tyX7 k) := by decide +kernel
theorem in_X7 : ∀ w ∈ wsX70, w ∈ lw_all := lw_in wsX70 [742, 744, 746, 748, 750, 752] (by decide +kernel) (by decide +kernel)
def RX42 : String := "ScriptTypes$Table"
def TX42 : u_T := fun k => match k with
  | 0 => ("ScriptTypes$Table", "all", "LScriptTypes;", true)
  | 1 => ("ScriptTypes$Table", "low", "[J", true)
  | 2 => ("ScriptTypes$Table", "high", "[J", true)
  | 3 => ("ScriptTypes$Table", "rest", "[J", true)
  | 4 => ("ScriptTypes$Table", "protoLow", "[J", true)
  | 5 => ("ScriptTypes$Table", "protoHigh", "[J", true)
  | 6 => ("ScriptTypes$Table", "linkLow", "[J", true)
  | 7 => ("ScriptTypes$Table", "linkHigh", "[J", true)
  | 8 => ("ScriptTypes$Table", "flags", "[B", true)
  | 9 => ("ScriptTypes$Table", "height", "[I", true)
  | 10 => ("ScriptTypes$Table", "from", "[I", true)
  | 11 => ("ScriptTypes$Table", "thisLow", "[J", true)
  | 12 => ("ScriptTypes$Table", "thisHigh", "[J", true)
  | 13 => ("ScriptTypes$Table", "thisRest", "[J", true)
  | 14 => ("ScriptTypes$Table", "scopeLow", "[J", true)
  | 15 => ("ScriptTypes$Table", "scopeHigh", "[J", true)
  | 16 => ("ScriptTypes$Table", "stackLow", "[J", false)
  | 17 => ("ScriptTypes$Table", "stackHigh", "[J", false)
  | 18 => ("ScriptTypes$Table", "stackRest", "[J", false)
  | 19 => ("ScriptTypes$Table", "used", "I", false)
  | _ => ("ScriptTypes$Table", "grew", "Z", false)
def tyX42 : Nat → FieldType := fun k => match k with
  | 0 => .object "ScriptTypes"
  | 1 => .array .long
  | 2 => .array .long
  | 3 => .array .long
  | 4 => .array .long
  | 5 => .array .long
  | 6 => .array .long
  | 7 => .array .long
  | 8 => .array .byte
  | 9 => .array .int
  | 10 => .array .int
  | 11 => .array .long
  | 12 => .array .long
  | 13 => .array .long
  | 14 => .array .long
  | 15 => .array .long
  | 16 => .array .long
  | 17 => .array .long
  | 18 => .array .long
  | 19 => .int
  | _ => .boolean
abbrev wsX420 : List Cond := u_ws RX42 TX42 21
theorem nmX42 : ∀ a, a < 21 → ∀ b, b < 21 → a ≠ b → (TX42 a).2.1 ≠ (TX42 b).2.1 := by decide +kernel
theorem tyX42_ok : ∀ k, k < 21 → parseFieldDescriptor (TX42 k).2.2.1 = some (tyX42 k) := by decide +kernel
theorem in_X42 : ∀ w ∈ wsX420, w ∈ lw_all := lw_in wsX420 [2931, 2933, 2935, 2937, 2939, 2941, 2943, 2945, 2947, 2949, 2951, 2953, 2955, 2957, 2959, 2961, 2963, 2965, 2967, 2969, 2971] (by decide +kernel) (by decide +kernel)
def RX43 : String := "ScriptTypes$Work"
def TX43 : u_T := fun k => match k with
  | 0 => ("ScriptTypes$Work", "all", "LScriptTypes;", true)
  | 1 => ("ScriptTypes$Work", "low", "[J", true)
  | 2 => ("ScriptTypes$Work", "high", "[J", true)
  | 3 => ("ScriptTypes$Work", "rest", "[J", true)
  | 4 => ("ScriptTypes$Work", "protoLow", "[J", true)
  | 5 => ("ScriptTypes$Work", "protoHigh", "[J", true)
  | 6 => ("ScriptTypes$Work", "linkLow", "[J", true)
  | 7 => ("ScriptTypes$Work", "linkHigh", "[J", true)
  | 8 => ("ScriptTypes$Work", "is", "[Z", true)
  | 9 => ("ScriptTypes$Work", "orNull", "[Z", true)
  | 10 => ("ScriptTypes$Work", "stackLow", "[J", true)
  | 11 => ("ScriptTypes$Work", "stackHigh", "[J", true)
  | 12 => ("ScriptTypes$Work", "stackRest", "[J", true)
  | 13 => ("ScriptTypes$Work", "top", "I", false)
  | 14 => ("ScriptTypes$Work", "thisLow", "J", false)
  | 15 => ("ScriptTypes$Work", "thisHigh", "J", false)
  | 16 => ("ScriptTypes$Work", "thisRest", "J", false)
  | 17 => ("ScriptTypes$Work", "scopeLow", "J", false)
  | _ => ("ScriptTypes$Work", "scopeHigh", "J", false)
def tyX43 : Nat → FieldType := fun k => match k with
  | 0 => .object "ScriptTypes"
  | 1 => .array .long
  | 2 => .array .long
  | 3 => .array .long
  | 4 => .array .long
  | 5 => .array .long
  | 6 => .array .long
  | 7 => .array .long
  | 8 => .array .boolean
  | 9 => .array .boolean
  | 10 => .array .long
  | 11 => .array .long
  | 12 => .array .long
  | 13 => .int
  | 14 => .long
  | 15 => .long
  | 16 => .long
  | 17 => .long
  | _ => .long
abbrev wsX430 : List Cond := u_ws RX43 TX43 19
theorem nmX43 : ∀ a, a < 19 → ∀ b, b < 19 → a ≠ b → (TX43 a).2.1 ≠ (TX43 b).2.1 := by decide +kernel
theorem tyX43_ok : ∀ k, k < 19 → parseFieldDescriptor (TX43 k).2.2.1 = some (tyX43 k) := by decide +kernel
theorem in_X43 : ∀ w ∈ wsX430, w ∈ lw_all := lw_in wsX430 [3040, 3042, 3044, 3046, 3048, 3050, 3052, 3054, 3056, 3058, 3060, 3062, 3064, 3066, 3068, 3070, 3072, 3074, 3076] (by decide +kernel) (by decide +kernel)
def RX9 : String := "ScriptTypes$Parser"
def TX9 : u_T := fun k => match k with
  | 0 => ("ScriptTypes$Parser", "all", "LScriptTypes;", true)
  | 1 => ("ScriptTypes$Parser", "t", "LScriptTypes$Tokens;", true)
  | 2 => ("ScriptTypes$Parser", "functions", "Ljava/util/ArrayList;", true)
  | 3 => ("ScriptTypes$Parser", "function", "LScriptTypes$Code;", false)
  | 4 => ("ScriptTypes$Parser", "open", "I", false)
  | 5 => ("ScriptTypes$Parser", "loops", "I", false)
  | 6 => ("ScriptTypes$Parser", "switches", "I", false)
  | 7 => ("ScriptTypes$Parser", "alone", "Z", false)
  | _ => ("ScriptTypes$Parser", "sign", "I", false)
def tyX9 : Nat → FieldType := fun k => match k with
  | 0 => .object "ScriptTypes"
  | 1 => .object "ScriptTypes$Tokens"
  | 2 => .object "java/util/ArrayList"
  | 3 => .object "ScriptTypes$Code"
  | 4 => .int
  | 5 => .int
  | 6 => .int
  | 7 => .boolean
  | _ => .int
abbrev wsX90 : List Cond := u_ws RX9 TX9 9
theorem nmX9 : ∀ a, a < 9 → ∀ b, b < 9 → a ≠ b → (TX9 a).2.1 ≠ (TX9 b).2.1 := by decide +kernel
theorem tyX9_ok : ∀ k, k < 9 → parseFieldDescriptor (TX9 k).2.2.1 = some (tyX9 k) := by decide +kernel
theorem in_X9 : ∀ w ∈ wsX90, w ∈ lw_all := lw_in wsX90 [1203, 1205, 1207, 1209, 1211, 1213, 1215, 1217, 1219] (by decide +kernel) (by decide +kernel)
def RX10 : String := "ScriptTypes$Tokens"
def TX10 : u_T := fun k => match k with
  | 0 => ("ScriptTypes$Tokens", "all", "LScriptTypes;", true)
  | 1 => ("ScriptTypes$Tokens", "at", "I", false)
  | 2 => ("ScriptTypes$Tokens", "line", "I", false)
  | 3 => ("ScriptTypes$Tokens", "sort", "I", false)
  | 4 => ("ScriptTypes$Tokens", "from", "I", false)
  | 5 => ("ScriptTypes$Tokens", "last", "I", false)
  | 6 => ("ScriptTypes$Tokens", "id", "I", false)
  | _ => ("ScriptTypes$Tokens", "value", "I", false)
def tyX10 : Nat → FieldType := fun k => match k with
  | 0 => .object "ScriptTypes"
  | 1 => .int
  | 2 => .int
  | 3 => .int
  | 4 => .int
  | 5 => .int
  | 6 => .int
  | _ => .int
abbrev wsX100 : List Cond := u_ws RX10 TX10 8
theorem nmX10 : ∀ a, a < 8 → ∀ b, b < 8 → a ≠ b → (TX10 a).2.1 ≠ (TX10 b).2.1 := by decide +kernel
theorem tyX10_ok : ∀ k, k < 8 → parseFieldDescriptor (TX10 k).2.2.1 = some (tyX10 k) := by decide +kernel
theorem in_X10 : ∀ w ∈ wsX100, w ∈ lw_all := lw_in wsX100 [1177, 1179, 1181, 1183, 1185, 1187, 1189, 1191] (by decide +kernel) (by decide +kernel)
def RX11 : String := "ScriptTypes$Code"
def TX11 : u_T := fun k => match k with
  | 0 => ("ScriptTypes$Code", "number", "I", true)
  | 1 => ("ScriptTypes$Code", "outer", "LScriptTypes$Code;", true)
  | 2 => ("ScriptTypes$Code", "parts", "Ljava/util/ArrayList;", true)
  | 3 => ("ScriptTypes$Code", "declared", "Ljava/util/ArrayList;", true)
  | 4 => ("ScriptTypes$Code", "variables", "[I", false)
  | 5 => ("ScriptTypes$Code", "many", "I", false)
  | 6 => ("ScriptTypes$Code", "parameters", "I", false)
  | 7 => ("ScriptTypes$Code", "name", "I", false)
  | 8 => ("ScriptTypes$Code", "own", "I", false)
  | _ => ("ScriptTypes$Code", "begins", "I", false)
def tyX11 : Nat → FieldType := fun k => match k with
  | 0 => .int
  | 1 => .object "ScriptTypes$Code"
  | 2 => .object "java/util/ArrayList"
  | 3 => .object "java/util/ArrayList"
  | 4 => .array .int
  | 5 => .int
  | 6 => .int
  | 7 => .int
  | 8 => .int
  | _ => .int
abbrev wsX110 : List Cond := u_ws RX11 TX11 10
theorem nmX11 : ∀ a, a < 10 → ∀ b, b < 10 → a ≠ b → (TX11 a).2.1 ≠ (TX11 b).2.1 := by decide +kernel
theorem tyX11_ok : ∀ k, k < 10 → parseFieldDescriptor (TX11 k).2.2.1 = some (tyX11 k) := by decide +kernel
theorem in_X11 : ∀ w ∈ wsX110, w ∈ lw_all := lw_in wsX110 [1263, 1265, 1267, 1269, 1271, 1273, 1275, 1277, 1279, 1281] (by decide +kernel) (by decide +kernel)
def RJ2 : String := "java/util/ArrayList"
def TJ2 : u_T := fun k => match k with
  | 0 => ("java/util/AbstractList", "modCount", "I", false)
  | 1 => ("java/util/ArrayList", "elementData", "[Ljava/lang/Object;", false)
  | _ => ("java/util/ArrayList", "size", "I", false)
def tyJ2 : Nat → FieldType := fun k => match k with
  | 0 => .int
  | 1 => .array (.object "java/lang/Object")
  | _ => .int
abbrev wsJ20 : List Cond := u_ws RJ2 TJ2 3
theorem nmJ2 : ∀ a, a < 3 → ∀ b, b < 3 → a ≠ b → (TJ2 a).2.1 ≠ (TJ2 b).2.1 := by decide +kernel
theorem tyJ2_ok : ∀ k, k < 3 → parseFieldDescriptor (TJ2 k).2.2.1 = some (tyJ2 k) := by decide +kernel
theorem in_J2 : ∀ w ∈ wsJ20, w ∈ lw_all := lw_in wsJ20 [560, 556, 558] (by decide +kernel) (by decide +kernel)
def RX12 : String := "ScriptTypes$Fault"
def TX12 : u_T := fun k => match k with
  | 0 => ("java/lang/Throwable", "cause", "Ljava/lang/Throwable;", false)
  | 1 => ("java/lang/Throwable", "stackTrace", "[Ljava/lang/StackTraceElement;", false)
  | 2 => ("java/lang/Throwable", "suppressedExceptions", "Ljava/util/List;", false)
  | 3 => ("java/lang/Throwable", "detailMessage", "Ljava/lang/String;", false)
  | 4 => ("java/lang/Throwable", "backtrace", "Ljava/lang/Object;", false)
  | 5 => ("java/lang/Throwable", "depth", "I", false)
  | _ => ("ScriptTypes$Fault", "what", "I", true)
def tyX12 : Nat → FieldType := fun k => match k with
  | 0 => .object "java/lang/Throwable"
  | 1 => .array (.object "java/lang/StackTraceElement")
  | 2 => .object "java/util/List"
  | 3 => .object "java/lang/String"
  | 4 => .object "java/lang/Object"
  | 5 => .int
  | _ => .int
abbrev wsX120 : List Cond := u_ws RX12 TX12 7
theorem nmX12 : ∀ a, a < 7 → ∀ b, b < 7 → a ≠ b → (TX12 a).2.1 ≠ (TX12 b).2.1 := by decide +kernel
theorem tyX12_ok : ∀ k, k < 7 → parseFieldDescriptor (TX12 k).2.2.1 = some (tyX12 k) := by decide +kernel
theorem in_X12 : ∀ w ∈ wsX120, w ∈ lw_all := lw_in wsX120 [1396, 1397, 1398, 1399, 1400, 1409, 1407] (by decide +kernel) (by decide +kernel)
def RX4 : String := "ScriptTypes$NoRoom"
def TX4 : u_T := fun k => match k with
  | 0 => ("java/lang/Throwable", "cause", "Ljava/lang/Throwable;", false)
  | 1 => ("java/lang/Throwable", "stackTrace", "[Ljava/lang/StackTraceElement;", false)
  | 2 => ("java/lang/Throwable", "suppressedExceptions", "Ljava/util/List;", false)
  | 3 => ("java/lang/Throwable", "detailMessage", "Ljava/lang/String;", false)
  | 4 => ("java/lang/Throwable", "backtrace", "Ljava/lang/Object;", false)
  | _ => ("java/lang/Throwable", "depth", "I", false)
def tyX4 : Nat → FieldType := fun k => match k with
  | 0 => .object "java/lang/Throwable"
  | 1 => .array (.object "java/lang/StackTraceElement")
  | 2 => .object "java/util/List"
  | 3 => .object "java/lang/String"
  | 4 => .object "java/lang/Object"
  | _ => .int
abbrev wsX40 : List Cond := u_ws RX4 TX4 6
theorem nmX4 : ∀ a, a < 6 → ∀ b, b < 6 → a ≠ b → (TX4 a).2.1 ≠ (TX4 b).2.1 := by decide +kernel
theorem tyX4_ok : ∀ k, k < 6 → parseFieldDescriptor (TX4 k).2.2.1 = some (tyX4 k) := by decide +kernel
theorem in_X4 : ∀ w ∈ wsX40, w ∈ lw_all := lw_in wsX40 [633, 635, 637, 639, 641, 686] (by decide +kernel) (by decide +kernel)
def RX5 : String := "ScriptTypes$Thrown"
def TX5 : u_T := fun k => match k with
  | 0 => ("java/lang/Throwable", "cause", "Ljava/lang/Throwable;", false)
  | 1 => ("java/lang/Throwable", "stackTrace", "[Ljava/lang/StackTraceElement;", false)
  | 2 => ("java/lang/Throwable", "suppressedExceptions", "Ljava/util/List;", false)
  | 3 => ("java/lang/Throwable", "detailMessage", "Ljava/lang/String;", false)
  | 4 => ("java/lang/Throwable", "backtrace", "Ljava/lang/Object;", false)
  | _ => ("java/lang/Throwable", "depth", "I", false)
def tyX5 : Nat → FieldType := fun k => match k with
  | 0 => .object "java/lang/Throwable"
  | 1 => .array (.object "java/lang/StackTraceElement")
  | 2 => .object "java/util/List"
  | 3 => .object "java/lang/String"
  | 4 => .object "java/lang/Object"
  | _ => .int
abbrev wsX50 : List Cond := u_ws RX5 TX5 6
theorem nmX5 : ∀ a, a < 6 → ∀ b, b < 6 → a ≠ b → (TX5 a).2.1 ≠ (TX5 b).2.1 := by decide +kernel
theorem tyX5_ok : ∀ k, k < 6 → parseFieldDescriptor (TX5 k).2.2.1 = some (tyX5 k) := by decide +kernel
theorem in_X5 : ∀ w ∈ wsX50, w ∈ lw_all := lw_in wsX50 [694, 695, 696, 697, 698, 703] (by decide +kernel) (by decide +kernel)
def RJ14 : String := "java/lang/IllegalStateException"
def TJ14 : u_T := fun k => match k with
  | 0 => ("java/lang/Throwable", "cause", "Ljava/lang/Throwable;", false)
  | 1 => ("java/lang/Throwable", "stackTrace", "[Ljava/lang/StackTraceElement;", false)
  | 2 => ("java/lang/Throwable", "suppressedExceptions", "Ljava/util/List;", false)
  | 3 => ("java/lang/Throwable", "detailMessage", "Ljava/lang/String;", false)
  | 4 => ("java/lang/Throwable", "backtrace", "Ljava/lang/Object;", false)
  | _ => ("java/lang/Throwable", "depth", "I", false)
def tyJ14 : Nat → FieldType := fun k => match k with
  | 0 => .object "java/lang/Throwable"
  | 1 => .array (.object "java/lang/StackTraceElement")
  | 2 => .object "java/util/List"
  | 3 => .object "java/lang/String"
  | 4 => .object "java/lang/Object"
  | _ => .int
abbrev wsJ140 : List Cond := u_ws RJ14 TJ14 6
theorem nmJ14 : ∀ a, a < 6 → ∀ b, b < 6 → a ≠ b → (TJ14 a).2.1 ≠ (TJ14 b).2.1 := by decide +kernel
theorem tyJ14_ok : ∀ k, k < 6 → parseFieldDescriptor (TJ14 k).2.2.1 = some (tyJ14 k) := by decide +kernel
theorem in_J14 : ∀ w ∈ wsJ140, w ∈ lw_all := lw_in wsJ140 [2620, 2621, 2622, 2623, 2624, 2635] (by decide +kernel) (by decide +kernel)
def RJ15 : String := "java/lang/IllegalArgumentException"
def TJ15 : u_T := fun k => match k with
  | 0 => ("java/lang/Throwable", "cause", "Ljava/lang/Throwable;", false)
  | 1 => ("java/lang/Throwable", "stackTrace", "[Ljava/lang/StackTraceElement;", false)
  | 2 => ("java/lang/Throwable", "suppressedExceptions", "Ljava/util/List;", false)
  | 3 => ("java/lang/Throwable", "detailMessage", "Ljava/lang/String;", false)
  | 4 => ("java/lang/Throwable", "backtrace", "Ljava/lang/Object;", false)
  | _ => ("java/lang/Throwable", "depth", "I", false)
def tyJ15 : Nat → FieldType := fun k => match k with
  | 0 => .object "java/lang/Throwable"
  | 1 => .array (.object "java/lang/StackTraceElement")
  | 2 => .object "java/util/List"
  | 3 => .object "java/lang/String"
  | 4 => .object "java/lang/Object"
  | _ => .int
abbrev wsJ150 : List Cond := u_ws RJ15 TJ15 6
theorem nmJ15 : ∀ a, a < 6 → ∀ b, b < 6 → a ≠ b → (TJ15 a).2.1 ≠ (TJ15 b).2.1 := by decide +kernel
theorem tyJ15_ok : ∀ k, k < 6 → parseFieldDescriptor (TJ15 k).2.2.1 = some (tyJ15 k) := by decide +kernel
theorem in_J15 : ∀ w ∈ wsJ150, w ∈ lw_all := lw_in wsJ150 [2673, 2674, 2675, 2676, 2677, 2682] (by decide +kernel) (by decide +kernel)
def RX40 : String := "ScriptTypes$Around"
def TX40 : u_T := fun k => match k with
  | 0 => ("ScriptTypes$Around", "number", "I", true)
  | 1 => ("ScriptTypes$Around", "out", "LScriptTypes$Jumps;", true)
  | 2 => ("ScriptTypes$Around", "again", "LScriptTypes$Jumps;", true)
  | 3 => ("ScriptTypes$Around", "sort", "I", false)
  | 4 => ("ScriptTypes$Around", "outer", "LScriptTypes$Around;", false)
  | 5 => ("ScriptTypes$Around", "own", "LScriptTypes$Around;", false)
  | 6 => ("ScriptTypes$Around", "last", "LScriptTypes$Node;", false)
  | 7 => ("ScriptTypes$Around", "instruction", "I", false)
  | _ => ("ScriptTypes$Around", "count", "I", false)
def tyX40 : Nat → FieldType := fun k => match k with
  | 0 => .int
  | 1 => .object "ScriptTypes$Jumps"
  | 2 => .object "ScriptTypes$Jumps"
  | 3 => .int
  | 4 => .object "ScriptTypes$Around"
  | 5 => .object "ScriptTypes$Around"
  | 6 => .object "ScriptTypes$Node"
  | 7 => .int
  | _ => .int
abbrev wsX400 : List Cond := u_ws RX40 TX40 9
theorem nmX40 : ∀ a, a < 9 → ∀ b, b < 9 → a ≠ b → (TX40 a).2.1 ≠ (TX40 b).2.1 := by decide +kernel
theorem tyX40_ok : ∀ k, k < 9 → parseFieldDescriptor (TX40 k).2.2.1 = some (tyX40 k) := by decide +kernel
theorem in_X40 : ∀ w ∈ wsX400, w ∈ lw_all := lw_in wsX400 [2273, 2275, 2277, 2279, 2281, 2283, 2285, 2287, 2289] (by decide +kernel) (by decide +kernel)
def RX41 : String := "ScriptTypes$Jumps"
def TX41 : u_T := fun k => match k with
  | 0 => ("ScriptTypes$Jumps", "all", "[I", false)
  | _ => ("ScriptTypes$Jumps", "many", "I", false)
def tyX41 : Nat → FieldType := fun k => match k with
  | 0 => .array .int
  | _ => .int
abbrev wsX410 : List Cond := u_ws RX41 TX41 2
theorem nmX41 : ∀ a, a < 2 → ∀ b, b < 2 → a ≠ b → (TX41 a).2.1 ≠ (TX41 b).2.1 := by decide +kernel
theorem tyX41_ok : ∀ k, k < 2 → parseFieldDescriptor (TX41 k).2.2.1 = some (tyX41 k) := by decide +kernel
theorem in_X41 : ∀ w ∈ wsX410, w ∈ lw_all := lw_in wsX410 [2242, 2244] (by decide +kernel) (by decide +kernel)
def RX25 : String := "ScriptTypes$Suffix"
def TX25 : u_T := fun k => match k with
  | 0 => ("ScriptTypes$Suffix", "name", "I", true)
  | 1 => ("ScriptTypes$Suffix", "value", "LScriptTypes$Node;", true)
  | _ => ("ScriptTypes$Suffix", "arguments", "Ljava/util/ArrayList;", true)
def tyX25 : Nat → FieldType := fun k => match k with
  | 0 => .int
  | 1 => .object "ScriptTypes$Node"
  | _ => .object "java/util/ArrayList"
abbrev wsX250 : List Cond := u_ws RX25 TX25 3
theorem nmX25 : ∀ a, a < 3 → ∀ b, b < 3 → a ≠ b → (TX25 a).2.1 ≠ (TX25 b).2.1 := by decide +kernel
theorem tyX25_ok : ∀ k, k < 3 → parseFieldDescriptor (TX25 k).2.2.1 = some (tyX25 k) := by decide +kernel
theorem in_X25 : ∀ w ∈ wsX250, w ∈ lw_all := lw_in wsX250 [1747, 1749, 1751] (by decide +kernel) (by decide +kernel)
def RX14 : String := "ScriptTypes$Block"
def TX14 : u_T := fun k => match k with
  | _ => ("ScriptTypes$Block", "all", "Ljava/util/ArrayList;", true)
def tyX14 : Nat → FieldType := fun k => match k with
  | _ => .object "java/util/ArrayList"
abbrev wsX140 : List Cond := u_ws RX14 TX14 1
theorem nmX14 : ∀ a, a < 1 → ∀ b, b < 1 → a ≠ b → (TX14 a).2.1 ≠ (TX14 b).2.1 := by decide +kernel
theorem tyX14_ok : ∀ k, k < 1 → parseFieldDescriptor (TX14 k).2.2.1 = some (tyX14 k) := by decide +kernel
theorem in_X14 : ∀ w ∈ wsX140, w ∈ lw_all := lw_in wsX140 [1506] (by decide +kernel) (by decide +kernel)
def RX15 : String := "ScriptTypes$Drops"
def TX15 : u_T := fun k => match k with
  | _ => ("ScriptTypes$Drops", "value", "LScriptTypes$Node;", true)
def tyX15 : Nat → FieldType := fun k => match k with
  | _ => .object "ScriptTypes$Node"
abbrev wsX150 : List Cond := u_ws RX15 TX15 1
theorem nmX15 : ∀ a, a < 1 → ∀ b, b < 1 → a ≠ b → (TX15 a).2.1 ≠ (TX15 b).2.1 := by decide +kernel
theorem tyX15_ok : ∀ k, k < 1 → parseFieldDescriptor (TX15 k).2.2.1 = some (tyX15 k) := by decide +kernel
theorem in_X15 : ∀ w ∈ wsX150, w ∈ lw_all := lw_in wsX150 [1962] (by decide +kernel) (by decide +kernel)
def RX16 : String := "ScriptTypes$Sets"
def TX16 : u_T := fun k => match k with
  | 0 => ("ScriptTypes$Sets", "sign", "I", true)
  | 1 => ("ScriptTypes$Sets", "target", "LScriptTypes$Node;", true)
  | _ => ("ScriptTypes$Sets", "value", "LScriptTypes$Node;", true)
def tyX16 : Nat → FieldType := fun k => match k with
  | 0 => .int
  | 1 => .object "ScriptTypes$Node"
  | _ => .object "ScriptTypes$Node"
abbrev wsX160 : List Cond := u_ws RX16 TX16 3
theorem nmX16 : ∀ a, a < 3 → ∀ b, b < 3 → a ≠ b → (TX16 a).2.1 ≠ (TX16 b).2.1 := by decide +kernel
theorem tyX16_ok : ∀ k, k < 3 → parseFieldDescriptor (TX16 k).2.2.1 = some (tyX16 k) := by decide +kernel
theorem in_X16 : ∀ w ∈ wsX160, w ∈ lw_all := lw_in wsX160 [1950, 1952, 1954] (by decide +kernel) (by decide +kernel)
def RX17 : String := "ScriptTypes$Name"
def TX17 : u_T := fun k => match k with
  | _ => ("ScriptTypes$Name", "name", "I", true)
def tyX17 : Nat → FieldType := fun k => match k with
  | _ => .int
abbrev wsX170 : List Cond := u_ws RX17 TX17 1
theorem nmX17 : ∀ a, a < 1 → ∀ b, b < 1 → a ≠ b → (TX17 a).2.1 ≠ (TX17 b).2.1 := by decide +kernel
theorem tyX17_ok : ∀ k, k < 1 → parseFieldDescriptor (TX17 k).2.2.1 = some (tyX17 k) := by decide +kernel
theorem in_X17 : ∀ w ∈ wsX170, w ∈ lw_all := lw_in wsX170 [1542] (by decide +kernel) (by decide +kernel)
def RX18 : String := "ScriptTypes$Literal"
def TX18 : u_T := fun k => match k with
  | 0 => ("ScriptTypes$Literal", "sort", "I", true)
  | _ => ("ScriptTypes$Literal", "value", "I", true)
def tyX18 : Nat → FieldType := fun k => match k with
  | 0 => .int
  | _ => .int
abbrev wsX180 : List Cond := u_ws RX18 TX18 2
theorem nmX18 : ∀ a, a < 2 → ∀ b, b < 2 → a ≠ b → (TX18 a).2.1 ≠ (TX18 b).2.1 := by decide +kernel
theorem tyX18_ok : ∀ k, k < 2 → parseFieldDescriptor (TX18 k).2.2.1 = some (tyX18 k) := by decide +kernel
theorem in_X18 : ∀ w ∈ wsX180, w ∈ lw_all := lw_in wsX180 [1597, 1599] (by decide +kernel) (by decide +kernel)
def RX19 : String := "ScriptTypes$This"
def RX20 : String := "ScriptTypes$Made"
def TX20 : u_T := fun k => match k with
  | _ => ("ScriptTypes$Made", "function", "I", true)
def tyX20 : Nat → FieldType := fun k => match k with
  | _ => .int
abbrev wsX200 : List Cond := u_ws RX20 TX20 1
theorem nmX20 : ∀ a, a < 1 → ∀ b, b < 1 → a ≠ b → (TX20 a).2.1 ≠ (TX20 b).2.1 := by decide +kernel
theorem tyX20_ok : ∀ k, k < 1 → parseFieldDescriptor (TX20 k).2.2.1 = some (tyX20 k) := by decide +kernel
theorem in_X20 : ∀ w ∈ wsX200, w ∈ lw_all := lw_in wsX200 [1642] (by decide +kernel) (by decide +kernel)
def RX21 : String := "ScriptTypes$Bracketed"
def TX21 : u_T := fun k => match k with
  | _ => ("ScriptTypes$Bracketed", "inner", "LScriptTypes$Node;", true)
def tyX21 : Nat → FieldType := fun k => match k with
  | _ => .object "ScriptTypes$Node"
abbrev wsX210 : List Cond := u_ws RX21 TX21 1
theorem nmX21 : ∀ a, a < 1 → ∀ b, b < 1 → a ≠ b → (TX21 a).2.1 ≠ (TX21 b).2.1 := by decide +kernel
theorem tyX21_ok : ∀ k, k < 1 → parseFieldDescriptor (TX21 k).2.2.1 = some (tyX21 k) := by decide +kernel
theorem in_X21 : ∀ w ∈ wsX210, w ∈ lw_all := lw_in wsX210 [1670] (by decide +kernel) (by decide +kernel)
def RX22 : String := "ScriptTypes$Commas"
def TX22 : u_T := fun k => match k with
  | _ => ("ScriptTypes$Commas", "all", "Ljava/util/ArrayList;", true)
def tyX22 : Nat → FieldType := fun k => match k with
  | _ => .object "java/util/ArrayList"
abbrev wsX220 : List Cond := u_ws RX22 TX22 1
theorem nmX22 : ∀ a, a < 1 → ∀ b, b < 1 → a ≠ b → (TX22 a).2.1 ≠ (TX22 b).2.1 := by decide +kernel
theorem tyX22_ok : ∀ k, k < 1 → parseFieldDescriptor (TX22 k).2.2.1 = some (tyX22 k) := by decide +kernel
theorem in_X22 : ∀ w ∈ wsX220, w ∈ lw_all := lw_in wsX220 [1661] (by decide +kernel) (by decide +kernel)
def RX23 : String := "ScriptTypes$Items"
def TX23 : u_T := fun k => match k with
  | 0 => ("ScriptTypes$Items", "array", "Z", true)
  | 1 => ("ScriptTypes$Items", "items", "Ljava/util/ArrayList;", true)
  | _ => ("ScriptTypes$Items", "keys", "[I", true)
def tyX23 : Nat → FieldType := fun k => match k with
  | 0 => .boolean
  | 1 => .object "java/util/ArrayList"
  | _ => .array .int
abbrev wsX230 : List Cond := u_ws RX23 TX23 3
theorem nmX23 : ∀ a, a < 3 → ∀ b, b < 3 → a ≠ b → (TX23 a).2.1 ≠ (TX23 b).2.1 := by decide +kernel
theorem tyX23_ok : ∀ k, k < 3 → parseFieldDescriptor (TX23 k).2.2.1 = some (tyX23 k) := by decide +kernel
theorem in_X23 : ∀ w ∈ wsX230, w ∈ lw_all := lw_in wsX230 [1690, 1692, 1694] (by decide +kernel) (by decide +kernel)
def RX24 : String := "ScriptTypes$Left"
def TX24 : u_T := fun k => match k with
  | 0 => ("ScriptTypes$Left", "first", "LScriptTypes$Node;", true)
  | _ => ("ScriptTypes$Left", "behind", "Ljava/util/ArrayList;", true)
def tyX24 : Nat → FieldType := fun k => match k with
  | 0 => .object "ScriptTypes$Node"
  | _ => .object "java/util/ArrayList"
abbrev wsX240 : List Cond := u_ws RX24 TX24 2
theorem nmX24 : ∀ a, a < 2 → ∀ b, b < 2 → a ≠ b → (TX24 a).2.1 ≠ (TX24 b).2.1 := by decide +kernel
theorem tyX24_ok : ∀ k, k < 2 → parseFieldDescriptor (TX24 k).2.2.1 = some (tyX24 k) := by decide +kernel
theorem in_X24 : ∀ w ∈ wsX240, w ∈ lw_all := lw_in wsX240 [1728, 1730] (by decide +kernel) (by decide +kernel)
def RX26 : String := "ScriptTypes$New"
def TX26 : u_T := fun k => match k with
  | 0 => ("ScriptTypes$New", "what", "LScriptTypes$Node;", true)
  | _ => ("ScriptTypes$New", "arguments", "Ljava/util/ArrayList;", true)
def tyX26 : Nat → FieldType := fun k => match k with
  | 0 => .object "ScriptTypes$Node"
  | _ => .object "java/util/ArrayList"
abbrev wsX260 : List Cond := u_ws RX26 TX26 2
theorem nmX26 : ∀ a, a < 2 → ∀ b, b < 2 → a ≠ b → (TX26 a).2.1 ≠ (TX26 b).2.1 := by decide +kernel
theorem tyX26_ok : ∀ k, k < 2 → parseFieldDescriptor (TX26 k).2.2.1 = some (tyX26 k) := by decide +kernel
theorem in_X26 : ∀ w ∈ wsX260, w ∈ lw_all := lw_in wsX260 [1766, 1768] (by decide +kernel) (by decide +kernel)
def RX27 : String := "ScriptTypes$Counts"
def TX27 : u_T := fun k => match k with
  | 0 => ("ScriptTypes$Counts", "sign", "I", true)
  | 1 => ("ScriptTypes$Counts", "behind", "Z", true)
  | _ => ("ScriptTypes$Counts", "target", "LScriptTypes$Node;", true)
def tyX27 : Nat → FieldType := fun k => match k with
  | 0 => .int
  | 1 => .boolean
  | _ => .object "ScriptTypes$Node"
abbrev wsX270 : List Cond := u_ws RX27 TX27 3
theorem nmX27 : ∀ a, a < 3 → ∀ b, b < 3 → a ≠ b → (TX27 a).2.1 ≠ (TX27 b).2.1 := by decide +kernel
theorem tyX27_ok : ∀ k, k < 3 → parseFieldDescriptor (TX27 k).2.2.1 = some (tyX27 k) := by decide +kernel
theorem in_X27 : ∀ w ∈ wsX270, w ∈ lw_all := lw_in wsX270 [1860, 1862, 1864] (by decide +kernel) (by decide +kernel)
def RX28 : String := "ScriptTypes$Ahead"
def TX28 : u_T := fun k => match k with
  | 0 => ("ScriptTypes$Ahead", "sign", "I", true)
  | _ => ("ScriptTypes$Ahead", "of", "LScriptTypes$Node;", true)
def tyX28 : Nat → FieldType := fun k => match k with
  | 0 => .int
  | _ => .object "ScriptTypes$Node"
abbrev wsX280 : List Cond := u_ws RX28 TX28 2
theorem nmX28 : ∀ a, a < 2 → ∀ b, b < 2 → a ≠ b → (TX28 a).2.1 ≠ (TX28 b).2.1 := by decide +kernel
theorem tyX28_ok : ∀ k, k < 2 → parseFieldDescriptor (TX28 k).2.2.1 = some (tyX28 k) := by decide +kernel
theorem in_X28 : ∀ w ∈ wsX280, w ∈ lw_all := lw_in wsX280 [1875, 1877] (by decide +kernel) (by decide +kernel)
def RX29 : String := "ScriptTypes$Both"
def TX29 : u_T := fun k => match k with
  | 0 => ("ScriptTypes$Both", "operation", "I", true)
  | _ => ("ScriptTypes$Both", "units", "Ljava/util/ArrayList;", true)
def tyX29 : Nat → FieldType := fun k => match k with
  | 0 => .int
  | _ => .object "java/util/ArrayList"
abbrev wsX290 : List Cond := u_ws RX29 TX29 2
theorem nmX29 : ∀ a, a < 2 → ∀ b, b < 2 → a ≠ b → (TX29 a).2.1 ≠ (TX29 b).2.1 := by decide +kernel
theorem tyX29_ok : ∀ k, k < 2 → parseFieldDescriptor (TX29 k).2.2.1 = some (tyX29 k) := by decide +kernel
theorem in_X29 : ∀ w ∈ wsX290, w ∈ lw_all := lw_in wsX290 [1896, 1898] (by decide +kernel) (by decide +kernel)
def RX30 : String := "ScriptTypes$Row"
def TX30 : u_T := fun k => match k with
  | 0 => ("ScriptTypes$Row", "units", "Ljava/util/ArrayList;", true)
  | _ => ("ScriptTypes$Row", "signs", "[I", false)
def tyX30 : Nat → FieldType := fun k => match k with
  | 0 => .object "java/util/ArrayList"
  | _ => .array .int
abbrev wsX300 : List Cond := u_ws RX30 TX30 2
theorem nmX30 : ∀ a, a < 2 → ∀ b, b < 2 → a ≠ b → (TX30 a).2.1 ≠ (TX30 b).2.1 := by decide +kernel
theorem tyX30_ok : ∀ k, k < 2 → parseFieldDescriptor (TX30 k).2.2.1 = some (tyX30 k) := by decide +kernel
theorem in_X30 : ∀ w ∈ wsX300, w ∈ lw_all := lw_in wsX300 [1912, 1914] (by decide +kernel) (by decide +kernel)
def RX31 : String := "ScriptTypes$Choice"
def TX31 : u_T := fun k => match k with
  | 0 => ("ScriptTypes$Choice", "test", "LScriptTypes$Node;", true)
  | 1 => ("ScriptTypes$Choice", "yes", "LScriptTypes$Node;", true)
  | _ => ("ScriptTypes$Choice", "no", "LScriptTypes$Node;", true)
def tyX31 : Nat → FieldType := fun k => match k with
  | 0 => .object "ScriptTypes$Node"
  | 1 => .object "ScriptTypes$Node"
  | _ => .object "ScriptTypes$Node"
abbrev wsX310 : List Cond := u_ws RX31 TX31 3
theorem nmX31 : ∀ a, a < 3 → ∀ b, b < 3 → a ≠ b → (TX31 a).2.1 ≠ (TX31 b).2.1 := by decide +kernel
theorem tyX31_ok : ∀ k, k < 3 → parseFieldDescriptor (TX31 k).2.2.1 = some (tyX31 k) := by decide +kernel
theorem in_X31 : ∀ w ∈ wsX310, w ∈ lw_all := lw_in wsX310 [1932, 1934, 1936] (by decide +kernel) (by decide +kernel)
def RX32 : String := "ScriptTypes$If"
def TX32 : u_T := fun k => match k with
  | 0 => ("ScriptTypes$If", "test", "LScriptTypes$Node;", true)
  | 1 => ("ScriptTypes$If", "yes", "LScriptTypes$Node;", true)
  | _ => ("ScriptTypes$If", "no", "LScriptTypes$Node;", true)
def tyX32 : Nat → FieldType := fun k => match k with
  | 0 => .object "ScriptTypes$Node"
  | 1 => .object "ScriptTypes$Node"
  | _ => .object "ScriptTypes$Node"
abbrev wsX320 : List Cond := u_ws RX32 TX32 3
theorem nmX32 : ∀ a, a < 3 → ∀ b, b < 3 → a ≠ b → (TX32 a).2.1 ≠ (TX32 b).2.1 := by decide +kernel
theorem tyX32_ok : ∀ k, k < 3 → parseFieldDescriptor (TX32 k).2.2.1 = some (tyX32 k) := by decide +kernel
theorem in_X32 : ∀ w ∈ wsX320, w ∈ lw_all := lw_in wsX320 [1987, 1989, 1991] (by decide +kernel) (by decide +kernel)
def RX33 : String := "ScriptTypes$Loop"
def TX33 : u_T := fun k => match k with
  | 0 => ("ScriptTypes$Loop", "sort", "I", true)
  | 1 => ("ScriptTypes$Loop", "begin", "LScriptTypes$Node;", true)
  | 2 => ("ScriptTypes$Loop", "test", "LScriptTypes$Node;", true)
  | 3 => ("ScriptTypes$Loop", "step", "LScriptTypes$Node;", true)
  | _ => ("ScriptTypes$Loop", "body", "LScriptTypes$Node;", true)
def tyX33 : Nat → FieldType := fun k => match k with
  | 0 => .int
  | 1 => .object "ScriptTypes$Node"
  | 2 => .object "ScriptTypes$Node"
  | 3 => .object "ScriptTypes$Node"
  | _ => .object "ScriptTypes$Node"
abbrev wsX330 : List Cond := u_ws RX33 TX33 5
theorem nmX33 : ∀ a, a < 5 → ∀ b, b < 5 → a ≠ b → (TX33 a).2.1 ≠ (TX33 b).2.1 := by decide +kernel
theorem tyX33_ok : ∀ k, k < 5 → parseFieldDescriptor (TX33 k).2.2.1 = some (tyX33 k) := by decide +kernel
theorem in_X33 : ∀ w ∈ wsX330, w ∈ lw_all := lw_in wsX330 [2009, 2011, 2013, 2015, 2017] (by decide +kernel) (by decide +kernel)
def RX34 : String := "ScriptTypes$Each"
def TX34 : u_T := fun k => match k with
  | 0 => ("ScriptTypes$Each", "name", "I", true)
  | 1 => ("ScriptTypes$Each", "of", "LScriptTypes$Node;", true)
  | _ => ("ScriptTypes$Each", "body", "LScriptTypes$Node;", true)
def tyX34 : Nat → FieldType := fun k => match k with
  | 0 => .int
  | 1 => .object "ScriptTypes$Node"
  | _ => .object "ScriptTypes$Node"
abbrev wsX340 : List Cond := u_ws RX34 TX34 3
theorem nmX34 : ∀ a, a < 3 → ∀ b, b < 3 → a ≠ b → (TX34 a).2.1 ≠ (TX34 b).2.1 := by decide +kernel
theorem tyX34_ok : ∀ k, k < 3 → parseFieldDescriptor (TX34 k).2.2.1 = some (tyX34 k) := by decide +kernel
theorem in_X34 : ∀ w ∈ wsX340, w ∈ lw_all := lw_in wsX340 [2046, 2048, 2050] (by decide +kernel) (by decide +kernel)
def RX35 : String := "ScriptTypes$Goes"
def TX35 : u_T := fun k => match k with
  | _ => ("ScriptTypes$Goes", "again", "Z", true)
def tyX35 : Nat → FieldType := fun k => match k with
  | _ => .boolean
abbrev wsX350 : List Cond := u_ws RX35 TX35 1
theorem nmX35 : ∀ a, a < 1 → ∀ b, b < 1 → a ≠ b → (TX35 a).2.1 ≠ (TX35 b).2.1 := by decide +kernel
theorem tyX35_ok : ∀ k, k < 1 → parseFieldDescriptor (TX35 k).2.2.1 = some (tyX35 k) := by decide +kernel
theorem in_X35 : ∀ w ∈ wsX350, w ∈ lw_all := lw_in wsX350 [2060] (by decide +kernel) (by decide +kernel)
def RX36 : String := "ScriptTypes$Return"
def TX36 : u_T := fun k => match k with
  | _ => ("ScriptTypes$Return", "value", "LScriptTypes$Node;", true)
def tyX36 : Nat → FieldType := fun k => match k with
  | _ => .object "ScriptTypes$Node"
abbrev wsX360 : List Cond := u_ws RX36 TX36 1
theorem nmX36 : ∀ a, a < 1 → ∀ b, b < 1 → a ≠ b → (TX36 a).2.1 ≠ (TX36 b).2.1 := by decide +kernel
theorem tyX36_ok : ∀ k, k < 1 → parseFieldDescriptor (TX36 k).2.2.1 = some (tyX36 k) := by decide +kernel
theorem in_X36 : ∀ w ∈ wsX360, w ∈ lw_all := lw_in wsX360 [2070] (by decide +kernel) (by decide +kernel)
def RX37 : String := "ScriptTypes$Throw"
def TX37 : u_T := fun k => match k with
  | _ => ("ScriptTypes$Throw", "value", "LScriptTypes$Node;", true)
def tyX37 : Nat → FieldType := fun k => match k with
  | _ => .object "ScriptTypes$Node"
abbrev wsX370 : List Cond := u_ws RX37 TX37 1
theorem nmX37 : ∀ a, a < 1 → ∀ b, b < 1 → a ≠ b → (TX37 a).2.1 ≠ (TX37 b).2.1 := by decide +kernel
theorem tyX37_ok : ∀ k, k < 1 → parseFieldDescriptor (TX37 k).2.2.1 = some (tyX37 k) := by decide +kernel
theorem in_X37 : ∀ w ∈ wsX370, w ∈ lw_all := lw_in wsX370 [2080] (by decide +kernel) (by decide +kernel)
def RX38 : String := "ScriptTypes$Try"
def TX38 : u_T := fun k => match k with
  | 0 => ("ScriptTypes$Try", "body", "LScriptTypes$Node;", true)
  | 1 => ("ScriptTypes$Try", "then", "LScriptTypes$Node;", true)
  | _ => ("ScriptTypes$Try", "name", "I", true)
def tyX38 : Nat → FieldType := fun k => match k with
  | 0 => .object "ScriptTypes$Node"
  | 1 => .object "ScriptTypes$Node"
  | _ => .int
abbrev wsX380 : List Cond := u_ws RX38 TX38 3
theorem nmX38 : ∀ a, a < 3 → ∀ b, b < 3 → a ≠ b → (TX38 a).2.1 ≠ (TX38 b).2.1 := by decide +kernel
theorem tyX38_ok : ∀ k, k < 3 → parseFieldDescriptor (TX38 k).2.2.1 = some (tyX38 k) := by decide +kernel
theorem in_X38 : ∀ w ∈ wsX380, w ∈ lw_all := lw_in wsX380 [2100, 2102, 2104] (by decide +kernel) (by decide +kernel)
def RX39 : String := "ScriptTypes$Switch"
def TX39 : u_T := fun k => match k with
  | 0 => ("ScriptTypes$Switch", "value", "LScriptTypes$Node;", true)
  | 1 => ("ScriptTypes$Switch", "tests", "Ljava/util/ArrayList;", true)
  | 2 => ("ScriptTypes$Switch", "bodies", "Ljava/util/ArrayList;", true)
  | _ => ("ScriptTypes$Switch", "jumps", "[I", false)
def tyX39 : Nat → FieldType := fun k => match k with
  | 0 => .object "ScriptTypes$Node"
  | 1 => .object "java/util/ArrayList"
  | 2 => .object "java/util/ArrayList"
  | _ => .array .int
abbrev wsX390 : List Cond := u_ws RX39 TX39 4
theorem nmX39 : ∀ a, a < 4 → ∀ b, b < 4 → a ≠ b → (TX39 a).2.1 ≠ (TX39 b).2.1 := by decide +kernel
theorem tyX39_ok : ∀ k, k < 4 → parseFieldDescriptor (TX39 k).2.2.1 = some (tyX39 k) := by decide +kernel
theorem in_X39 : ∀ w ∈ wsX390, w ∈ lw_all := lw_in wsX390 [2125, 2127, 2129, 2131] (by decide +kernel) (by decide +kernel)
def TX19 : u_T := fun _ => ("", "", "", false)
def tyX19 : Nat → FieldType := fun _ => .int
abbrev wsX190 : List Cond := u_ws RX19 TX19 0
theorem nmX19 : ∀ a, a < 0 → ∀ b, b < 0 → a ≠ b → (TX19 a).2.1 ≠ (TX19 b).2.1 := fun a h => absurd h (Nat.not_lt_zero a)
theorem tyX19_ok : ∀ k, k < 0 → parseFieldDescriptor (TX19 k).2.2.1 = some (tyX19 k) := fun a h => absurd h (Nat.not_lt_zero a)
theorem in_X19 : ∀ w ∈ wsX190, w ∈ lw_all := fun w h => by cases h
/-- the tags: a class's number is its place -/
def zcl : List vw_C := [(RX1, TX1, 97), (RX8, TX8, 151), (RX2, TX2, 3), (RX3, TX3, 13), (RX6, TX6, 3), (RX7, TX7, 6), (RX42, TX42, 21), (RX43, TX43, 19), (RX9, TX9, 9), (RX10, TX10, 8), (RX11, TX11, 10), (RJ2, TJ2, 3), (RX12, TX12, 7), (RX4, TX4, 6), (RX5, TX5, 6), (RJ14, TJ14, 6), (RJ15, TJ15, 6), (RX40, TX40, 9), (RX41, TX41, 2), (RX25, TX25, 3), (RX14, TX14, 1), (RX15, TX15, 1), (RX16, TX16, 3), (RX17, TX17, 1), (RX18, TX18, 2), (RX19, TX19, 0), (RX20, TX20, 1), (RX21, TX21, 1), (RX22, TX22, 1), (RX23, TX23, 3), (RX24, TX24, 2), (RX26, TX26, 2), (RX27, TX27, 3), (RX28, TX28, 2), (RX29, TX29, 2), (RX30, TX30, 2), (RX31, TX31, 3), (RX32, TX32, 3), (RX33, TX33, 5), (RX34, TX34, 3), (RX35, TX35, 1), (RX36, TX36, 1), (RX37, TX37, 1), (RX38, TX38, 3), (RX39, TX39, 4)]
def zty : List (Nat → FieldType) := [tyX1, tyX8, tyX2, tyX3, tyX6, tyX7, tyX42, tyX43, tyX9, tyX10, tyX11, tyJ2, tyX12, tyX4, tyX5, tyJ14, tyJ15, tyX40, tyX41, tyX25, tyX14, tyX15, tyX16, tyX17, tyX18, tyX19, tyX20, tyX21, tyX22, tyX23, tyX24, tyX26, tyX27, tyX28, tyX29, tyX30, tyX31, tyX32, tyX33, tyX34, tyX35, tyX36, tyX37, tyX38, tyX39]
