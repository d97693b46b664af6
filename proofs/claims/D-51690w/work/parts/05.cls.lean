/-! MC: the classes, kinds, strings, statics and words that the machine uses (printed by gen/gencls.py; the class rows are lines of claim/names) -/
set_option maxRecDepth 100000
def RX1 : String := "MistCouriers"
def TX1 : u_T := fun k => match k with
  | 0 => ("MistCouriers", "now", "LMistCouriers$State;", false)
  | 1 => ("MistCouriers", "undos", "Ljava/util/ArrayDeque;", true)
  | 2 => ("MistCouriers", "saved", "[LMistCouriers$State;", true)
  | 3 => ("MistCouriers", "refused", "[I", true)
  | 4 => ("MistCouriers", "text", "[B", true)
  | 5 => ("MistCouriers", "length", "I", false)
  | 6 => ("MistCouriers", "errorCode", "I", false)
  | 7 => ("MistCouriers", "errorPosition", "I", false)
  | _ => ("MistCouriers", "out", "Ljava/lang/StringBuilder;", true)
def tyX1 : Nat → FieldType := fun k => match k with
  | 0 => .object "MistCouriers$State"
  | 1 => .object "java/util/ArrayDeque"
  | 2 => .array (.object "MistCouriers$State")
  | 3 => .array .int
  | 4 => .array .byte
  | 5 => .int
  | 6 => .int
  | 7 => .int
  | _ => .object "java/lang/StringBuilder"
abbrev wsX10 : List Cond := u_ws RX1 TX1 9
theorem nmX1 : ∀ a, a < 9 → ∀ b, b < 9 → a ≠ b → (TX1 a).2.1 ≠ (TX1 b).2.1 := by decide +kernel
theorem tyX1_ok : ∀ k, k < 9 → parseFieldDescriptor (TX1 k).2.2.1 = some (tyX1 k) := by decide +kernel
theorem in_X1 : ∀ w ∈ wsX10, w ∈ lw_all := lw_in wsX10 [1418, 1420, 1422, 1424, 1426, 1428, 1430, 1432, 1434] (by decide +kernel) (by decide +kernel)
def RX2 : String := "MistCouriers$State"
def TX2 : u_T := fun k => match k with
  | 0 => ("MistCouriers$State", "square", "LMistCouriers$Square;", true)
  | 1 => ("MistCouriers$State", "load", "I", true)
  | 2 => ("MistCouriers$State", "banks", "Ljava/util/ArrayList;", true)
  | 3 => ("MistCouriers$State", "watchers", "Ljava/util/ArrayList;", true)
  | 4 => ("MistCouriers$State", "couriers", "Ljava/util/ArrayList;", true)
  | 5 => ("MistCouriers$State", "letters", "Ljava/util/ArrayList;", true)
  | 6 => ("MistCouriers$State", "tallies", "[I", false)
  | _ => ("MistCouriers$State", "time", "I", false)
def tyX2 : Nat → FieldType := fun k => match k with
  | 0 => .object "MistCouriers$Square"
  | 1 => .int
  | 2 => .object "java/util/ArrayList"
  | 3 => .object "java/util/ArrayList"
  | 4 => .object "java/util/ArrayList"
  | 5 => .object "java/util/ArrayList"
  | 6 => .array .int
  | _ => .int
abbrev wsX20 : List Cond := u_ws RX2 TX2 8
theorem nmX2 : ∀ a, a < 8 → ∀ b, b < 8 → a ≠ b → (TX2 a).2.1 ≠ (TX2 b).2.1 := by decide +kernel
theorem tyX2_ok : ∀ k, k < 8 → parseFieldDescriptor (TX2 k).2.2.1 = some (tyX2 k) := by decide +kernel
theorem in_X2 : ∀ w ∈ wsX20, w ∈ lw_all := lw_in wsX20 [658, 660, 662, 664, 666, 668, 670, 672] (by decide +kernel) (by decide +kernel)
def RX3 : String := "MistCouriers$Square"
def TX3 : u_T := fun k => match k with
  | 0 => ("MistCouriers$Square", "width", "I", true)
  | 1 => ("MistCouriers$Square", "height", "I", true)
  | 2 => ("MistCouriers$Square", "isWall", "[Z", true)
  | _ => ("MistCouriers$Square", "posts", "Ljava/util/HashMap;", true)
def tyX3 : Nat → FieldType := fun k => match k with
  | 0 => .int
  | 1 => .int
  | 2 => .array .boolean
  | _ => .object "java/util/HashMap"
abbrev wsX30 : List Cond := u_ws RX3 TX3 4
theorem nmX3 : ∀ a, a < 4 → ∀ b, b < 4 → a ≠ b → (TX3 a).2.1 ≠ (TX3 b).2.1 := by decide +kernel
theorem tyX3_ok : ∀ k, k < 4 → parseFieldDescriptor (TX3 k).2.2.1 = some (tyX3 k) := by decide +kernel
theorem in_X3 : ∀ w ∈ wsX30, w ∈ lw_all := lw_in wsX30 [280, 282, 284, 286] (by decide +kernel) (by decide +kernel)
def RX4 : String := "MistCouriers$Bank"
def TX4 : u_T := fun k => match k with
  | 0 => ("MistCouriers$Bank", "reach", "I", true)
  | 1 => ("MistCouriers$Bank", "thick", "I", true)
  | 2 => ("MistCouriers$Bank", "drift", "I", true)
  | _ => ("MistCouriers$Bank", "cell", "I", false)
def tyX4 : Nat → FieldType := fun k => match k with
  | 0 => .int
  | 1 => .int
  | 2 => .int
  | _ => .int
abbrev wsX40 : List Cond := u_ws RX4 TX4 4
theorem nmX4 : ∀ a, a < 4 → ∀ b, b < 4 → a ≠ b → (TX4 a).2.1 ≠ (TX4 b).2.1 := by decide +kernel
theorem tyX4_ok : ∀ k, k < 4 → parseFieldDescriptor (TX4 k).2.2.1 = some (tyX4 k) := by decide +kernel
theorem in_X4 : ∀ w ∈ wsX40, w ∈ lw_all := lw_in wsX40 [693, 695, 697, 699] (by decide +kernel) (by decide +kernel)
def RX5 : String := "MistCouriers$Watcher"
def TX5 : u_T := fun k => match k with
  | 0 => ("MistCouriers$Watcher", "number", "I", true)
  | 1 => ("MistCouriers$Watcher", "cell", "I", true)
  | 2 => ("MistCouriers$Watcher", "range", "I", true)
  | 3 => ("MistCouriers$Watcher", "turn", "I", true)
  | _ => ("MistCouriers$Watcher", "direction", "I", false)
def tyX5 : Nat → FieldType := fun k => match k with
  | 0 => .int
  | 1 => .int
  | 2 => .int
  | 3 => .int
  | _ => .int
abbrev wsX50 : List Cond := u_ws RX5 TX5 5
theorem nmX5 : ∀ a, a < 5 → ∀ b, b < 5 → a ≠ b → (TX5 a).2.1 ≠ (TX5 b).2.1 := by decide +kernel
theorem tyX5_ok : ∀ k, k < 5 → parseFieldDescriptor (TX5 k).2.2.1 = some (tyX5 k) := by decide +kernel
theorem in_X5 : ∀ w ∈ wsX50, w ∈ lw_all := lw_in wsX50 [791, 793, 795, 797, 799] (by decide +kernel) (by decide +kernel)
def RX6 : String := "MistCouriers$Spot"
def TX6 : u_T := fun k => match k with
  | _ => ("MistCouriers$Spot", "cell", "I", true)
def tyX6 : Nat → FieldType := fun k => match k with
  | _ => .int
abbrev wsX60 : List Cond := u_ws RX6 TX6 1
theorem nmX6 : ∀ a, a < 1 → ∀ b, b < 1 → a ≠ b → (TX6 a).2.1 ≠ (TX6 b).2.1 := by decide +kernel
theorem tyX6_ok : ∀ k, k < 1 → parseFieldDescriptor (TX6 k).2.2.1 = some (tyX6 k) := by decide +kernel
theorem in_X6 : ∀ w ∈ wsX60, w ∈ lw_all := lw_in wsX60 [814] (by decide +kernel) (by decide +kernel)
def RX7 : String := "MistCouriers$Courier"
def TX7 : u_T := fun k => match k with
  | 0 => ("MistCouriers$Courier", "home", "I", true)
  | 1 => ("MistCouriers$Courier", "cell", "I", false)
  | 2 => ("MistCouriers$Courier", "steps", "I", false)
  | 3 => ("MistCouriers$Courier", "caught", "I", false)
  | 4 => ("MistCouriers$Courier", "brought", "I", false)
  | _ => ("MistCouriers$Courier", "hasStepped", "Z", false)
def tyX7 : Nat → FieldType := fun k => match k with
  | 0 => .int
  | 1 => .int
  | 2 => .int
  | 3 => .int
  | 4 => .int
  | _ => .boolean
abbrev wsX70 : List Cond := u_ws RX7 TX7 6
theorem nmX7 : ∀ a, a < 6 → ∀ b, b < 6 → a ≠ b → (TX7 a).2.1 ≠ (TX7 b).2.1 := by decide +kernel
theorem tyX7_ok : ∀ k, k < 6 → parseFieldDescriptor (TX7 k).2.2.1 = some (tyX7 k) := by decide +kernel
theorem in_X7 : ∀ w ∈ wsX70, w ∈ lw_all := lw_in wsX70 [1354, 1356, 1358, 1360, 1362, 1364] (by decide +kernel) (by decide +kernel)
def RX8 : String := "MistCouriers$Letter"
def TX8 : u_T := fun k => match k with
  | 0 => ("MistCouriers$Letter", "from", "I", true)
  | 1 => ("MistCouriers$Letter", "to", "I", true)
  | 2 => ("MistCouriers$Letter", "state", "I", false)
  | 3 => ("MistCouriers$Letter", "place", "I", false)
  | 4 => ("MistCouriers$Letter", "hand", "I", false)
  | _ => ("MistCouriers$Letter", "hands", "I", false)
def tyX8 : Nat → FieldType := fun k => match k with
  | 0 => .int
  | 1 => .int
  | 2 => .int
  | 3 => .int
  | 4 => .int
  | _ => .int
abbrev wsX80 : List Cond := u_ws RX8 TX8 6
theorem nmX8 : ∀ a, a < 6 → ∀ b, b < 6 → a ≠ b → (TX8 a).2.1 ≠ (TX8 b).2.1 := by decide +kernel
theorem tyX8_ok : ∀ k, k < 6 → parseFieldDescriptor (TX8 k).2.2.1 = some (tyX8 k) := by decide +kernel
theorem in_X8 : ∀ w ∈ wsX80, w ∈ lw_all := lw_in wsX80 [1392, 1394, 1396, 1398, 1400, 1402] (by decide +kernel) (by decide +kernel)
def RX9 : String := "MistCouriersModel"
def TX9 : u_T := fun k => match k with
  | 0 => ("MistCouriersModel", "state", "[I", true)
  | 1 => ("MistCouriersModel", "aside", "[I", true)
  | 2 => ("MistCouriersModel", "past", "[I", true)
  | 3 => ("MistCouriersModel", "saved", "[I", true)
  | 4 => ("MistCouriersModel", "isSaved", "[Z", true)
  | 5 => ("MistCouriersModel", "refusals", "[I", true)
  | 6 => ("MistCouriersModel", "acts", "I", false)
  | 7 => ("MistCouriersModel", "thrown", "I", false)
  | 8 => ("MistCouriersModel", "isLaid", "[Z", true)
  | 9 => ("MistCouriersModel", "text", "[B", true)
  | 10 => ("MistCouriersModel", "textLength", "I", false)
  | 11 => ("MistCouriersModel", "token", "I", false)
  | 12 => ("MistCouriersModel", "tokenStart", "I", false)
  | 13 => ("MistCouriersModel", "tokenEnd", "I", false)
  | 14 => ("MistCouriersModel", "number", "I", false)
  | 15 => ("MistCouriersModel", "errorCode", "I", false)
  | 16 => ("MistCouriersModel", "errorPosition", "I", false)
  | 17 => ("MistCouriersModel", "commands", "[I", true)
  | 18 => ("MistCouriersModel", "commandCount", "I", false)
  | 19 => ("MistCouriersModel", "said", "[I", true)
  | 20 => ("MistCouriersModel", "reached", "[Z", true)
  | 21 => ("MistCouriersModel", "further", "[Z", true)
  | 22 => ("MistCouriersModel", "output", "[B", true)
  | _ => ("MistCouriersModel", "outputLength", "I", false)
def tyX9 : Nat → FieldType := fun k => match k with
  | 0 => .array .int
  | 1 => .array .int
  | 2 => .array .int
  | 3 => .array .int
  | 4 => .array .boolean
  | 5 => .array .int
  | 6 => .int
  | 7 => .int
  | 8 => .array .boolean
  | 9 => .array .byte
  | 10 => .int
  | 11 => .int
  | 12 => .int
  | 13 => .int
  | 14 => .int
  | 15 => .int
  | 16 => .int
  | 17 => .array .int
  | 18 => .int
  | 19 => .array .int
  | 20 => .array .boolean
  | 21 => .array .boolean
  | 22 => .array .byte
  | _ => .int
abbrev wsX90 : List Cond := u_ws RX9 TX9 24
theorem nmX9 : ∀ a, a < 24 → ∀ b, b < 24 → a ≠ b → (TX9 a).2.1 ≠ (TX9 b).2.1 := by decide +kernel
theorem tyX9_ok : ∀ k, k < 24 → parseFieldDescriptor (TX9 k).2.2.1 = some (tyX9 k) := by decide +kernel
theorem in_X9 : ∀ w ∈ wsX90, w ∈ lw_all := lw_in wsX90 [2525, 2527, 2529, 2531, 2533, 2535, 2537, 2539, 2541, 2543, 2545, 2547, 2549, 2551, 2553, 2555, 2557, 2559, 2561, 2563, 2565, 2567, 2569, 2571] (by decide +kernel) (by decide +kernel)
def RX10 : String := "MistCouriers$Parser"
def TX10 : u_T := fun k => match k with
  | 0 => ("MistCouriers$Parser", "at", "I", false)
  | 1 => ("MistCouriers$Parser", "start", "I", false)
  | 2 => ("MistCouriers$Parser", "number", "I", false)
  | 3 => ("MistCouriers$Parser", "token", "LMistCouriers$Token;", false)
  | 4 => ("MistCouriers$Parser", "word", "Ljava/lang/String;", false)
  | 5 => ("MistCouriers$Parser", "isTold", "[Z", false)
  | _ => ("MistCouriers$Parser", "this$0", "LMistCouriers;", true)
def tyX10 : Nat → FieldType := fun k => match k with
  | 0 => .int
  | 1 => .int
  | 2 => .int
  | 3 => .object "MistCouriers$Token"
  | 4 => .object "java/lang/String"
  | 5 => .array .boolean
  | _ => .object "MistCouriers"
abbrev wsX100 : List Cond := u_ws RX10 TX10 7
theorem nmX10 : ∀ a, a < 7 → ∀ b, b < 7 → a ≠ b → (TX10 a).2.1 ≠ (TX10 b).2.1 := by decide +kernel
theorem tyX10_ok : ∀ k, k < 7 → parseFieldDescriptor (TX10 k).2.2.1 = some (tyX10 k) := by decide +kernel
theorem in_X10 : ∀ w ∈ wsX100, w ∈ lw_all := lw_in wsX100 [1580, 1582, 1584, 1586, 1588, 1590, 1592] (by decide +kernel) (by decide +kernel)
def RX11 : String := "MistCouriers$Fault"
def TX11 : u_T := fun k => match k with
  | 0 => ("java/lang/Throwable", "cause", "Ljava/lang/Throwable;", false)
  | 1 => ("java/lang/Throwable", "stackTrace", "[Ljava/lang/StackTraceElement;", false)
  | 2 => ("java/lang/Throwable", "suppressedExceptions", "Ljava/util/List;", false)
  | 3 => ("java/lang/Throwable", "detailMessage", "Ljava/lang/String;", false)
  | 4 => ("java/lang/Throwable", "backtrace", "Ljava/lang/Object;", false)
  | 5 => ("java/lang/Throwable", "depth", "I", false)
  | 6 => ("MistCouriers$Fault", "code", "I", true)
  | _ => ("MistCouriers$Fault", "position", "I", true)
def tyX11 : Nat → FieldType := fun k => match k with
  | 0 => .object "java/lang/Throwable"
  | 1 => .array (.object "java/lang/StackTraceElement")
  | 2 => .object "java/util/List"
  | 3 => .object "java/lang/String"
  | 4 => .object "java/lang/Object"
  | 5 => .int
  | 6 => .int
  | _ => .int
abbrev wsX110 : List Cond := u_ws RX11 TX11 8
theorem nmX11 : ∀ a, a < 8 → ∀ b, b < 8 → a ≠ b → (TX11 a).2.1 ≠ (TX11 b).2.1 := by decide +kernel
theorem tyX11_ok : ∀ k, k < 8 → parseFieldDescriptor (TX11 k).2.2.1 = some (tyX11 k) := by decide +kernel
theorem in_X11 : ∀ w ∈ wsX110, w ∈ lw_all := lw_in wsX110 [1668, 1669, 1670, 1671, 1672, 1690, 1686, 1688] (by decide +kernel) (by decide +kernel)
def RX12 : String := "MistCouriers$Command"
def TX12 : u_T := fun k => match k with
  | 0 => ("MistCouriers$Command", "word", "Ljava/lang/String;", true)
  | _ => ("MistCouriers$Command", "numbers", "[I", true)
def tyX12 : Nat → FieldType := fun k => match k with
  | 0 => .object "java/lang/String"
  | _ => .array .int
abbrev wsX120 : List Cond := u_ws RX12 TX12 2
theorem nmX12 : ∀ a, a < 2 → ∀ b, b < 2 → a ≠ b → (TX12 a).2.1 ≠ (TX12 b).2.1 := by decide +kernel
theorem tyX12_ok : ∀ k, k < 2 → parseFieldDescriptor (TX12 k).2.2.1 = some (tyX12 k) := by decide +kernel
theorem in_X12 : ∀ w ∈ wsX120, w ∈ lw_all := lw_in wsX120 [1807, 1809] (by decide +kernel) (by decide +kernel)
def RX14 : String := "MistCouriers$Ways"
def TX14 : u_T := fun k => match k with
  | 0 => ("MistCouriers$Ways", "then", "LMistCouriers$State;", true)
  | _ => ("MistCouriers$Ways", "can", "[Z", false)
def tyX14 : Nat → FieldType := fun k => match k with
  | 0 => .object "MistCouriers$State"
  | _ => .array .boolean
abbrev wsX140 : List Cond := u_ws RX14 TX14 2
theorem nmX14 : ∀ a, a < 2 → ∀ b, b < 2 → a ≠ b → (TX14 a).2.1 ≠ (TX14 b).2.1 := by decide +kernel
theorem tyX14_ok : ∀ k, k < 2 → parseFieldDescriptor (TX14 k).2.2.1 = some (tyX14 k) := by decide +kernel
theorem in_X14 : ∀ w ∈ wsX140, w ∈ lw_all := lw_in wsX140 [2290, 2292] (by decide +kernel) (by decide +kernel)
def RJ5 : String := "java/util/ArrayList"
def TJ5 : u_T := fun k => match k with
  | 0 => ("java/util/AbstractList", "modCount", "I", false)
  | 1 => ("java/util/ArrayList", "elementData", "[Ljava/lang/Object;", false)
  | _ => ("java/util/ArrayList", "size", "I", false)
def tyJ5 : Nat → FieldType := fun k => match k with
  | 0 => .int
  | 1 => .array (.object "java/lang/Object")
  | _ => .int
abbrev wsJ50 : List Cond := u_ws RJ5 TJ5 3
theorem nmJ5 : ∀ a, a < 3 → ∀ b, b < 3 → a ≠ b → (TJ5 a).2.1 ≠ (TJ5 b).2.1 := by decide +kernel
theorem tyJ5_ok : ∀ k, k < 3 → parseFieldDescriptor (TJ5 k).2.2.1 = some (tyJ5 k) := by decide +kernel
theorem in_J5 : ∀ w ∈ wsJ50, w ∈ lw_all := lw_in wsJ50 [633, 629, 631] (by decide +kernel) (by decide +kernel)
def RJ1 : String := "java/util/ArrayDeque"
def TJ1 : u_T := fun k => match k with
  | 0 => ("java/util/ArrayDeque", "elements", "[Ljava/lang/Object;", false)
  | 1 => ("java/util/ArrayDeque", "head", "I", false)
  | _ => ("java/util/ArrayDeque", "tail", "I", false)
def tyJ1 : Nat → FieldType := fun k => match k with
  | 0 => .array (.object "java/lang/Object")
  | 1 => .int
  | _ => .int
abbrev wsJ10 : List Cond := u_ws RJ1 TJ1 3
theorem nmJ1 : ∀ a, a < 3 → ∀ b, b < 3 → a ≠ b → (TJ1 a).2.1 ≠ (TJ1 b).2.1 := by decide +kernel
theorem tyJ1_ok : ∀ k, k < 3 → parseFieldDescriptor (TJ1 k).2.2.1 = some (tyJ1 k) := by decide +kernel
theorem in_J1 : ∀ w ∈ wsJ10, w ∈ lw_all := lw_in wsJ10 [222, 224, 226] (by decide +kernel) (by decide +kernel)
def RJ3 : String := "java/util/HashMap"
def TJ3 : u_T := fun k => match k with
  | 0 => ("java/util/AbstractMap", "keySet", "Ljava/util/Set;", false)
  | 1 => ("java/util/AbstractMap", "values", "Ljava/util/Collection;", false)
  | 2 => ("java/util/HashMap", "table", "[Ljava/util/HashMap$Node;", false)
  | 3 => ("java/util/HashMap", "entrySet", "Ljava/util/Set;", false)
  | 4 => ("java/util/HashMap", "size", "I", false)
  | 5 => ("java/util/HashMap", "modCount", "I", false)
  | 6 => ("java/util/HashMap", "threshold", "I", false)
  | _ => ("java/util/HashMap", "loadFactor", "F", true)
def tyJ3 : Nat → FieldType := fun k => match k with
  | 0 => .object "java/util/Set"
  | 1 => .object "java/util/Collection"
  | 2 => .array (.object "java/util/HashMap$Node")
  | 3 => .object "java/util/Set"
  | 4 => .int
  | 5 => .int
  | 6 => .int
  | _ => .float
abbrev wsJ30 : List Cond := u_ws RJ3 TJ3 8
theorem nmJ3 : ∀ a, a < 8 → ∀ b, b < 8 → a ≠ b → (TJ3 a).2.1 ≠ (TJ3 b).2.1 := by decide +kernel
theorem tyJ3_ok : ∀ k, k < 8 → parseFieldDescriptor (TJ3 k).2.2.1 = some (tyJ3 k) := by decide +kernel
theorem in_J3 : ∀ w ∈ wsJ30, w ∈ lw_all := lw_in wsJ30 [265, 267, 253, 255, 257, 259, 261, 263] (by decide +kernel) (by decide +kernel)
def RJ22 : String := "java/util/HashMap$Node"
def TJ22 : u_T := fun k => match k with
  | 0 => ("java/util/HashMap$Node", "hash", "I", true)
  | 1 => ("java/util/HashMap$Node", "key", "Ljava/lang/Object;", true)
  | 2 => ("java/util/HashMap$Node", "value", "Ljava/lang/Object;", false)
  | _ => ("java/util/HashMap$Node", "next", "Ljava/util/HashMap$Node;", false)
def tyJ22 : Nat → FieldType := fun k => match k with
  | 0 => .int
  | 1 => .object "java/lang/Object"
  | 2 => .object "java/lang/Object"
  | _ => .object "java/util/HashMap$Node"
abbrev wsJ220 : List Cond := u_ws RJ22 TJ22 4
theorem nmJ22 : ∀ a, a < 4 → ∀ b, b < 4 → a ≠ b → (TJ22 a).2.1 ≠ (TJ22 b).2.1 := by decide +kernel
theorem tyJ22_ok : ∀ k, k < 4 → parseFieldDescriptor (TJ22 k).2.2.1 = some (tyJ22 k) := by decide +kernel
theorem in_J22 : ∀ w ∈ wsJ220, w ∈ lw_all := lw_in wsJ220 [1235, 1237, 1239, 1241] (by decide +kernel) (by decide +kernel)
def RJ11 : String := "java/lang/StringBuilder"
def TJ11 : u_T := fun k => match k with
  | 0 => ("java/lang/AbstractStringBuilder", "value", "[B", false)
  | 1 => ("java/lang/AbstractStringBuilder", "coder", "B", false)
  | 2 => ("java/lang/AbstractStringBuilder", "maybeLatin1", "Z", false)
  | _ => ("java/lang/AbstractStringBuilder", "count", "I", false)
def tyJ11 : Nat → FieldType := fun k => match k with
  | 0 => .array .byte
  | 1 => .byte
  | 2 => .boolean
  | _ => .int
abbrev wsJ110 : List Cond := u_ws RJ11 TJ11 4
theorem nmJ11 : ∀ a, a < 4 → ∀ b, b < 4 → a ≠ b → (TJ11 a).2.1 ≠ (TJ11 b).2.1 := by decide +kernel
theorem tyJ11_ok : ∀ k, k < 4 → parseFieldDescriptor (TJ11 k).2.2.1 = some (tyJ11 k) := by decide +kernel
theorem in_J11 : ∀ w ∈ wsJ110, w ∈ lw_all := lw_in wsJ110 [373, 375, 377, 379] (by decide +kernel) (by decide +kernel)
def RJ12 : String := "java/lang/String"
def TJ12 : u_T := fun k => match k with
  | 0 => ("java/lang/String", "value", "[B", true)
  | 1 => ("java/lang/String", "coder", "B", true)
  | 2 => ("java/lang/String", "hash", "I", false)
  | _ => ("java/lang/String", "hashIsZero", "Z", false)
def tyJ12 : Nat → FieldType := fun k => match k with
  | 0 => .array .byte
  | 1 => .byte
  | 2 => .int
  | _ => .boolean
abbrev wsJ120 : List Cond := u_ws RJ12 TJ12 4
theorem nmJ12 : ∀ a, a < 4 → ∀ b, b < 4 → a ≠ b → (TJ12 a).2.1 ≠ (TJ12 b).2.1 := by decide +kernel
theorem tyJ12_ok : ∀ k, k < 4 → parseFieldDescriptor (TJ12 k).2.2.1 = some (tyJ12 k) := by decide +kernel
theorem in_J12 : ∀ w ∈ wsJ120, w ∈ lw_all := lw_in wsJ120 [614, 616, 618, 620] (by decide +kernel) (by decide +kernel)
def RJ9 : String := "java/lang/IllegalArgumentException"
def TJ9 : u_T := fun _ => ("", "", "", false)
def tyJ9 : Nat → FieldType := fun _ => .int
def RJ27 : String := "java/lang/IndexOutOfBoundsException"
def TJ27 : u_T := fun _ => ("", "", "", false)
def tyJ27 : Nat → FieldType := fun _ => .int
def RJ25 : String := "java/lang/IllegalStateException"
def TJ25 : u_T := fun _ => ("", "", "", false)
def tyJ25 : Nat → FieldType := fun _ => .int
def mCl : List vw_C := [(RX1, TX1, 9), (RX2, TX2, 8), (RX3, TX3, 4), (RX4, TX4, 4), (RX5, TX5, 5), (RX6, TX6, 1), (RX7, TX7, 6), (RX8, TX8, 6), (RX9, TX9, 24), (RX10, TX10, 7), (RX11, TX11, 8), (RX12, TX12, 2), (RX14, TX14, 2), (RJ5, TJ5, 3), (RJ1, TJ1, 3), (RJ3, TJ3, 8), (RJ22, TJ22, 4), (RJ11, TJ11, 4), (RJ12, TJ12, 4), (RJ9, TJ9, 0), (RJ27, TJ27, 0), (RJ25, TJ25, 0)]
def mClT : List (Nat → FieldType) := [tyX1, tyX2, tyX3, tyX4, tyX5, tyX6, tyX7, tyX8, tyX9, tyX10, tyX11, tyX12, tyX14, tyJ5, tyJ1, tyJ3, tyJ22, tyJ11, tyJ12, tyJ9, tyJ27, tyJ25]
def mClOk (r : vw_C) (ty : Nat → FieldType) : Prop := (∀ k, k < r.2.2 → parseFieldDescriptor (r.2.1 k).2.2.1 = some (ty k)) ∧ (∀ a, a < r.2.2 → ∀ b, b < r.2.2 → a ≠ b → (r.2.1 a).2.1 ≠ (r.2.1 b).2.1) ∧ (∀ w ∈ u_ws r.1 r.2.1 r.2.2, w ∈ lw_all)
theorem mClOk_0 : mClOk (RX1, TX1, 9) tyX1 := ⟨tyX1_ok, nmX1, in_X1⟩
theorem mClOk_1 : mClOk (RX2, TX2, 8) tyX2 := ⟨tyX2_ok, nmX2, in_X2⟩
theorem mClOk_2 : mClOk (RX3, TX3, 4) tyX3 := ⟨tyX3_ok, nmX3, in_X3⟩
theorem mClOk_3 : mClOk (RX4, TX4, 4) tyX4 := ⟨tyX4_ok, nmX4, in_X4⟩
theorem mClOk_4 : mClOk (RX5, TX5, 5) tyX5 := ⟨tyX5_ok, nmX5, in_X5⟩
theorem mClOk_5 : mClOk (RX6, TX6, 1) tyX6 := ⟨tyX6_ok, nmX6, in_X6⟩
theorem mClOk_6 : mClOk (RX7, TX7, 6) tyX7 := ⟨tyX7_ok, nmX7, in_X7⟩
theorem mClOk_7 : mClOk (RX8, TX8, 6) tyX8 := ⟨tyX8_ok, nmX8, in_X8⟩
theorem mClOk_8 : mClOk (RX9, TX9, 24) tyX9 := ⟨tyX9_ok, nmX9, in_X9⟩
theorem mClOk_9 : mClOk (RX10, TX10, 7) tyX10 := ⟨tyX10_ok, nmX10, in_X10⟩
theorem mClOk_10 : mClOk (RX11, TX11, 8) tyX11 := ⟨tyX11_ok, nmX11, in_X11⟩
theorem mClOk_11 : mClOk (RX12, TX12, 2) tyX12 := ⟨tyX12_ok, nmX12, in_X12⟩
theorem mClOk_12 : mClOk (RX14, TX14, 2) tyX14 := ⟨tyX14_ok, nmX14, in_X14⟩
theorem mClOk_13 : mClOk (RJ5, TJ5, 3) tyJ5 := ⟨tyJ5_ok, nmJ5, in_J5⟩
theorem mClOk_14 : mClOk (RJ1, TJ1, 3) tyJ1 := ⟨tyJ1_ok, nmJ1, in_J1⟩
theorem mClOk_15 : mClOk (RJ3, TJ3, 8) tyJ3 := ⟨tyJ3_ok, nmJ3, in_J3⟩
theorem mClOk_16 : mClOk (RJ22, TJ22, 4) tyJ22 := ⟨tyJ22_ok, nmJ22, in_J22⟩
theorem mClOk_17 : mClOk (RJ11, TJ11, 4) tyJ11 := ⟨tyJ11_ok, nmJ11, in_J11⟩
theorem mClOk_18 : mClOk (RJ12, TJ12, 4) tyJ12 := ⟨tyJ12_ok, nmJ12, in_J12⟩
theorem mClOk_19 : mClOk (RJ9, TJ9, 0) tyJ9 := ⟨fun k h => absurd h (Nat.not_lt_zero _), fun k h => absurd h (Nat.not_lt_zero _), fun w h => by simp [u_ws] at h⟩
theorem mClOk_20 : mClOk (RJ27, TJ27, 0) tyJ27 := ⟨fun k h => absurd h (Nat.not_lt_zero _), fun k h => absurd h (Nat.not_lt_zero _), fun w h => by simp [u_ws] at h⟩
theorem mClOk_21 : mClOk (RJ25, TJ25, 0) tyJ25 := ⟨fun k h => absurd h (Nat.not_lt_zero _), fun k h => absurd h (Nat.not_lt_zero _), fun w h => by simp [u_ws] at h⟩
theorem mCl_ok : ∀ (c : Nat) (r : vw_C), mCl[c]? = some r → ∃ ty, mClT[c]? = some ty ∧ mClOk r ty := by
  intro c r h
  match c, h with
  | 0, h => cases h; exact ⟨_, rfl, mClOk_0⟩
  | 1, h => cases h; exact ⟨_, rfl, mClOk_1⟩
  | 2, h => cases h; exact ⟨_, rfl, mClOk_2⟩
  | 3, h => cases h; exact ⟨_, rfl, mClOk_3⟩
  | 4, h => cases h; exact ⟨_, rfl, mClOk_4⟩
  | 5, h => cases h; exact ⟨_, rfl, mClOk_5⟩
  | 6, h => cases h; exact ⟨_, rfl, mClOk_6⟩
  | 7, h => cases h; exact ⟨_, rfl, mClOk_7⟩
  | 8, h => cases h; exact ⟨_, rfl, mClOk_8⟩
  | 9, h => cases h; exact ⟨_, rfl, mClOk_9⟩
  | 10, h => cases h; exact ⟨_, rfl, mClOk_10⟩
  | 11, h => cases h; exact ⟨_, rfl, mClOk_11⟩
  | 12, h => cases h; exact ⟨_, rfl, mClOk_12⟩
  | 13, h => cases h; exact ⟨_, rfl, mClOk_13⟩
  | 14, h => cases h; exact ⟨_, rfl, mClOk_14⟩
  | 15, h => cases h; exact ⟨_, rfl, mClOk_15⟩
  | 16, h => cases h; exact ⟨_, rfl, mClOk_16⟩
  | 17, h => cases h; exact ⟨_, rfl, mClOk_17⟩
  | 18, h => cases h; exact ⟨_, rfl, mClOk_18⟩
  | 19, h => cases h; exact ⟨_, rfl, mClOk_19⟩
  | 20, h => cases h; exact ⟨_, rfl, mClOk_20⟩
  | 21, h => cases h; exact ⟨_, rfl, mClOk_21⟩
  | n + 22, h => simp [mCl] at h
/-- a new object's fields -/
def mDf (c : Nat) : List Value := match c with
  | 0 => [.null, .null, .null, .null, .null, .int 0, .int 0, .int 0, .null]
  | 1 => [.null, .int 0, .null, .null, .null, .null, .null, .int 0]
  | 2 => [.int 0, .int 0, .null, .null]
  | 3 => [.int 0, .int 0, .int 0, .int 0]
  | 4 => [.int 0, .int 0, .int 0, .int 0, .int 0]
  | 5 => [.int 0]
  | 6 => [.int 0, .int 0, .int 0, .int 0, .int 0, .int 0]
  | 7 => [.int 0, .int 0, .int 0, .int 0, .int 0, .int 0]
  | 8 => [.null, .null, .null, .null, .null, .null, .int 0, .int 0, .null, .null, .int 0, .int 0, .int 0, .int 0, .int 0, .int 0, .int 0, .null, .int 0, .null, .null, .null, .null, .int 0]
  | 9 => [.int 0, .int 0, .int 0, .null, .null, .null, .null]
  | 10 => [.null, .null, .null, .null, .null, .int 0, .int 0, .int 0]
  | 11 => [.null, .null]
  | 12 => [.null, .null]
  | 13 => [.int 0, .null, .int 0]
  | 14 => [.null, .int 0, .int 0]
  | 15 => [.null, .null, .null, .null, .int 0, .int 0, .int 0, .float 0]
  | 16 => [.int 0, .null, .null, .null]
  | 17 => [.null, .int 0, .int 0, .int 0]
  | 18 => [.null, .int 0, .int 0, .int 0]
  | _ => []
def mKd : List (Nat × FieldType) := [(0, .int), (1, .boolean), (2, .byte), (3, .char), (4, .long), (100, .object "java/lang/Object"), (101, .object "MistCouriers$State"), (102, .object "java/util/HashMap$Node")]
/-- string constants: class, entry, text, number -/
def mStr : List (String × Nat × String × Nat) := [("MistCouriers", 365, "step", 10), ("MistCouriers", 370, "pick", 11), ("MistCouriers", 372, "give", 12), ("MistCouriers", 374, "lay", 13), ("MistCouriers", 376, "pass", 14), ("MistCouriers$Parser", 15, "", 15), ("MistCouriers$Parser", 216, "mist", 16), ("MistCouriers$Parser", 184, "wall", 17), ("MistCouriers$Parser", 167, "bank", 18), ("MistCouriers$Parser", 169, "watcher", 19), ("MistCouriers$Parser", 171, "courier", 20), ("MistCouriers$Parser", 173, "letter", 21), ("MistCouriers$Parser", 245, "step", 10), ("MistCouriers$Parser", 247, "pick", 11), ("MistCouriers$Parser", 249, "give", 12), ("MistCouriers$Parser", 251, "lay", 13), ("MistCouriers$Parser", 253, "pass", 14), ("MistCouriers$State", 260, "step", 10), ("MistCouriers$State", 265, "pick", 11), ("MistCouriers$State", 267, "give", 12), ("MistCouriers$State", 269, "lay", 13), ("MistCouriersModel", 277, "mist", 16), ("MistCouriersModel", 251, "wall", 17), ("MistCouriersModel", 256, "bank", 18), ("MistCouriersModel", 261, "watcher", 19), ("MistCouriersModel", 266, "courier", 20), ("MistCouriersModel", 245, "letter", 21), ("MistCouriersModel", 295, "step", 10), ("MistCouriersModel", 297, "pick", 11), ("MistCouriersModel", 299, "give", 12), ("MistCouriersModel", 301, "lay", 13), ("MistCouriersModel", 302, "pass", 14)]
/-- statics: class, name, descriptor, how (0 an int, 1 a reference, 2 a reference or null), the int or the number -/
def mSta : List (String × String × String × Nat × Nat) := [("java/lang/String", "COMPACT_STRINGS", "Z", 0, 1), ("jdk/internal/util/Preconditions", "SIOOBE_FORMATTER", "Ljava/util/function/BiFunction;", 2, 1), ("java/lang/Throwable", "UNASSIGNED_STACK", "[Ljava/lang/StackTraceElement;", 2, 2), ("java/lang/Throwable", "SUPPRESSED_SENTINEL", "Ljava/util/List;", 2, 3), ("MistCouriers", "FIRST_COURIERS", "[I", 1, 4), ("MistCouriers", "FIRST_LETTERS", "[I", 1, 5), ("MistCouriers$Token", "END", "LMistCouriers$Token;", 1, 30), ("MistCouriers$Token", "WORD", "LMistCouriers$Token;", 1, 31), ("MistCouriers$Token", "NUMBER", "LMistCouriers$Token;", 1, 32), ("MistCouriers$Token", "SEMICOLON", "LMistCouriers$Token;", 1, 33), ("MistCouriers$Token", "BAD", "LMistCouriers$Token;", 1, 34)]
/-- links of nest mates: fields, methods -/
def mNF : List (String × Nat × String × String × String × String) := [("MistCouriers", 44, "MistCouriers$State", "banks", "Ljava/util/ArrayList;", "MistCouriers"), ("MistCouriers", 65, "MistCouriers$State", "couriers", "Ljava/util/ArrayList;", "MistCouriers"), ("MistCouriers", 76, "MistCouriers$State", "letters", "Ljava/util/ArrayList;", "MistCouriers"), ("MistCouriers", 99, "MistCouriers$State", "square", "LMistCouriers$Square;", "MistCouriers"), ("MistCouriers", 103, "MistCouriers$Square", "isWall", "[Z", "MistCouriers"), ("MistCouriers", 138, "MistCouriers$State", "load", "I", "MistCouriers"), ("MistCouriers", 159, "MistCouriers$Courier", "cell", "I", "MistCouriers"), ("MistCouriers", 403, "MistCouriers$Fault", "code", "I", "MistCouriers"), ("MistCouriers", 406, "MistCouriers$Fault", "position", "I", "MistCouriers"), ("MistCouriers", 119, "MistCouriers$Square", "width", "I", "MistCouriers"), ("MistCouriers", 122, "MistCouriers$Square", "height", "I", "MistCouriers"), ("MistCouriers", 135, "MistCouriers$State", "watchers", "Ljava/util/ArrayList;", "MistCouriers"), ("MistCouriers", 141, "MistCouriers$State", "time", "I", "MistCouriers"), ("MistCouriers", 152, "MistCouriers$State", "tallies", "[I", "MistCouriers"), ("MistCouriers", 166, "MistCouriers$Letter", "to", "I", "MistCouriers"), ("MistCouriers", 169, "MistCouriers$Letter", "state", "I", "MistCouriers"), ("MistCouriers", 193, "MistCouriers$Bank", "cell", "I", "MistCouriers"), ("MistCouriers", 194, "MistCouriers$Bank", "reach", "I", "MistCouriers"), ("MistCouriers", 197, "MistCouriers$Bank", "thick", "I", "MistCouriers"), ("MistCouriers", 200, "MistCouriers$Bank", "drift", "I", "MistCouriers"), ("MistCouriers", 221, "MistCouriers$Watcher", "cell", "I", "MistCouriers"), ("MistCouriers", 222, "MistCouriers$Watcher", "direction", "I", "MistCouriers"), ("MistCouriers", 225, "MistCouriers$Watcher", "range", "I", "MistCouriers"), ("MistCouriers", 228, "MistCouriers$Watcher", "turn", "I", "MistCouriers"), ("MistCouriers", 241, "MistCouriers$Courier", "home", "I", "MistCouriers"), ("MistCouriers", 247, "MistCouriers$Courier", "hasStepped", "Z", "MistCouriers"), ("MistCouriers", 254, "MistCouriers$Courier", "steps", "I", "MistCouriers"), ("MistCouriers", 257, "MistCouriers$Courier", "caught", "I", "MistCouriers"), ("MistCouriers", 260, "MistCouriers$Courier", "brought", "I", "MistCouriers"), ("MistCouriers", 273, "MistCouriers$Letter", "from", "I", "MistCouriers"), ("MistCouriers", 266, "MistCouriers$Letter", "hand", "I", "MistCouriers"), ("MistCouriers", 280, "MistCouriers$Letter", "hands", "I", "MistCouriers"), ("MistCouriers", 263, "MistCouriers$Letter", "place", "I", "MistCouriers"), ("MistCouriers", 330, "MistCouriers$Ways", "can", "[Z", "MistCouriers"), ("MistCouriers$Parser", 181, "MistCouriers$State", "couriers", "Ljava/util/ArrayList;", "MistCouriers"), ("MistCouriers$Parser", 25, "MistCouriers", "length", "I", "MistCouriers"), ("MistCouriers$Parser", 29, "MistCouriers", "text", "[B", "MistCouriers"), ("MistCouriers$Parser", 127, "MistCouriers$State", "square", "LMistCouriers$Square;", "MistCouriers"), ("MistCouriers$Parser", 137, "MistCouriers$State", "banks", "Ljava/util/ArrayList;", "MistCouriers"), ("MistCouriers$Parser", 178, "MistCouriers$State", "watchers", "Ljava/util/ArrayList;", "MistCouriers"), ("MistCouriers$Parser", 158, "MistCouriers$State", "letters", "Ljava/util/ArrayList;", "MistCouriers"), ("MistCouriers$Parser", 124, "MistCouriers$Square", "isWall", "[Z", "MistCouriers"), ("MistCouriers$Ways", 21, "MistCouriers$State", "square", "LMistCouriers$Square;", "MistCouriers"), ("MistCouriers$State", 163, "MistCouriers$Letter", "state", "I", "MistCouriers"), ("MistCouriers$State", 94, "MistCouriers$Bank", "cell", "I", "MistCouriers"), ("MistCouriers$State", 101, "MistCouriers$Bank", "reach", "I", "MistCouriers"), ("MistCouriers$State", 104, "MistCouriers$Bank", "thick", "I", "MistCouriers"), ("MistCouriers$State", 246, "MistCouriers$Command", "numbers", "[I", "MistCouriers"), ("MistCouriers$State", 251, "MistCouriers$Command", "word", "Ljava/lang/String;", "MistCouriers"), ("MistCouriers$State", 191, "MistCouriers$Courier", "hasStepped", "Z", "MistCouriers"), ("MistCouriers$State", 172, "MistCouriers$Courier", "cell", "I", "MistCouriers"), ("MistCouriers$State", 215, "MistCouriers$Courier", "steps", "I", "MistCouriers"), ("MistCouriers$State", 121, "MistCouriers$Square", "isWall", "[Z", "MistCouriers"), ("MistCouriers$State", 112, "MistCouriers$Watcher", "range", "I", "MistCouriers"), ("MistCouriers$State", 125, "MistCouriers$Watcher", "cell", "I", "MistCouriers"), ("MistCouriers$State", 115, "MistCouriers$Watcher", "direction", "I", "MistCouriers"), ("MistCouriers$State", 231, "MistCouriers$Letter", "hands", "I", "MistCouriers"), ("MistCouriers$State", 234, "MistCouriers$Letter", "to", "I", "MistCouriers"), ("MistCouriers$State", 237, "MistCouriers$Courier", "brought", "I", "MistCouriers"), ("MistCouriers$State", 240, "MistCouriers$Letter", "place", "I", "MistCouriers"), ("MistCouriers$State", 166, "MistCouriers$Letter", "hand", "I", "MistCouriers"), ("MistCouriers$State", 176, "MistCouriers$Bank", "drift", "I", "MistCouriers"), ("MistCouriers$State", 182, "MistCouriers$Watcher", "turn", "I", "MistCouriers"), ("MistCouriers$State", 169, "MistCouriers$Courier", "home", "I", "MistCouriers"), ("MistCouriers$State", 173, "MistCouriers$Courier", "caught", "I", "MistCouriers"), ("MistCouriers$Square", 31, "MistCouriers$Watcher", "cell", "I", "MistCouriers"), ("MistCouriers$Square", 51, "MistCouriers$Watcher", "number", "I", "MistCouriers")]
def mNM : List (String × Nat × MethodName × String) := [("MistCouriers", 392, ⟨"MistCouriers$Parser", "<init>", "(LMistCouriers;)V"⟩, "MistCouriers"), ("MistCouriers$Parser", 40, ⟨"MistCouriers", "in", "(III)Z"⟩, "MistCouriers"), ("MistCouriers$Grid", 25, ⟨"MistCouriers", "in", "(III)Z"⟩, "MistCouriers"), ("MistCouriers$Ways", 46, ⟨"MistCouriers", "one", "(Z)I"⟩, "MistCouriers"), ("MistCouriers$State", 146, ⟨"MistCouriers", "one", "(Z)I"⟩, "MistCouriers"), ("MistCouriers$State", 138, ⟨"MistCouriers", "in", "(III)Z"⟩, "MistCouriers"), ("MistCouriers$State", 198, ⟨"MistCouriers", "requireIndex", "(Z)V"⟩, "MistCouriers"), ("MistCouriers$State", 202, ⟨"MistCouriers", "requireArgument", "(Z)V"⟩, "MistCouriers")]
/-- a class taken or an array kind's component, by its number -/
def mTn (t : Nat) : String := match t with
  | 0 => "MistCouriers"
  | 1 => "MistCouriers$State"
  | 2 => "MistCouriers$Square"
  | 3 => "MistCouriers$Bank"
  | 4 => "MistCouriers$Watcher"
  | 5 => "MistCouriers$Spot"
  | 6 => "MistCouriers$Courier"
  | 7 => "MistCouriers$Letter"
  | 8 => "MistCouriersModel"
  | 9 => "MistCouriers$Parser"
  | 10 => "MistCouriers$Fault"
  | 11 => "MistCouriers$Command"
  | 12 => "MistCouriers$Ways"
  | 13 => "java/util/ArrayList"
  | 14 => "java/util/ArrayDeque"
  | 15 => "java/util/HashMap"
  | 16 => "java/util/HashMap$Node"
  | 17 => "java/lang/StringBuilder"
  | 18 => "java/lang/String"
  | 19 => "java/lang/IllegalArgumentException"
  | 20 => "java/lang/IndexOutOfBoundsException"
  | 21 => "java/lang/IllegalStateException"
  | 40 => "java/util/HashMap$TreeNode"
  | 100 => "java/lang/Object"
  | 101 => "MistCouriers$State"
  | 102 => "java/util/HashMap$Node"
  | _ => ""
/-- which class takes which: (class, taken) -/
def mCaN : List (Nat × Nat) := [(0, 100), (1, 100), (2, 100), (3, 100), (4, 100), (5, 100), (6, 100), (7, 100), (8, 100), (9, 100), (10, 100), (11, 100), (12, 100), (13, 100), (14, 100), (15, 100), (16, 100), (17, 100), (18, 100), (19, 100), (20, 100), (21, 100), (1, 101), (16, 102)]
def mSub (c t : Nat) : Bool := decide (c = t ∧ c < 22) || mCaN.contains (c, t)
def mCa : List (String × String) := [("MistCouriers", "java/lang/Object"), ("MistCouriers$State", "java/lang/Object"), ("MistCouriers$Square", "java/lang/Object"), ("MistCouriers$Bank", "java/lang/Object"), ("MistCouriers$Watcher", "java/lang/Object"), ("MistCouriers$Spot", "java/lang/Object"), ("MistCouriers$Courier", "java/lang/Object"), ("MistCouriers$Letter", "java/lang/Object"), ("MistCouriersModel", "java/lang/Object"), ("MistCouriers$Parser", "java/lang/Object"), ("MistCouriers$Fault", "java/lang/Object"), ("MistCouriers$Command", "java/lang/Object"), ("MistCouriers$Ways", "java/lang/Object"), ("java/util/ArrayList", "java/lang/Object"), ("java/util/ArrayDeque", "java/lang/Object"), ("java/util/HashMap", "java/lang/Object"), ("java/util/HashMap$Node", "java/lang/Object"), ("java/lang/StringBuilder", "java/lang/Object"), ("java/lang/String", "java/lang/Object"), ("java/lang/IllegalArgumentException", "java/lang/Object"), ("java/lang/IndexOutOfBoundsException", "java/lang/Object"), ("java/lang/IllegalStateException", "java/lang/Object"), ("[I", "java/lang/Cloneable"), ("[B", "java/lang/Cloneable"), ("MistCouriers$Square", "MistCouriers$Grid"), ("java/lang/IllegalArgumentException", "java/lang/IllegalArgumentException"), ("java/lang/IndexOutOfBoundsException", "java/lang/IndexOutOfBoundsException"), ("java/lang/IllegalStateException", "java/lang/IllegalStateException")]
def mNcN : List (Nat × Nat) := [(16, 40), (19, 20), (20, 19), (21, 19), (21, 20), (10, 19), (10, 20), (19, 21), (20, 21)]
def mNsub (c t : Nat) : Bool := mNcN.contains (c, t)
/-- constructors that are declared -/
def mDe : List MethodName := [⟨"java/lang/RuntimeException", "<init>", "()V"⟩, ⟨"java/lang/Exception", "<init>", "()V"⟩, ⟨"java/lang/Throwable", "<init>", "()V"⟩]
def mAOs : List String := ["java/lang/Object", "MistCouriers$State", "java/util/HashMap$Node"]
