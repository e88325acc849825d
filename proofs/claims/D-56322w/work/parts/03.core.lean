set_option maxRecDepth 100000
set_option linter.unusedVariables false
def RX1 : String := "RainbowOperators"
def TX1 : u_T := fun k => match k with
  | 0 => ("RainbowOperators", "sheet", "LRainbowOperators$Sheet;", false)
  | 1 => ("RainbowOperators", "past", "Ljava/util/ArrayDeque;", true)
  | 2 => ("RainbowOperators", "buffer", "Ljava/lang/StringBuilder;", true)
  | 3 => ("RainbowOperators", "line", "Ljava/lang/String;", false)
  | 4 => ("RainbowOperators", "fault", "I", false)
  | 5 => ("RainbowOperators", "denied", "LRainbowOperators$Denial;", false)
  | _ => ("RainbowOperators", "snapshot", "LRainbowOperators$Sheet;", false)
def tyX1 : Nat → FieldType := fun k => match k with
  | 0 => .object "RainbowOperators$Sheet"
  | 1 => .object "java/util/ArrayDeque"
  | 2 => .object "java/lang/StringBuilder"
  | 3 => .object "java/lang/String"
  | 4 => .int
  | 5 => .object "RainbowOperators$Denial"
  | _ => .object "RainbowOperators$Sheet"
abbrev wsX10 : List Cond := u_ws RX1 TX1 7
theorem nmX1 : ∀ a, a < 7 → ∀ b, b < 7 → a ≠ b → (TX1 a).2.1 ≠ (TX1 b).2.1 := by decide +kernel
theorem tyX1_ok : ∀ k, k < 7 → parseFieldDescriptor (TX1 k).2.2.1 = some (tyX1 k) := by decide +kernel
theorem in_X1 : ∀ w ∈ wsX10, w ∈ lw_all := lw_in wsX10 [237, 239, 241, 243, 245, 247, 249] (by decide +kernel) (by decide +kernel)
def RX2 : String := "RainbowOperators$Sheet"
def TX2 : u_T := fun k => match k with
  | 0 => ("RainbowOperators$Sheet", "draft", "Ljava/lang/StringBuilder;", true)
  | 1 => ("RainbowOperators$Sheet", "colours", "[I", true)
  | 2 => ("RainbowOperators$Sheet", "meanings", "[LRainbowOperators$Meaning;", true)
  | 3 => ("RainbowOperators$Sheet", "isToTheRight", "[Z", true)
  | _ => ("RainbowOperators$Sheet", "skies", "[I", true)
def tyX2 : Nat → FieldType := fun k => match k with
  | 0 => .object "java/lang/StringBuilder"
  | 1 => .array .int
  | 2 => .array (.object "RainbowOperators$Meaning")
  | 3 => .array .boolean
  | _ => .array .int
abbrev wsX20 : List Cond := u_ws RX2 TX2 5
theorem nmX2 : ∀ a, a < 5 → ∀ b, b < 5 → a ≠ b → (TX2 a).2.1 ≠ (TX2 b).2.1 := by decide +kernel
theorem tyX2_ok : ∀ k, k < 5 → parseFieldDescriptor (TX2 k).2.2.1 = some (tyX2 k) := by decide +kernel
theorem in_X2 : ∀ w ∈ wsX20, w ∈ lw_all := lw_in wsX20 [191, 193, 195, 197, 199] (by decide +kernel) (by decide +kernel)
def RX4 : String := "RainbowOperatorsModel"
def TX4 : u_T := fun k => match k with
  | 0 => ("RainbowOperatorsModel", "g", "[I", true)
  | 1 => ("RainbowOperatorsModel", "kept", "[I", true)
  | 2 => ("RainbowOperatorsModel", "saved", "[I", true)
  | 3 => ("RainbowOperatorsModel", "before", "[I", true)
  | 4 => ("RainbowOperatorsModel", "isSaved", "Z", false)
  | 5 => ("RainbowOperatorsModel", "changes", "I", false)
  | 6 => ("RainbowOperatorsModel", "isWithin", "Z", false)
  | 7 => ("RainbowOperatorsModel", "isDenied", "Z", false)
  | 8 => ("RainbowOperatorsModel", "code", "I", false)
  | 9 => ("RainbowOperatorsModel", "why", "I", false)
  | 10 => ("RainbowOperatorsModel", "detail", "I", false)
  | 11 => ("RainbowOperatorsModel", "cause", "I", false)
  | 12 => ("RainbowOperatorsModel", "input", "[I", true)
  | 13 => ("RainbowOperatorsModel", "length", "I", false)
  | 14 => ("RainbowOperatorsModel", "fault", "I", false)
  | 15 => ("RainbowOperatorsModel", "signs", "[C", true)
  | 16 => ("RainbowOperatorsModel", "signMany", "I", false)
  | 17 => ("RainbowOperatorsModel", "work", "[I", true)
  | 18 => ("RainbowOperatorsModel", "ids", "[I", true)
  | 19 => ("RainbowOperatorsModel", "workMany", "I", false)
  | 20 => ("RainbowOperatorsModel", "firsts", "[I", true)
  | 21 => ("RainbowOperatorsModel", "seconds", "[I", true)
  | 22 => ("RainbowOperatorsModel", "trueFirsts", "[I", true)
  | 23 => ("RainbowOperatorsModel", "trueSeconds", "[I", true)
  | 24 => ("RainbowOperatorsModel", "row", "[I", true)
  | 25 => ("RainbowOperatorsModel", "between", "[I", true)
  | 26 => ("RainbowOperatorsModel", "rowMany", "I", false)
  | 27 => ("RainbowOperatorsModel", "made", "[I", true)
  | 28 => ("RainbowOperatorsModel", "start", "[I", true)
  | 29 => ("RainbowOperatorsModel", "many", "[I", true)
  | 30 => ("RainbowOperatorsModel", "isValue", "[Z", true)
  | 31 => ("RainbowOperatorsModel", "at", "I", false)
  | 32 => ("RainbowOperatorsModel", "told", "[I", true)
  | _ => ("RainbowOperatorsModel", "toldMany", "I", false)
def tyX4 : Nat → FieldType := fun k => match k with
  | 0 => .array .int
  | 1 => .array .int
  | 2 => .array .int
  | 3 => .array .int
  | 4 => .boolean
  | 5 => .int
  | 6 => .boolean
  | 7 => .boolean
  | 8 => .int
  | 9 => .int
  | 10 => .int
  | 11 => .int
  | 12 => .array .int
  | 13 => .int
  | 14 => .int
  | 15 => .array .char
  | 16 => .int
  | 17 => .array .int
  | 18 => .array .int
  | 19 => .int
  | 20 => .array .int
  | 21 => .array .int
  | 22 => .array .int
  | 23 => .array .int
  | 24 => .array .int
  | 25 => .array .int
  | 26 => .int
  | 27 => .array .int
  | 28 => .array .int
  | 29 => .array .int
  | 30 => .array .boolean
  | 31 => .int
  | 32 => .array .int
  | _ => .int
abbrev wsX40 : List Cond := u_ws RX4 TX4 34
set_option maxRecDepth 100000 in
theorem nmX4 : ∀ a, a < 34 → ∀ b, b < 34 → a ≠ b → (TX4 a).2.1 ≠ (TX4 b).2.1 := by decide +kernel
set_option maxRecDepth 100000 in
theorem tyX4_ok : ∀ k, k < 34 → parseFieldDescriptor (TX4 k).2.2.1 = some (tyX4 k) := by decide +kernel
theorem in_X4 : ∀ w ∈ wsX40, w ∈ lw_all := lw_in wsX40 [2317, 2319, 2321, 2323, 2325, 2327, 2329, 2331, 2333, 2335, 2337, 2339, 2341, 2343, 2345, 2347, 2349, 2351, 2353, 2355, 2357, 2359, 2361, 2363, 2365, 2367, 2369, 2371, 2373, 2375, 2377, 2379, 2381, 2383] (by decide +kernel) (by decide +kernel)
def RX5 : String := "RainbowOperators$Change"
def TX5 : u_T := fun k => match k with
  | 0 => ("RainbowOperators$Change", "word", "Ljava/lang/String;", true)
  | 1 => ("RainbowOperators$Change", "characters", "Ljava/lang/String;", true)
  | _ => ("RainbowOperators$Change", "number", "I", true)
def tyX5 : Nat → FieldType := fun k => match k with
  | 0 => .object "java/lang/String"
  | 1 => .object "java/lang/String"
  | _ => .int
abbrev wsX50 : List Cond := u_ws RX5 TX5 3
theorem nmX5 : ∀ a, a < 3 → ∀ b, b < 3 → a ≠ b → (TX5 a).2.1 ≠ (TX5 b).2.1 := by decide +kernel
theorem tyX5_ok : ∀ k, k < 3 → parseFieldDescriptor (TX5 k).2.2.1 = some (tyX5 k) := by decide +kernel
theorem in_X5 : ∀ w ∈ wsX50, w ∈ lw_all := lw_in wsX50 [534, 536, 538] (by decide +kernel) (by decide +kernel)
def RX6 : String := "RainbowOperators$Denial"
def TX6 : u_T := fun k => match k with
  | 0 => ("java/lang/Throwable", "cause", "Ljava/lang/Throwable;", false)
  | 1 => ("java/lang/Throwable", "stackTrace", "[Ljava/lang/StackTraceElement;", false)
  | 2 => ("java/lang/Throwable", "suppressedExceptions", "Ljava/util/List;", false)
  | 3 => ("java/lang/Throwable", "detailMessage", "Ljava/lang/String;", false)
  | 4 => ("java/lang/Throwable", "backtrace", "Ljava/lang/Object;", false)
  | 5 => ("java/lang/Throwable", "depth", "I", false)
  | 6 => ("RainbowOperators$Denial", "number", "I", true)
  | _ => ("RainbowOperators$Denial", "detail", "I", true)
def tyX6 : Nat → FieldType := fun k => match k with
  | 0 => .object "java/lang/Throwable"
  | 1 => .array (.object "java/lang/StackTraceElement")
  | 2 => .object "java/util/List"
  | 3 => .object "java/lang/String"
  | 4 => .object "java/lang/Object"
  | 5 => .int
  | 6 => .int
  | _ => .int
abbrev wsX60 : List Cond := u_ws RX6 TX6 8
theorem nmX6 : ∀ a, a < 8 → ∀ b, b < 8 → a ≠ b → (TX6 a).2.1 ≠ (TX6 b).2.1 := by decide +kernel
theorem tyX6_ok : ∀ k, k < 8 → parseFieldDescriptor (TX6 k).2.2.1 = some (tyX6 k) := by decide +kernel
theorem in_X6 : ∀ w ∈ wsX60, w ∈ lw_all := lw_in wsX60 [854, 855, 856, 857, 858, 879, 875, 877] (by decide +kernel) (by decide +kernel)
def RX7 : String := "RainbowOperators$Grower"
def TX7 : u_T := fun k => match k with
  | 0 => ("RainbowOperators$Grower", "sheet", "LRainbowOperators$Sheet;", true)
  | 1 => ("RainbowOperators$Grower", "draft", "Ljava/lang/String;", true)
  | _ => ("RainbowOperators$Grower", "place", "I", false)
def tyX7 : Nat → FieldType := fun k => match k with
  | 0 => .object "RainbowOperators$Sheet"
  | 1 => .object "java/lang/String"
  | _ => .int
abbrev wsX70 : List Cond := u_ws RX7 TX7 3
theorem nmX7 : ∀ a, a < 3 → ∀ b, b < 3 → a ≠ b → (TX7 a).2.1 ≠ (TX7 b).2.1 := by decide +kernel
theorem tyX7_ok : ∀ k, k < 3 → parseFieldDescriptor (TX7 k).2.2.1 = some (tyX7 k) := by decide +kernel
theorem in_X7 : ∀ w ∈ wsX70, w ∈ lw_all := lw_in wsX70 [1074, 1076, 1078] (by decide +kernel) (by decide +kernel)
def RX8 : String := "RainbowOperators$Cloud"
def TX8 : u_T := fun k => match k with
  | 0 => ("RainbowOperators$Cloud", "place", "I", true)
  | _ => ("RainbowOperators$Cloud", "behind", "LRainbowOperators$Part;", true)
def tyX8 : Nat → FieldType := fun k => match k with
  | 0 => .int
  | _ => .object "RainbowOperators$Part"
abbrev wsX80 : List Cond := u_ws RX8 TX8 2
theorem nmX8 : ∀ a, a < 2 → ∀ b, b < 2 → a ≠ b → (TX8 a).2.1 ≠ (TX8 b).2.1 := by decide +kernel
theorem tyX8_ok : ∀ k, k < 2 → parseFieldDescriptor (TX8 k).2.2.1 = some (tyX8 k) := by decide +kernel
theorem in_X8 : ∀ w ∈ wsX80, w ∈ lw_all := lw_in wsX80 [1109, 1111] (by decide +kernel) (by decide +kernel)
def RX9 : String := "RainbowOperators$Operand"
def TX9 : u_T := fun k => match k with
  | 0 => ("RainbowOperators$Operand", "place", "I", true)
  | _ => ("RainbowOperators$Operand", "sign", "C", true)
def tyX9 : Nat → FieldType := fun k => match k with
  | 0 => .int
  | _ => .char
abbrev wsX90 : List Cond := u_ws RX9 TX9 2
theorem nmX9 : ∀ a, a < 2 → ∀ b, b < 2 → a ≠ b → (TX9 a).2.1 ≠ (TX9 b).2.1 := by decide +kernel
theorem tyX9_ok : ∀ k, k < 2 → parseFieldDescriptor (TX9 k).2.2.1 = some (tyX9 k) := by decide +kernel
theorem in_X9 : ∀ w ∈ wsX90, w ∈ lw_all := lw_in wsX90 [1124, 1126] (by decide +kernel) (by decide +kernel)
def RX10 : String := "RainbowOperators$Application"
def TX10 : u_T := fun k => match k with
  | 0 => ("RainbowOperators$Application", "place", "I", true)
  | 1 => ("RainbowOperators$Application", "operator", "C", true)
  | 2 => ("RainbowOperators$Application", "first", "LRainbowOperators$Part;", true)
  | _ => ("RainbowOperators$Application", "second", "LRainbowOperators$Part;", true)
def tyX10 : Nat → FieldType := fun k => match k with
  | 0 => .int
  | 1 => .char
  | 2 => .object "RainbowOperators$Part"
  | _ => .object "RainbowOperators$Part"
abbrev wsX100 : List Cond := u_ws RX10 TX10 4
theorem nmX10 : ∀ a, a < 4 → ∀ b, b < 4 → a ≠ b → (TX10 a).2.1 ≠ (TX10 b).2.1 := by decide +kernel
theorem tyX10_ok : ∀ k, k < 4 → parseFieldDescriptor (TX10 k).2.2.1 = some (tyX10 k) := by decide +kernel
theorem in_X10 : ∀ w ∈ wsX100, w ∈ lw_all := lw_in wsX100 [1151, 1153, 1155, 1157] (by decide +kernel) (by decide +kernel)
def RX11 : String := "RainbowOperators$Computer"
def TX11 : u_T := fun k => match k with
  | 0 => ("RainbowOperators$Computer", "sheet", "LRainbowOperators$Sheet;", true)
  | 1 => ("RainbowOperators$Computer", "values", "Ljava/util/ArrayDeque;", true)
  | 2 => ("RainbowOperators$Computer", "waiting", "Ljava/util/ArrayDeque;", true)
  | _ => ("RainbowOperators$Computer", "isOperandNext", "Z", false)
def tyX11 : Nat → FieldType := fun k => match k with
  | 0 => .object "RainbowOperators$Sheet"
  | 1 => .object "java/util/ArrayDeque"
  | 2 => .object "java/util/ArrayDeque"
  | _ => .boolean
abbrev wsX110 : List Cond := u_ws RX11 TX11 4
theorem nmX11 : ∀ a, a < 4 → ∀ b, b < 4 → a ≠ b → (TX11 a).2.1 ≠ (TX11 b).2.1 := by decide +kernel
theorem tyX11_ok : ∀ k, k < 4 → parseFieldDescriptor (TX11 k).2.2.1 = some (tyX11 k) := by decide +kernel
theorem in_X11 : ∀ w ∈ wsX110, w ∈ lw_all := lw_in wsX110 [1524, 1526, 1528, 1530] (by decide +kernel) (by decide +kernel)
def RX12 : String := "RainbowOperators$Row"
def TX12 : u_T := fun k => match k with
  | 0 => ("RainbowOperators$Row", "operands", "Ljava/lang/StringBuilder;", true)
  | 1 => ("RainbowOperators$Row", "operators", "Ljava/lang/StringBuilder;", true)
  | 2 => ("RainbowOperators$Row", "things", "[I", true)
  | 3 => ("RainbowOperators$Row", "signs", "[LRainbowOperators$Meaning;", true)
  | 4 => ("RainbowOperators$Row", "greatest", "I", false)
  | 5 => ("RainbowOperators$Row", "made", "J", false)
  | _ => ("RainbowOperators$Row", "this$0", "LRainbowOperators;", true)
def tyX12 : Nat → FieldType := fun k => match k with
  | 0 => .object "java/lang/StringBuilder"
  | 1 => .object "java/lang/StringBuilder"
  | 2 => .array .int
  | 3 => .array (.object "RainbowOperators$Meaning")
  | 4 => .int
  | 5 => .long
  | _ => .object "RainbowOperators"
abbrev wsX120 : List Cond := u_ws RX12 TX12 7
theorem nmX12 : ∀ a, a < 7 → ∀ b, b < 7 → a ≠ b → (TX12 a).2.1 ≠ (TX12 b).2.1 := by decide +kernel
theorem tyX12_ok : ∀ k, k < 7 → parseFieldDescriptor (TX12 k).2.2.1 = some (tyX12 k) := by decide +kernel
theorem in_X12 : ∀ w ∈ wsX120, w ∈ lw_all := lw_in wsX120 [1793, 1795, 1797, 1799, 1801, 1803, 1805] (by decide +kernel) (by decide +kernel)
def RX13 : String := "RainbowOperators$Parser"
def TX13 : u_T := fun k => match k with
  | 0 => ("RainbowOperators$Parser", "position", "I", false)
  | _ => ("RainbowOperators$Parser", "this$0", "LRainbowOperators;", true)
def tyX13 : Nat → FieldType := fun k => match k with
  | 0 => .int
  | _ => .object "RainbowOperators"
abbrev wsX130 : List Cond := u_ws RX13 TX13 2
theorem nmX13 : ∀ a, a < 2 → ∀ b, b < 2 → a ≠ b → (TX13 a).2.1 ≠ (TX13 b).2.1 := by decide +kernel
theorem tyX13_ok : ∀ k, k < 2 → parseFieldDescriptor (TX13 k).2.2.1 = some (tyX13 k) := by decide +kernel
theorem in_X13 : ∀ w ∈ wsX130, w ∈ lw_all := lw_in wsX130 [1930, 1932] (by decide +kernel) (by decide +kernel)
def RX14 : String := "RainbowOperators$SyntaxFault"
def TX14 : u_T := fun k => match k with
  | 0 => ("java/lang/Throwable", "cause", "Ljava/lang/Throwable;", false)
  | 1 => ("java/lang/Throwable", "stackTrace", "[Ljava/lang/StackTraceElement;", false)
  | 2 => ("java/lang/Throwable", "suppressedExceptions", "Ljava/util/List;", false)
  | 3 => ("java/lang/Throwable", "detailMessage", "Ljava/lang/String;", false)
  | 4 => ("java/lang/Throwable", "backtrace", "Ljava/lang/Object;", false)
  | 5 => ("java/lang/Throwable", "depth", "I", false)
  | _ => ("RainbowOperators$SyntaxFault", "position", "I", true)
def tyX14 : Nat → FieldType := fun k => match k with
  | 0 => .object "java/lang/Throwable"
  | 1 => .array (.object "java/lang/StackTraceElement")
  | 2 => .object "java/util/List"
  | 3 => .object "java/lang/String"
  | 4 => .object "java/lang/Object"
  | 5 => .int
  | _ => .int
abbrev wsX140 : List Cond := u_ws RX14 TX14 7
theorem nmX14 : ∀ a, a < 7 → ∀ b, b < 7 → a ≠ b → (TX14 a).2.1 ≠ (TX14 b).2.1 := by decide +kernel
theorem tyX14_ok : ∀ k, k < 7 → parseFieldDescriptor (TX14 k).2.2.1 = some (tyX14 k) := by decide +kernel
theorem in_X14 : ∀ w ∈ wsX140, w ∈ lw_all := lw_in wsX140 [2009, 2010, 2011, 2012, 2013, 2022, 2020] (by decide +kernel) (by decide +kernel)
def RJ1 : String := "java/lang/StringBuilder"
def TJ1 : u_T := fun k => match k with
  | 0 => ("java/lang/AbstractStringBuilder", "value", "[B", false)
  | 1 => ("java/lang/AbstractStringBuilder", "coder", "B", false)
  | 2 => ("java/lang/AbstractStringBuilder", "maybeLatin1", "Z", false)
  | _ => ("java/lang/AbstractStringBuilder", "count", "I", false)
def tyJ1 : Nat → FieldType := fun k => match k with
  | 0 => .array .byte
  | 1 => .byte
  | 2 => .boolean
  | _ => .int
abbrev wsJ10 : List Cond := u_ws RJ1 TJ1 4
theorem nmJ1 : ∀ a, a < 4 → ∀ b, b < 4 → a ≠ b → (TJ1 a).2.1 ≠ (TJ1 b).2.1 := by decide +kernel
theorem tyJ1_ok : ∀ k, k < 4 → parseFieldDescriptor (TJ1 k).2.2.1 = some (tyJ1 k) := by decide +kernel
theorem in_J1 : ∀ w ∈ wsJ10, w ∈ lw_all := lw_in wsJ10 [154, 156, 158, 160] (by decide +kernel) (by decide +kernel)
def RJ2 : String := "java/lang/String"
def TJ2 : u_T := fun k => match k with
  | 0 => ("java/lang/String", "value", "[B", true)
  | 1 => ("java/lang/String", "coder", "B", true)
  | 2 => ("java/lang/String", "hash", "I", false)
  | _ => ("java/lang/String", "hashIsZero", "Z", false)
def tyJ2 : Nat → FieldType := fun k => match k with
  | 0 => .array .byte
  | 1 => .byte
  | 2 => .int
  | _ => .boolean
abbrev wsJ20 : List Cond := u_ws RJ2 TJ2 4
theorem nmJ2 : ∀ a, a < 4 → ∀ b, b < 4 → a ≠ b → (TJ2 a).2.1 ≠ (TJ2 b).2.1 := by decide +kernel
theorem tyJ2_ok : ∀ k, k < 4 → parseFieldDescriptor (TJ2 k).2.2.1 = some (tyJ2 k) := by decide +kernel
theorem in_J2 : ∀ w ∈ wsJ20, w ∈ lw_all := lw_in wsJ20 [742, 744, 746, 748] (by decide +kernel) (by decide +kernel)
def RJ6 : String := "java/util/ArrayDeque"
def TJ6 : u_T := fun k => match k with
  | 0 => ("java/util/ArrayDeque", "elements", "[Ljava/lang/Object;", false)
  | 1 => ("java/util/ArrayDeque", "head", "I", false)
  | _ => ("java/util/ArrayDeque", "tail", "I", false)
def tyJ6 : Nat → FieldType := fun k => match k with
  | 0 => .array (.object "java/lang/Object")
  | 1 => .int
  | _ => .int
abbrev wsJ60 : List Cond := u_ws RJ6 TJ6 3
theorem nmJ6 : ∀ a, a < 3 → ∀ b, b < 3 → a ≠ b → (TJ6 a).2.1 ≠ (TJ6 b).2.1 := by decide +kernel
theorem tyJ6_ok : ∀ k, k < 3 → parseFieldDescriptor (TJ6 k).2.2.1 = some (tyJ6 k) := by decide +kernel
theorem in_J6 : ∀ w ∈ wsJ60, w ∈ lw_all := lw_in wsJ60 [218, 220, 222] (by decide +kernel) (by decide +kernel)
def RJ12 : String := "java/lang/Throwable"
def TJ12 : u_T := fun k => match k with
  | 0 => ("java/lang/Throwable", "cause", "Ljava/lang/Throwable;", false)
  | 1 => ("java/lang/Throwable", "stackTrace", "[Ljava/lang/StackTraceElement;", false)
  | 2 => ("java/lang/Throwable", "suppressedExceptions", "Ljava/util/List;", false)
  | 3 => ("java/lang/Throwable", "detailMessage", "Ljava/lang/String;", false)
  | _ => ("java/lang/Throwable", "backtrace", "Ljava/lang/Object;", false)
def tyJ12 : Nat → FieldType := fun k => match k with
  | 0 => .object "java/lang/Throwable"
  | 1 => .array (.object "java/lang/StackTraceElement")
  | 2 => .object "java/util/List"
  | 3 => .object "java/lang/String"
  | _ => .object "java/lang/Object"
abbrev wsJ120 : List Cond := u_ws RJ12 TJ12 5
theorem nmJ12 : ∀ a, a < 5 → ∀ b, b < 5 → a ≠ b → (TJ12 a).2.1 ≠ (TJ12 b).2.1 := by decide +kernel
theorem tyJ12_ok : ∀ k, k < 5 → parseFieldDescriptor (TJ12 k).2.2.1 = some (tyJ12 k) := by decide +kernel
theorem in_J12 : ∀ w ∈ wsJ120, w ∈ lw_all := lw_in wsJ120 [602, 604, 606, 608, 610] (by decide +kernel) (by decide +kernel)
def RJ15 : String := "java/lang/IllegalArgumentException"
def TJ15 : u_T := fun k => match k with
  | 0 => ("java/lang/Throwable", "cause", "Ljava/lang/Throwable;", false)
  | 1 => ("java/lang/Throwable", "stackTrace", "[Ljava/lang/StackTraceElement;", false)
  | 2 => ("java/lang/Throwable", "suppressedExceptions", "Ljava/util/List;", false)
  | 3 => ("java/lang/Throwable", "detailMessage", "Ljava/lang/String;", false)
  | 4 => ("java/lang/Throwable", "backtrace", "Ljava/lang/Object;", false)
  | _ => ("java/lang/Throwable", "depth", "I", false)
def tyJ15 : Nat → FieldType := fun k => match k with
  | 0 => .object "java/lang/Throwable"
  | 1 => .array (.object "java/lang/StackTraceElement")
  | 2 => .object "java/util/List"
  | 3 => .object "java/lang/String"
  | 4 => .object "java/lang/Object"
  | _ => .int
abbrev wsJ150 : List Cond := u_ws RJ15 TJ15 6
theorem nmJ15 : ∀ a, a < 6 → ∀ b, b < 6 → a ≠ b → (TJ15 a).2.1 ≠ (TJ15 b).2.1 := by decide +kernel
theorem tyJ15_ok : ∀ k, k < 6 → parseFieldDescriptor (TJ15 k).2.2.1 = some (tyJ15 k) := by decide +kernel
theorem in_J15 : ∀ w ∈ wsJ150, w ∈ lw_all := lw_in wsJ150 [601, 603, 605, 607, 609, 724] (by decide +kernel) (by decide +kernel)
def RJ17 : String := "java/lang/Integer"
def TJ17 : u_T := fun k => match k with
  | _ => ("java/lang/Integer", "value", "I", true)
def tyJ17 : Nat → FieldType := fun k => match k with
  | _ => .int
abbrev wsJ170 : List Cond := u_ws RJ17 TJ17 1
theorem nmJ17 : ∀ a, a < 1 → ∀ b, b < 1 → a ≠ b → (TJ17 a).2.1 ≠ (TJ17 b).2.1 := by decide +kernel
theorem tyJ17_ok : ∀ k, k < 1 → parseFieldDescriptor (TJ17 k).2.2.1 = some (tyJ17 k) := by decide +kernel
theorem in_J17 : ∀ w ∈ wsJ170, w ∈ lw_all := lw_in wsJ170 [1562] (by decide +kernel) (by decide +kernel)
def RJ18 : String := "java/lang/Character"
def TJ18 : u_T := fun k => match k with
  | _ => ("java/lang/Character", "value", "C", true)
def tyJ18 : Nat → FieldType := fun k => match k with
  | _ => .char
abbrev wsJ180 : List Cond := u_ws RJ18 TJ18 1
theorem nmJ18 : ∀ a, a < 1 → ∀ b, b < 1 → a ≠ b → (TJ18 a).2.1 ≠ (TJ18 b).2.1 := by decide +kernel
theorem tyJ18_ok : ∀ k, k < 1 → parseFieldDescriptor (TJ18 k).2.2.1 = some (tyJ18 k) := by decide +kernel
theorem in_J18 : ∀ w ∈ wsJ180, w ∈ lw_all := lw_in wsJ180 [1632] (by decide +kernel) (by decide +kernel)
def RJ19 : String := "java/lang/IndexOutOfBoundsException"
def TJ19 : u_T := fun k => match k with
  | 0 => ("java/lang/Throwable", "cause", "Ljava/lang/Throwable;", false)
  | 1 => ("java/lang/Throwable", "stackTrace", "[Ljava/lang/StackTraceElement;", false)
  | 2 => ("java/lang/Throwable", "suppressedExceptions", "Ljava/util/List;", false)
  | 3 => ("java/lang/Throwable", "detailMessage", "Ljava/lang/String;", false)
  | 4 => ("java/lang/Throwable", "backtrace", "Ljava/lang/Object;", false)
  | _ => ("java/lang/Throwable", "depth", "I", false)
def tyJ19 : Nat → FieldType := fun k => match k with
  | 0 => .object "java/lang/Throwable"
  | 1 => .array (.object "java/lang/StackTraceElement")
  | 2 => .object "java/util/List"
  | 3 => .object "java/lang/String"
  | 4 => .object "java/lang/Object"
  | _ => .int
abbrev wsJ190 : List Cond := u_ws RJ19 TJ19 6
theorem nmJ19 : ∀ a, a < 6 → ∀ b, b < 6 → a ≠ b → (TJ19 a).2.1 ≠ (TJ19 b).2.1 := by decide +kernel
theorem tyJ19_ok : ∀ k, k < 6 → parseFieldDescriptor (TJ19 k).2.2.1 = some (tyJ19 k) := by decide +kernel
theorem in_J19 : ∀ w ∈ wsJ190, w ∈ lw_all := lw_in wsJ190 [1033, 1034, 1035, 1036, 1037, 1042] (by decide +kernel) (by decide +kernel)
def RJ20 : String := "java/lang/StringIndexOutOfBoundsException"
def TJ20 : u_T := fun k => match k with
  | 0 => ("java/lang/Throwable", "backtrace", "Ljava/lang/Object;", false)
  | 1 => ("java/lang/Throwable", "detailMessage", "Ljava/lang/String;", false)
  | 2 => ("java/lang/Throwable", "cause", "Ljava/lang/Throwable;", false)
  | 3 => ("java/lang/Throwable", "stackTrace", "[Ljava/lang/StackTraceElement;", false)
  | 4 => ("java/lang/Throwable", "depth", "I", false)
  | _ => ("java/lang/Throwable", "suppressedExceptions", "Ljava/util/List;", false)
def tyJ20 : Nat → FieldType := fun k => match k with
  | 0 => .object "java/lang/Object"
  | 1 => .object "java/lang/String"
  | 2 => .object "java/lang/Throwable"
  | 3 => .array (.object "java/lang/StackTraceElement")
  | 4 => .int
  | _ => .object "java/util/List"
abbrev wsJ200 : List Cond := u_ws RJ20 TJ20 6
theorem nmJ20 : ∀ a, a < 6 → ∀ b, b < 6 → a ≠ b → (TJ20 a).2.1 ≠ (TJ20 b).2.1 := by decide +kernel
theorem tyJ20_ok : ∀ k, k < 6 → parseFieldDescriptor (TJ20 k).2.2.1 = some (tyJ20 k) := by decide +kernel
theorem in_J20 : ∀ w ∈ wsJ200, w ∈ lw_all := lw_in wsJ200 [920, 921, 922, 923, 924, 925] (by decide +kernel) (by decide +kernel)
def RJ21 : String := "java/lang/ArrayIndexOutOfBoundsException"
def TJ21 : u_T := fun k => match k with
  | 0 => ("java/lang/Throwable", "cause", "Ljava/lang/Throwable;", false)
  | 1 => ("java/lang/Throwable", "stackTrace", "[Ljava/lang/StackTraceElement;", false)
  | 2 => ("java/lang/Throwable", "suppressedExceptions", "Ljava/util/List;", false)
  | 3 => ("java/lang/Throwable", "detailMessage", "Ljava/lang/String;", false)
  | 4 => ("java/lang/Throwable", "backtrace", "Ljava/lang/Object;", false)
  | _ => ("java/lang/Throwable", "depth", "I", false)
def tyJ21 : Nat → FieldType := fun k => match k with
  | 0 => .object "java/lang/Throwable"
  | 1 => .array (.object "java/lang/StackTraceElement")
  | 2 => .object "java/util/List"
  | 3 => .object "java/lang/String"
  | 4 => .object "java/lang/Object"
  | _ => .int
abbrev wsJ210 : List Cond := u_ws RJ21 TJ21 6
theorem nmJ21 : ∀ a, a < 6 → ∀ b, b < 6 → a ≠ b → (TJ21 a).2.1 ≠ (TJ21 b).2.1 := by decide +kernel
theorem tyJ21_ok : ∀ k, k < 6 → parseFieldDescriptor (TJ21 k).2.2.1 = some (tyJ21 k) := by decide +kernel
theorem in_J21 : ∀ w ∈ wsJ210, w ∈ lw_all := lw_in wsJ210 [945, 946, 947, 948, 949, 960] (by decide +kernel) (by decide +kernel)
def RJ22 : String := "java/util/NoSuchElementException"
def TJ22 : u_T := fun k => match k with
  | 0 => ("java/lang/Throwable", "cause", "Ljava/lang/Throwable;", false)
  | 1 => ("java/lang/Throwable", "stackTrace", "[Ljava/lang/StackTraceElement;", false)
  | 2 => ("java/lang/Throwable", "suppressedExceptions", "Ljava/util/List;", false)
  | 3 => ("java/lang/Throwable", "detailMessage", "Ljava/lang/String;", false)
  | 4 => ("java/lang/Throwable", "backtrace", "Ljava/lang/Object;", false)
  | _ => ("java/lang/Throwable", "depth", "I", false)
def tyJ22 : Nat → FieldType := fun k => match k with
  | 0 => .object "java/lang/Throwable"
  | 1 => .array (.object "java/lang/StackTraceElement")
  | 2 => .object "java/util/List"
  | 3 => .object "java/lang/String"
  | 4 => .object "java/lang/Object"
  | _ => .int
abbrev wsJ220 : List Cond := u_ws RJ22 TJ22 6
theorem nmJ22 : ∀ a, a < 6 → ∀ b, b < 6 → a ≠ b → (TJ22 a).2.1 ≠ (TJ22 b).2.1 := by decide +kernel
theorem tyJ22_ok : ∀ k, k < 6 → parseFieldDescriptor (TJ22 k).2.2.1 = some (tyJ22 k) := by decide +kernel
theorem in_J22 : ∀ w ∈ wsJ220, w ∈ lw_all := lw_in wsJ220 [1230, 1231, 1232, 1233, 1234, 1239] (by decide +kernel) (by decide +kernel)
def RJ23 : String := "java/lang/IllegalStateException"
def TJ23 : u_T := fun k => match k with
  | 0 => ("java/lang/Throwable", "cause", "Ljava/lang/Throwable;", false)
  | 1 => ("java/lang/Throwable", "stackTrace", "[Ljava/lang/StackTraceElement;", false)
  | 2 => ("java/lang/Throwable", "suppressedExceptions", "Ljava/util/List;", false)
  | 3 => ("java/lang/Throwable", "detailMessage", "Ljava/lang/String;", false)
  | 4 => ("java/lang/Throwable", "backtrace", "Ljava/lang/Object;", false)
  | _ => ("java/lang/Throwable", "depth", "I", false)
def tyJ23 : Nat → FieldType := fun k => match k with
  | 0 => .object "java/lang/Throwable"
  | 1 => .array (.object "java/lang/StackTraceElement")
  | 2 => .object "java/util/List"
  | 3 => .object "java/lang/String"
  | 4 => .object "java/lang/Object"
  | _ => .int
abbrev wsJ230 : List Cond := u_ws RJ23 TJ23 6
theorem nmJ23 : ∀ a, a < 6 → ∀ b, b < 6 → a ≠ b → (TJ23 a).2.1 ≠ (TJ23 b).2.1 := by decide +kernel
theorem tyJ23_ok : ∀ k, k < 6 → parseFieldDescriptor (TJ23 k).2.2.1 = some (tyJ23 k) := by decide +kernel
theorem in_J23 : ∀ w ∈ wsJ230, w ∈ lw_all := lw_in wsJ230 [1262, 1263, 1264, 1265, 1266, 1272] (by decide +kernel) (by decide +kernel)
def RJ24 : String := "java/lang/UnsupportedOperationException"
def TJ24 : u_T := fun k => match k with
  | 0 => ("java/lang/Throwable", "cause", "Ljava/lang/Throwable;", false)
  | 1 => ("java/lang/Throwable", "stackTrace", "[Ljava/lang/StackTraceElement;", false)
  | 2 => ("java/lang/Throwable", "suppressedExceptions", "Ljava/util/List;", false)
  | 3 => ("java/lang/Throwable", "detailMessage", "Ljava/lang/String;", false)
  | 4 => ("java/lang/Throwable", "backtrace", "Ljava/lang/Object;", false)
  | _ => ("java/lang/Throwable", "depth", "I", false)
def tyJ24 : Nat → FieldType := fun k => match k with
  | 0 => .object "java/lang/Throwable"
  | 1 => .array (.object "java/lang/StackTraceElement")
  | 2 => .object "java/util/List"
  | 3 => .object "java/lang/String"
  | 4 => .object "java/lang/Object"
  | _ => .int
abbrev wsJ240 : List Cond := u_ws RJ24 TJ24 6
theorem nmJ24 : ∀ a, a < 6 → ∀ b, b < 6 → a ≠ b → (TJ24 a).2.1 ≠ (TJ24 b).2.1 := by decide +kernel
theorem tyJ24_ok : ∀ k, k < 6 → parseFieldDescriptor (TJ24 k).2.2.1 = some (tyJ24 k) := by decide +kernel
theorem in_J24 : ∀ w ∈ wsJ240, w ∈ lw_all := lw_in wsJ240 [1332, 1333, 1334, 1335, 1336, 1349] (by decide +kernel) (by decide +kernel)
def RJ25 : String := "java/lang/ArithmeticException"
def TJ25 : u_T := fun k => match k with
  | 0 => ("java/lang/Throwable", "backtrace", "Ljava/lang/Object;", false)
  | 1 => ("java/lang/Throwable", "detailMessage", "Ljava/lang/String;", false)
  | 2 => ("java/lang/Throwable", "cause", "Ljava/lang/Throwable;", false)
  | 3 => ("java/lang/Throwable", "stackTrace", "[Ljava/lang/StackTraceElement;", false)
  | 4 => ("java/lang/Throwable", "depth", "I", false)
  | _ => ("java/lang/Throwable", "suppressedExceptions", "Ljava/util/List;", false)
def tyJ25 : Nat → FieldType := fun k => match k with
  | 0 => .object "java/lang/Object"
  | 1 => .object "java/lang/String"
  | 2 => .object "java/lang/Throwable"
  | 3 => .array (.object "java/lang/StackTraceElement")
  | 4 => .int
  | _ => .object "java/util/List"
abbrev wsJ250 : List Cond := u_ws RJ25 TJ25 6
theorem nmJ25 : ∀ a, a < 6 → ∀ b, b < 6 → a ≠ b → (TJ25 a).2.1 ≠ (TJ25 b).2.1 := by decide +kernel
theorem tyJ25_ok : ∀ k, k < 6 → parseFieldDescriptor (TJ25 k).2.2.1 = some (tyJ25 k) := by decide +kernel
theorem in_J25 : ∀ w ∈ wsJ250, w ∈ lw_all := lw_in wsJ250 [1876, 1877, 1878, 1879, 1880, 1881] (by decide +kernel) (by decide +kernel)
def RJ27 : String := "java/util/ArrayList"
def TJ27 : u_T := fun k => match k with
  | 0 => ("java/util/AbstractList", "modCount", "I", false)
  | 1 => ("java/util/ArrayList", "elementData", "[Ljava/lang/Object;", false)
  | _ => ("java/util/ArrayList", "size", "I", false)
def tyJ27 : Nat → FieldType := fun k => match k with
  | 0 => .int
  | 1 => .array (.object "java/lang/Object")
  | _ => .int
abbrev wsJ270 : List Cond := u_ws RJ27 TJ27 3
theorem nmJ27 : ∀ a, a < 3 → ∀ b, b < 3 → a ≠ b → (TJ27 a).2.1 ≠ (TJ27 b).2.1 := by decide +kernel
theorem tyJ27_ok : ∀ k, k < 3 → parseFieldDescriptor (TJ27 k).2.2.1 = some (tyJ27 k) := by decide +kernel
theorem in_J27 : ∀ w ∈ wsJ270, w ∈ lw_all := lw_in wsJ270 [1962, 1958, 1960] (by decide +kernel) (by decide +kernel)
def RJ28 : String := "java/util/Optional"
def TJ28 : u_T := fun k => match k with
  | _ => ("java/util/Optional", "value", "Ljava/lang/Object;", true)
def tyJ28 : Nat → FieldType := fun k => match k with
  | _ => .object "java/lang/Object"
abbrev wsJ280 : List Cond := u_ws RJ28 TJ28 1
theorem nmJ28 : ∀ a, a < 1 → ∀ b, b < 1 → a ≠ b → (TJ28 a).2.1 ≠ (TJ28 b).2.1 := by decide +kernel
theorem tyJ28_ok : ∀ k, k < 1 → parseFieldDescriptor (TJ28 k).2.2.1 = some (tyJ28 k) := by decide +kernel
theorem in_J28 : ∀ w ∈ wsJ280, w ∈ lw_all := lw_in wsJ280 [2095] (by decide +kernel) (by decide +kernel)
def RJ30 : String := "java/util/ArrayList$Itr"
def TJ30 : u_T := fun k => match k with
  | 0 => ("java/util/ArrayList$Itr", "cursor", "I", false)
  | 1 => ("java/util/ArrayList$Itr", "lastRet", "I", false)
  | 2 => ("java/util/ArrayList$Itr", "expectedModCount", "I", false)
  | _ => ("java/util/ArrayList$Itr", "this$0", "Ljava/util/ArrayList;", true)
def tyJ30 : Nat → FieldType := fun k => match k with
  | 0 => .int
  | 1 => .int
  | 2 => .int
  | _ => .object "java/util/ArrayList"
abbrev wsJ300 : List Cond := u_ws RJ30 TJ30 4
theorem nmJ30 : ∀ a, a < 4 → ∀ b, b < 4 → a ≠ b → (TJ30 a).2.1 ≠ (TJ30 b).2.1 := by decide +kernel
theorem tyJ30_ok : ∀ k, k < 4 → parseFieldDescriptor (TJ30 k).2.2.1 = some (tyJ30 k) := by decide +kernel
theorem in_J30 : ∀ w ∈ wsJ300, w ∈ lw_all := lw_in wsJ300 [2141, 2143, 2145, 2147] (by decide +kernel) (by decide +kernel)
/-- the classes whose objects the worlds hold: their numbers are the places here -/
abbrev rb_CL : List vw_C := [(RX1, TX1, 7), (RX2, TX2, 5), (RX4, TX4, 34), (RX5, TX5, 3), (RX6, TX6, 8), (RX7, TX7, 3), (RX8, TX8, 2), (RX9, TX9, 2), (RX10, TX10, 4), (RX11, TX11, 4), (RX12, TX12, 7), (RX13, TX13, 2), (RX14, TX14, 7), (RJ1, TJ1, 4), (RJ2, TJ2, 4), (RJ6, TJ6, 3), (RJ12, TJ12, 5), (RJ15, TJ15, 6), (RJ17, TJ17, 1), (RJ18, TJ18, 1), (RJ19, TJ19, 6), (RJ20, TJ20, 6), (RJ21, TJ21, 6), (RJ22, TJ22, 6), (RJ23, TJ23, 6), (RJ24, TJ24, 6), (RJ25, TJ25, 6), (RJ27, TJ27, 3), (RJ28, TJ28, 1), (RJ30, TJ30, 4)]
/-- what a class of the list brings -/
def CK (ci : Nat) (C : String) (T : u_T) (N : Nat) (ty : Nat → FieldType) : Prop := rb_CL[ci]? = some (C, T, N) ∧ (∀ w ∈ u_ws C T N, w ∈ lw_all) ∧ (∀ k, k < N → parseFieldDescriptor (T k).2.2.1 = some (ty k)) ∧ (∀ a, a < N → ∀ b, b < N → a ≠ b → (T a).2.1 ≠ (T b).2.1)
theorem ck_X1 : CK 0 RX1 TX1 7 tyX1 := ⟨rfl, in_X1, tyX1_ok, nmX1⟩
theorem ck_X2 : CK 1 RX2 TX2 5 tyX2 := ⟨rfl, in_X2, tyX2_ok, nmX2⟩
theorem ck_X4 : CK 2 RX4 TX4 34 tyX4 := ⟨rfl, in_X4, tyX4_ok, nmX4⟩
theorem ck_X5 : CK 3 RX5 TX5 3 tyX5 := ⟨rfl, in_X5, tyX5_ok, nmX5⟩
theorem ck_X6 : CK 4 RX6 TX6 8 tyX6 := ⟨rfl, in_X6, tyX6_ok, nmX6⟩
theorem ck_X7 : CK 5 RX7 TX7 3 tyX7 := ⟨rfl, in_X7, tyX7_ok, nmX7⟩
theorem ck_X8 : CK 6 RX8 TX8 2 tyX8 := ⟨rfl, in_X8, tyX8_ok, nmX8⟩
theorem ck_X9 : CK 7 RX9 TX9 2 tyX9 := ⟨rfl, in_X9, tyX9_ok, nmX9⟩
theorem ck_X10 : CK 8 RX10 TX10 4 tyX10 := ⟨rfl, in_X10, tyX10_ok, nmX10⟩
theorem ck_X11 : CK 9 RX11 TX11 4 tyX11 := ⟨rfl, in_X11, tyX11_ok, nmX11⟩
theorem ck_X12 : CK 10 RX12 TX12 7 tyX12 := ⟨rfl, in_X12, tyX12_ok, nmX12⟩
theorem ck_X13 : CK 11 RX13 TX13 2 tyX13 := ⟨rfl, in_X13, tyX13_ok, nmX13⟩
theorem ck_X14 : CK 12 RX14 TX14 7 tyX14 := ⟨rfl, in_X14, tyX14_ok, nmX14⟩
theorem ck_J1 : CK 13 RJ1 TJ1 4 tyJ1 := ⟨rfl, in_J1, tyJ1_ok, nmJ1⟩
theorem ck_J2 : CK 14 RJ2 TJ2 4 tyJ2 := ⟨rfl, in_J2, tyJ2_ok, nmJ2⟩
theorem ck_J6 : CK 15 RJ6 TJ6 3 tyJ6 := ⟨rfl, in_J6, tyJ6_ok, nmJ6⟩
theorem ck_J12 : CK 16 RJ12 TJ12 5 tyJ12 := ⟨rfl, in_J12, tyJ12_ok, nmJ12⟩
theorem ck_J15 : CK 17 RJ15 TJ15 6 tyJ15 := ⟨rfl, in_J15, tyJ15_ok, nmJ15⟩
theorem ck_J17 : CK 18 RJ17 TJ17 1 tyJ17 := ⟨rfl, in_J17, tyJ17_ok, nmJ17⟩
theorem ck_J18 : CK 19 RJ18 TJ18 1 tyJ18 := ⟨rfl, in_J18, tyJ18_ok, nmJ18⟩
theorem ck_J19 : CK 20 RJ19 TJ19 6 tyJ19 := ⟨rfl, in_J19, tyJ19_ok, nmJ19⟩
theorem ck_J20 : CK 21 RJ20 TJ20 6 tyJ20 := ⟨rfl, in_J20, tyJ20_ok, nmJ20⟩
theorem ck_J21 : CK 22 RJ21 TJ21 6 tyJ21 := ⟨rfl, in_J21, tyJ21_ok, nmJ21⟩
theorem ck_J22 : CK 23 RJ22 TJ22 6 tyJ22 := ⟨rfl, in_J22, tyJ22_ok, nmJ22⟩
theorem ck_J23 : CK 24 RJ23 TJ23 6 tyJ23 := ⟨rfl, in_J23, tyJ23_ok, nmJ23⟩
theorem ck_J24 : CK 25 RJ24 TJ24 6 tyJ24 := ⟨rfl, in_J24, tyJ24_ok, nmJ24⟩
theorem ck_J25 : CK 26 RJ25 TJ25 6 tyJ25 := ⟨rfl, in_J25, tyJ25_ok, nmJ25⟩
theorem ck_J27 : CK 27 RJ27 TJ27 3 tyJ27 := ⟨rfl, in_J27, tyJ27_ok, nmJ27⟩
theorem ck_J28 : CK 28 RJ28 TJ28 1 tyJ28 := ⟨rfl, in_J28, tyJ28_ok, nmJ28⟩
theorem ck_J30 : CK 29 RJ30 TJ30 4 tyJ30 := ⟨rfl, in_J30, tyJ30_ok, nmJ30⟩
