/-! THE CLASSES THAT ARE MADE (printed by wip gen/gcls.py out of the names files) -/
set_option maxRecDepth 100000
def RX1 : String := "PackingDuel"
def TX1 : u_T := fun k => match k with
  | 0 => ("PackingDuel", "now", "LPackingDuel$State;", false)
  | 1 => ("PackingDuel", "snapshot", "LPackingDuel$State;", false)
  | 2 => ("PackingDuel", "history", "Ljava/util/ArrayDeque;", true)
  | 3 => ("PackingDuel", "buffer", "[B", true)
  | 4 => ("PackingDuel", "buffered", "I", false)
  | 5 => ("PackingDuel", "errorAt", "I", false)
  | _ => ("PackingDuel", "formatted", "Ljava/lang/String;", false)
def tyX1 : Nat → FieldType := fun k => match k with
  | 0 => .object "PackingDuel$State"
  | 1 => .object "PackingDuel$State"
  | 2 => .object "java/util/ArrayDeque"
  | 3 => .array .byte
  | 4 => .int
  | 5 => .int
  | _ => .object "java/lang/String"
abbrev wsX10 : List Cond := u_ws RX1 TX1 7
theorem tyX1_ok : ∀ k, k < 7 → parseFieldDescriptor (TX1 k).2.2.1 = some (tyX1 k) := by decide +kernel
theorem in_X1 : ∀ w ∈ wsX10, w ∈ lw_all := lw_in wsX10 [315, 317, 319, 321, 323, 325, 327] (by decide +kernel) (by decide +kernel)
theorem zpX1 : ∀ a, a < 7 → ∀ b, b < 7 → a ≠ b → (TX1 a).2.1 ≠ (TX1 b).2.1 ∨ ((TX1 a).1 ≠ (TX1 b).1 ∧ (TX1 a).2.2.2 = true ∧ (TX1 b).2.2.2 = true) := by decide +kernel
def RX2 : String := "PackingDuel$State"
def TX2 : u_T := fun k => match k with
  | 0 => ("PackingDuel$State", "items", "Ljava/util/ArrayList;", true)
  | 1 => ("PackingDuel$State", "plans", "Ljava/util/ArrayList;", true)
  | 2 => ("PackingDuel$State", "answers", "Ljava/util/ArrayList;", true)
  | 3 => ("PackingDuel$State", "capacity", "I", false)
  | 4 => ("PackingDuel$State", "threshold", "I", false)
  | 5 => ("PackingDuel$State", "isFriendly", "Z", false)
  | 6 => ("PackingDuel$State", "packed", "I", false)
  | 7 => ("PackingDuel$State", "refilled", "I", false)
  | 8 => ("PackingDuel$State", "turn", "I", false)
  | 9 => ("PackingDuel$State", "passes", "I", false)
  | 10 => ("PackingDuel$State", "moves", "I", false)
  | 11 => ("PackingDuel$State", "sums", "LPackingDuel$Sums;", false)
  | 12 => ("PackingDuel$State", "replies", "[I", false)
  | 13 => ("PackingDuel$State", "outlook", "LPackingDuel$Outlook;", false)
  | _ => ("PackingDuel$State", "measures", "[LPackingDuel$Measure;", false)
def tyX2 : Nat → FieldType := fun k => match k with
  | 0 => .object "java/util/ArrayList"
  | 1 => .object "java/util/ArrayList"
  | 2 => .object "java/util/ArrayList"
  | 3 => .int
  | 4 => .int
  | 5 => .boolean
  | 6 => .int
  | 7 => .int
  | 8 => .int
  | 9 => .int
  | 10 => .int
  | 11 => .object "PackingDuel$Sums"
  | 12 => .array .int
  | 13 => .object "PackingDuel$Outlook"
  | _ => .array (.object "PackingDuel$Measure")
abbrev wsX20 : List Cond := u_ws RX2 TX2 15
theorem tyX2_ok : ∀ k, k < 15 → parseFieldDescriptor (TX2 k).2.2.1 = some (tyX2 k) := by decide +kernel
theorem in_X2 : ∀ w ∈ wsX20, w ∈ lw_all := lw_in wsX20 [257, 259, 261, 263, 265, 267, 269, 271, 273, 275, 277, 279, 281, 283, 285] (by decide +kernel) (by decide +kernel)
theorem zpX2 : ∀ a, a < 15 → ∀ b, b < 15 → a ≠ b → (TX2 a).2.1 ≠ (TX2 b).2.1 ∨ ((TX2 a).1 ≠ (TX2 b).1 ∧ (TX2 a).2.2.2 = true ∧ (TX2 b).2.2.2 = true) := by decide +kernel
def RJ2 : String := "java/util/ArrayList"
def TJ2 : u_T := fun k => match k with
  | 0 => ("java/util/AbstractList", "modCount", "I", false)
  | 1 => ("java/util/ArrayList", "elementData", "[Ljava/lang/Object;", false)
  | _ => ("java/util/ArrayList", "size", "I", false)
def tyJ2 : Nat → FieldType := fun k => match k with
  | 0 => .int
  | 1 => .array (.object "java/lang/Object")
  | _ => .int
abbrev wsJ20 : List Cond := u_ws RJ2 TJ2 3
theorem tyJ2_ok : ∀ k, k < 3 → parseFieldDescriptor (TJ2 k).2.2.1 = some (tyJ2 k) := by decide +kernel
theorem in_J2 : ∀ w ∈ wsJ20, w ∈ lw_all := lw_in wsJ20 [222, 218, 220] (by decide +kernel) (by decide +kernel)
theorem zpJ2 : ∀ a, a < 3 → ∀ b, b < 3 → a ≠ b → (TJ2 a).2.1 ≠ (TJ2 b).2.1 ∨ ((TJ2 a).1 ≠ (TJ2 b).1 ∧ (TJ2 a).2.2.2 = true ∧ (TJ2 b).2.2.2 = true) := by decide +kernel
def RJ3 : String := "java/util/ArrayDeque"
def TJ3 : u_T := fun k => match k with
  | 0 => ("java/util/ArrayDeque", "elements", "[Ljava/lang/Object;", false)
  | 1 => ("java/util/ArrayDeque", "head", "I", false)
  | _ => ("java/util/ArrayDeque", "tail", "I", false)
def tyJ3 : Nat → FieldType := fun k => match k with
  | 0 => .array (.object "java/lang/Object")
  | 1 => .int
  | _ => .int
abbrev wsJ30 : List Cond := u_ws RJ3 TJ3 3
theorem tyJ3_ok : ∀ k, k < 3 → parseFieldDescriptor (TJ3 k).2.2.1 = some (tyJ3 k) := by decide +kernel
theorem in_J3 : ∀ w ∈ wsJ30, w ∈ lw_all := lw_in wsJ30 [299, 301, 303] (by decide +kernel) (by decide +kernel)
theorem zpJ3 : ∀ a, a < 3 → ∀ b, b < 3 → a ≠ b → (TJ3 a).2.1 ≠ (TJ3 b).2.1 ∨ ((TJ3 a).1 ≠ (TJ3 b).1 ∧ (TJ3 a).2.2.2 = true ∧ (TJ3 b).2.2.2 = true) := by decide +kernel
def RX3 : String := "PackingDuelModel"
def TX3 : u_T := fun k => match k with
  | 0 => ("PackingDuelModel", "now", "[I", true)
  | 1 => ("PackingDuelModel", "draft", "[I", true)
  | 2 => ("PackingDuelModel", "snapshot", "[I", true)
  | 3 => ("PackingDuelModel", "history", "[I", true)
  | 4 => ("PackingDuelModel", "undoCount", "I", false)
  | 5 => ("PackingDuelModel", "thrown", "I", false)
  | 6 => ("PackingDuelModel", "hasSnapshot", "Z", false)
  | 7 => ("PackingDuelModel", "weights", "[I", true)
  | 8 => ("PackingDuelModel", "values", "[I", true)
  | 9 => ("PackingDuelModel", "gains", "[I", true)
  | 10 => ("PackingDuelModel", "harms", "[I", true)
  | 11 => ("PackingDuelModel", "replies", "[I", true)
  | 12 => ("PackingDuelModel", "table", "[I", true)
  | 13 => ("PackingDuelModel", "rows", "[I", true)
  | 14 => ("PackingDuelModel", "columns", "[I", true)
  | 15 => ("PackingDuelModel", "members", "I", false)
  | 16 => ("PackingDuelModel", "matrix", "[J", true)
  | 17 => ("PackingDuelModel", "plansBy", "[J", true)
  | 18 => ("PackingDuelModel", "answersBy", "[J", true)
  | 19 => ("PackingDuelModel", "plansSum", "J", false)
  | 20 => ("PackingDuelModel", "answersSum", "J", false)
  | 21 => ("PackingDuelModel", "kernelPlans", "I", false)
  | 22 => ("PackingDuelModel", "kernelAnswers", "I", false)
  | 23 => ("PackingDuelModel", "good", "I", false)
  | 24 => ("PackingDuelModel", "outlook", "[I", true)
  | 25 => ("PackingDuelModel", "formatted", "[I", true)
  | 26 => ("PackingDuelModel", "formattedLength", "I", false)
  | 27 => ("PackingDuelModel", "buffer", "[I", true)
  | 28 => ("PackingDuelModel", "bufferLength", "I", false)
  | 29 => ("PackingDuelModel", "limit", "I", false)
  | 30 => ("PackingDuelModel", "next", "I", false)
  | 31 => ("PackingDuelModel", "beginsAt", "I", false)
  | 32 => ("PackingDuelModel", "token", "I", false)
  | 33 => ("PackingDuelModel", "error", "I", false)
  | 34 => ("PackingDuelModel", "errorAt", "I", false)
  | 35 => ("PackingDuelModel", "errorPosition", "I", false)
  | 36 => ("PackingDuelModel", "nested", "I", false)
  | 37 => ("PackingDuelModel", "names", "[Ljava/lang/String;", true)
  | 38 => ("PackingDuelModel", "codes", "[I", true)
  | 39 => ("PackingDuelModel", "stack", "[J", true)
  | _ => ("PackingDuelModel", "codeCount", "I", false)
def tyX3 : Nat → FieldType := fun k => match k with
  | 0 => .array .int
  | 1 => .array .int
  | 2 => .array .int
  | 3 => .array .int
  | 4 => .int
  | 5 => .int
  | 6 => .boolean
  | 7 => .array .int
  | 8 => .array .int
  | 9 => .array .int
  | 10 => .array .int
  | 11 => .array .int
  | 12 => .array .int
  | 13 => .array .int
  | 14 => .array .int
  | 15 => .int
  | 16 => .array .long
  | 17 => .array .long
  | 18 => .array .long
  | 19 => .long
  | 20 => .long
  | 21 => .int
  | 22 => .int
  | 23 => .int
  | 24 => .array .int
  | 25 => .array .int
  | 26 => .int
  | 27 => .array .int
  | 28 => .int
  | 29 => .int
  | 30 => .int
  | 31 => .int
  | 32 => .int
  | 33 => .int
  | 34 => .int
  | 35 => .int
  | 36 => .int
  | 37 => .array (.object "java/lang/String")
  | 38 => .array .int
  | 39 => .array .long
  | _ => .int
abbrev wsX30 : List Cond := u_ws RX3 TX3 41
theorem tyX3_ok : ∀ k, k < 41 → parseFieldDescriptor (TX3 k).2.2.1 = some (tyX3 k) := by decide +kernel
theorem in_X3 : ∀ w ∈ wsX30, w ∈ lw_all := lw_in wsX30 [2510, 2512, 2514, 2516, 2518, 2520, 2522, 2524, 2526, 2528, 2530, 2532, 2534, 2536, 2538, 2540, 2542, 2544, 2546, 2548, 2550, 2552, 2554, 2556, 2558, 2560, 2562, 2564, 2566, 2568, 2570, 2572, 2574, 2576, 2578, 2580, 2582, 2584, 2586, 2588, 2590] (by decide +kernel) (by decide +kernel)
theorem zpX3 : ∀ a, a < 41 → ∀ b, b < 41 → a ≠ b → (TX3 a).2.1 ≠ (TX3 b).2.1 ∨ ((TX3 a).1 ≠ (TX3 b).1 ∧ (TX3 a).2.2.2 = true ∧ (TX3 b).2.2.2 = true) := by decide +kernel
def RJ5 : String := "java/lang/Throwable"
def TJ5 : u_T := fun _ => ("", "", "", false)
def tyJ5 : Nat → FieldType := fun _ => .int
theorem tyJ5_ok : ∀ k, k < 0 → parseFieldDescriptor (TJ5 k).2.2.1 = some (tyJ5 k) := fun _ h => absurd h (Nat.not_lt_zero _)
theorem in_J5 : ∀ w ∈ u_ws RJ5 TJ5 0, w ∈ lw_all := fun _ h => by cases h
theorem zpJ5 : ∀ a, a < 0 → ∀ b, b < 0 → a ≠ b → (TJ5 a).2.1 ≠ (TJ5 b).2.1 ∨ ((TJ5 a).1 ≠ (TJ5 b).1 ∧ (TJ5 a).2.2.2 = true ∧ (TJ5 b).2.2.2 = true) := by decide +kernel
def RJ8 : String := "java/lang/IllegalArgumentException"
def TJ8 : u_T := fun _ => ("", "", "", false)
def tyJ8 : Nat → FieldType := fun _ => .int
theorem tyJ8_ok : ∀ k, k < 0 → parseFieldDescriptor (TJ8 k).2.2.1 = some (tyJ8 k) := fun _ h => absurd h (Nat.not_lt_zero _)
theorem in_J8 : ∀ w ∈ u_ws RJ8 TJ8 0, w ∈ lw_all := fun _ h => by cases h
theorem zpJ8 : ∀ a, a < 0 → ∀ b, b < 0 → a ≠ b → (TJ8 a).2.1 ≠ (TJ8 b).2.1 ∨ ((TJ8 a).1 ≠ (TJ8 b).1 ∧ (TJ8 a).2.2.2 = true ∧ (TJ8 b).2.2.2 = true) := by decide +kernel
def RX5 : String := "PackingDuel$DuelParser"
def TX5 : u_T := fun k => match k with
  | 0 => ("PackingDuel$Scanner", "word", "Ljava/lang/StringBuilder;", true)
  | 1 => ("PackingDuel$Scanner", "end", "I", true)
  | 2 => ("PackingDuel$Scanner", "at", "I", false)
  | 3 => ("PackingDuel$Scanner", "begin", "I", false)
  | 4 => ("PackingDuel$Scanner", "value", "I", false)
  | 5 => ("PackingDuel$Scanner", "sign", "I", false)
  | 6 => ("PackingDuel$Scanner", "token", "LPackingDuel$Token;", false)
  | 7 => ("PackingDuel$Scanner", "this$0", "LPackingDuel;", true)
  | 8 => ("PackingDuel$DuelParser", "made", "LPackingDuel$State;", true)
  | _ => ("PackingDuel$DuelParser", "this$0", "LPackingDuel;", true)
def tyX5 : Nat → FieldType := fun k => match k with
  | 0 => .object "java/lang/StringBuilder"
  | 1 => .int
  | 2 => .int
  | 3 => .int
  | 4 => .int
  | 5 => .int
  | 6 => .object "PackingDuel$Token"
  | 7 => .object "PackingDuel"
  | 8 => .object "PackingDuel$State"
  | _ => .object "PackingDuel"
abbrev wsX50 : List Cond := u_ws RX5 TX5 10
theorem tyX5_ok : ∀ k, k < 10 → parseFieldDescriptor (TX5 k).2.2.1 = some (tyX5 k) := by decide +kernel
theorem in_X5 : ∀ w ∈ wsX50, w ∈ lw_all := lw_in wsX50 [1393, 1395, 1397, 1399, 1401, 1403, 1405, 1407, 1389, 1391] (by decide +kernel) (by decide +kernel)
theorem zpX5 : ∀ a, a < 10 → ∀ b, b < 10 → a ≠ b → (TX5 a).2.1 ≠ (TX5 b).2.1 ∨ ((TX5 a).1 ≠ (TX5 b).1 ∧ (TX5 a).2.2.2 = true ∧ (TX5 b).2.2.2 = true) := by decide +kernel
def RJ10 : String := "java/lang/StringBuilder"
def TJ10 : u_T := fun k => match k with
  | 0 => ("java/lang/AbstractStringBuilder", "value", "[B", false)
  | 1 => ("java/lang/AbstractStringBuilder", "coder", "B", false)
  | 2 => ("java/lang/AbstractStringBuilder", "maybeLatin1", "Z", false)
  | _ => ("java/lang/AbstractStringBuilder", "count", "I", false)
def tyJ10 : Nat → FieldType := fun k => match k with
  | 0 => .array .byte
  | 1 => .byte
  | 2 => .boolean
  | _ => .int
abbrev wsJ100 : List Cond := u_ws RJ10 TJ10 4
theorem tyJ10_ok : ∀ k, k < 4 → parseFieldDescriptor (TJ10 k).2.2.1 = some (tyJ10 k) := by decide +kernel
theorem in_J10 : ∀ w ∈ wsJ100, w ∈ lw_all := lw_in wsJ100 [1116, 1118, 1120, 1122] (by decide +kernel) (by decide +kernel)
theorem zpJ10 : ∀ a, a < 4 → ∀ b, b < 4 → a ≠ b → (TJ10 a).2.1 ≠ (TJ10 b).2.1 ∨ ((TJ10 a).1 ≠ (TJ10 b).1 ∧ (TJ10 a).2.2.2 = true ∧ (TJ10 b).2.2.2 = true) := by decide +kernel
def RJ11 : String := "java/lang/String"
def TJ11 : u_T := fun k => match k with
  | 0 => ("java/lang/String", "value", "[B", true)
  | 1 => ("java/lang/String", "coder", "B", true)
  | 2 => ("java/lang/String", "hash", "I", false)
  | _ => ("java/lang/String", "hashIsZero", "Z", false)
def tyJ11 : Nat → FieldType := fun k => match k with
  | 0 => .array .byte
  | 1 => .byte
  | 2 => .int
  | _ => .boolean
abbrev wsJ110 : List Cond := u_ws RJ11 TJ11 4
theorem tyJ11_ok : ∀ k, k < 4 → parseFieldDescriptor (TJ11 k).2.2.1 = some (tyJ11 k) := by decide +kernel
theorem in_J11 : ∀ w ∈ wsJ110, w ∈ lw_all := lw_in wsJ110 [1331, 1333, 1335, 1337] (by decide +kernel) (by decide +kernel)
theorem zpJ11 : ∀ a, a < 4 → ∀ b, b < 4 → a ≠ b → (TJ11 a).2.1 ≠ (TJ11 b).2.1 ∨ ((TJ11 a).1 ≠ (TJ11 b).1 ∧ (TJ11 a).2.2.2 = true ∧ (TJ11 b).2.2.2 = true) := by decide +kernel
def RJ18 : String := "java/lang/Integer"
def TJ18 : u_T := fun k => match k with
  | _ => ("java/lang/Integer", "value", "I", true)
def tyJ18 : Nat → FieldType := fun k => match k with
  | _ => .int
abbrev wsJ180 : List Cond := u_ws RJ18 TJ18 1
theorem tyJ18_ok : ∀ k, k < 1 → parseFieldDescriptor (TJ18 k).2.2.1 = some (tyJ18 k) := by decide +kernel
theorem in_J18 : ∀ w ∈ wsJ180, w ∈ lw_all := lw_in wsJ180 [1622] (by decide +kernel) (by decide +kernel)
theorem zpJ18 : ∀ a, a < 1 → ∀ b, b < 1 → a ≠ b → (TJ18 a).2.1 ≠ (TJ18 b).2.1 ∨ ((TJ18 a).1 ≠ (TJ18 b).1 ∧ (TJ18 a).2.2.2 = true ∧ (TJ18 b).2.2.2 = true) := by decide +kernel
def RX6 : String := "PackingDuel$TextError"
def TX6 : u_T := fun k => match k with
  | 0 => ("java/lang/Throwable", "cause", "Ljava/lang/Throwable;", false)
  | 1 => ("java/lang/Throwable", "stackTrace", "[Ljava/lang/StackTraceElement;", false)
  | 2 => ("java/lang/Throwable", "suppressedExceptions", "Ljava/util/List;", false)
  | 3 => ("java/lang/Throwable", "detailMessage", "Ljava/lang/String;", false)
  | 4 => ("java/lang/Throwable", "backtrace", "Ljava/lang/Object;", false)
  | 5 => ("java/lang/Throwable", "depth", "I", false)
  | 6 => ("PackingDuel$TextError", "code", "I", true)
  | _ => ("PackingDuel$TextError", "position", "I", true)
def tyX6 : Nat → FieldType := fun k => match k with
  | 0 => .object "java/lang/Throwable"
  | 1 => .array (.object "java/lang/StackTraceElement")
  | 2 => .object "java/util/List"
  | 3 => .object "java/lang/String"
  | 4 => .object "java/lang/Object"
  | 5 => .int
  | 6 => .int
  | _ => .int
abbrev wsX60 : List Cond := u_ws RX6 TX6 8
theorem tyX6_ok : ∀ k, k < 8 → parseFieldDescriptor (TX6 k).2.2.1 = some (tyX6 k) := by decide +kernel
theorem in_X6 : ∀ w ∈ wsX60, w ∈ lw_all := lw_in wsX60 [1447, 1448, 1449, 1450, 1451, 1469, 1465, 1467] (by decide +kernel) (by decide +kernel)
theorem zpX6 : ∀ a, a < 8 → ∀ b, b < 8 → a ≠ b → (TX6 a).2.1 ≠ (TX6 b).2.1 ∨ ((TX6 a).1 ≠ (TX6 b).1 ∧ (TX6 a).2.2.2 = true ∧ (TX6 b).2.2.2 = true) := by decide +kernel
def RX7 : String := "PackingDuel$Item"
def TX7 : u_T := fun k => match k with
  | _ => ("PackingDuel$Item", "parts", "[I", true)
def tyX7 : Nat → FieldType := fun k => match k with
  | _ => .array .int
abbrev wsX70 : List Cond := u_ws RX7 TX7 1
theorem tyX7_ok : ∀ k, k < 1 → parseFieldDescriptor (TX7 k).2.2.1 = some (tyX7 k) := by decide +kernel
theorem in_X7 : ∀ w ∈ wsX70, w ∈ lw_all := lw_in wsX70 [1521] (by decide +kernel) (by decide +kernel)
theorem zpX7 : ∀ a, a < 1 → ∀ b, b < 1 → a ≠ b → (TX7 a).2.1 ≠ (TX7 b).2.1 ∨ ((TX7 a).1 ≠ (TX7 b).1 ∧ (TX7 a).2.2.2 = true ∧ (TX7 b).2.2.2 = true) := by decide +kernel
def RX9 : String := "PackingDuel$TwiceError"
def TX9 : u_T := fun k => match k with
  | 0 => ("java/lang/Throwable", "cause", "Ljava/lang/Throwable;", false)
  | 1 => ("java/lang/Throwable", "stackTrace", "[Ljava/lang/StackTraceElement;", false)
  | 2 => ("java/lang/Throwable", "suppressedExceptions", "Ljava/util/List;", false)
  | 3 => ("java/lang/Throwable", "detailMessage", "Ljava/lang/String;", false)
  | 4 => ("java/lang/Throwable", "backtrace", "Ljava/lang/Object;", false)
  | _ => ("java/lang/Throwable", "depth", "I", false)
def tyX9 : Nat → FieldType := fun k => match k with
  | 0 => .object "java/lang/Throwable"
  | 1 => .array (.object "java/lang/StackTraceElement")
  | 2 => .object "java/util/List"
  | 3 => .object "java/lang/String"
  | 4 => .object "java/lang/Object"
  | _ => .int
abbrev wsX90 : List Cond := u_ws RX9 TX9 6
theorem tyX9_ok : ∀ k, k < 6 → parseFieldDescriptor (TX9 k).2.2.1 = some (tyX9 k) := by decide +kernel
theorem in_X9 : ∀ w ∈ wsX90, w ∈ lw_all := lw_in wsX90 [1555, 1556, 1557, 1558, 1559, 1567] (by decide +kernel) (by decide +kernel)
theorem zpX9 : ∀ a, a < 6 → ∀ b, b < 6 → a ≠ b → (TX9 a).2.1 ≠ (TX9 b).2.1 ∨ ((TX9 a).1 ≠ (TX9 b).1 ∧ (TX9 a).2.2.2 = true ∧ (TX9 b).2.2.2 = true) := by decide +kernel
def RX10 : String := "PackingDuel$Sums"
def TX10 : u_T := fun k => match k with
  | _ => ("PackingDuel$Sums", "of", "[[I", true)
def tyX10 : Nat → FieldType := fun k => match k with
  | _ => .array (.array .int)
abbrev wsX100 : List Cond := u_ws RX10 TX10 1
theorem tyX10_ok : ∀ k, k < 1 → parseFieldDescriptor (TX10 k).2.2.1 = some (tyX10 k) := by decide +kernel
theorem in_X10 : ∀ w ∈ wsX100, w ∈ lw_all := lw_in wsX100 [391] (by decide +kernel) (by decide +kernel)
theorem zpX10 : ∀ a, a < 1 → ∀ b, b < 1 → a ≠ b → (TX10 a).2.1 ≠ (TX10 b).2.1 ∨ ((TX10 a).1 ≠ (TX10 b).1 ∧ (TX10 a).2.2.2 = true ∧ (TX10 b).2.2.2 = true) := by decide +kernel
def RX11 : String := "PackingDuel$HeavyError"
def TX11 : u_T := fun k => match k with
  | 0 => ("java/lang/Throwable", "cause", "Ljava/lang/Throwable;", false)
  | 1 => ("java/lang/Throwable", "stackTrace", "[Ljava/lang/StackTraceElement;", false)
  | 2 => ("java/lang/Throwable", "suppressedExceptions", "Ljava/util/List;", false)
  | 3 => ("java/lang/Throwable", "detailMessage", "Ljava/lang/String;", false)
  | 4 => ("java/lang/Throwable", "backtrace", "Ljava/lang/Object;", false)
  | _ => ("java/lang/Throwable", "depth", "I", false)
def tyX11 : Nat → FieldType := fun k => match k with
  | 0 => .object "java/lang/Throwable"
  | 1 => .array (.object "java/lang/StackTraceElement")
  | 2 => .object "java/util/List"
  | 3 => .object "java/lang/String"
  | 4 => .object "java/lang/Object"
  | _ => .int
abbrev wsX110 : List Cond := u_ws RX11 TX11 6
theorem tyX11_ok : ∀ k, k < 6 → parseFieldDescriptor (TX11 k).2.2.1 = some (tyX11 k) := by decide +kernel
theorem in_X11 : ∀ w ∈ wsX110, w ∈ lw_all := lw_in wsX110 [1573, 1574, 1575, 1576, 1577, 1582] (by decide +kernel) (by decide +kernel)
theorem zpX11 : ∀ a, a < 6 → ∀ b, b < 6 → a ≠ b → (TX11 a).2.1 ≠ (TX11 b).2.1 ∨ ((TX11 a).1 ≠ (TX11 b).1 ∧ (TX11 a).2.2.2 = true ∧ (TX11 b).2.2.2 = true) := by decide +kernel
def RJ21 : String := "java/util/NoSuchElementException"
def TJ21 : u_T := fun _ => ("", "", "", false)
def tyJ21 : Nat → FieldType := fun _ => .int
theorem tyJ21_ok : ∀ k, k < 0 → parseFieldDescriptor (TJ21 k).2.2.1 = some (tyJ21 k) := fun _ h => absurd h (Nat.not_lt_zero _)
theorem in_J21 : ∀ w ∈ u_ws RJ21 TJ21 0, w ∈ lw_all := fun _ h => by cases h
theorem zpJ21 : ∀ a, a < 0 → ∀ b, b < 0 → a ≠ b → (TJ21 a).2.1 ≠ (TJ21 b).2.1 ∨ ((TJ21 a).1 ≠ (TJ21 b).1 ∧ (TJ21 a).2.2.2 = true ∧ (TJ21 b).2.2.2 = true) := by decide +kernel
def RX13 : String := "PackingDuel$Greedy"
def TX13 : u_T := fun k => match k with
  | _ => ("PackingDuel$Greedy", "isFriendly", "Z", true)
def tyX13 : Nat → FieldType := fun k => match k with
  | _ => .boolean
abbrev wsX130 : List Cond := u_ws RX13 TX13 1
theorem tyX13_ok : ∀ k, k < 1 → parseFieldDescriptor (TX13 k).2.2.1 = some (tyX13 k) := by decide +kernel
theorem in_X13 : ∀ w ∈ wsX130, w ∈ lw_all := lw_in wsX130 [429] (by decide +kernel) (by decide +kernel)
theorem zpX13 : ∀ a, a < 1 → ∀ b, b < 1 → a ≠ b → (TX13 a).2.1 ≠ (TX13 b).2.1 ∨ ((TX13 a).1 ≠ (TX13 b).1 ∧ (TX13 a).2.2.2 = true ∧ (TX13 b).2.2.2 = true) := by decide +kernel
def RJ23 : String := "java/util/PriorityQueue"
def TJ23 : u_T := fun k => match k with
  | 0 => ("java/util/PriorityQueue", "queue", "[Ljava/lang/Object;", false)
  | 1 => ("java/util/PriorityQueue", "size", "I", false)
  | 2 => ("java/util/PriorityQueue", "comparator", "Ljava/util/Comparator;", true)
  | _ => ("java/util/PriorityQueue", "modCount", "I", false)
def tyJ23 : Nat → FieldType := fun k => match k with
  | 0 => .array (.object "java/lang/Object")
  | 1 => .int
  | 2 => .object "java/util/Comparator"
  | _ => .int
abbrev wsJ230 : List Cond := u_ws RJ23 TJ23 4
theorem tyJ23_ok : ∀ k, k < 4 → parseFieldDescriptor (TJ23 k).2.2.1 = some (tyJ23 k) := by decide +kernel
theorem in_J23 : ∀ w ∈ wsJ230, w ∈ lw_all := lw_in wsJ230 [1725, 1727, 1729, 1731] (by decide +kernel) (by decide +kernel)
theorem zpJ23 : ∀ a, a < 4 → ∀ b, b < 4 → a ≠ b → (TJ23 a).2.1 ≠ (TJ23 b).2.1 ∨ ((TJ23 a).1 ≠ (TJ23 b).1 ∧ (TJ23 a).2.2.2 = true ∧ (TJ23 b).2.2.2 = true) := by decide +kernel
def RX14 : String := "PackingDuel$ByResult"
def TX14 : u_T := fun _ => ("", "", "", false)
def tyX14 : Nat → FieldType := fun _ => .int
theorem tyX14_ok : ∀ k, k < 0 → parseFieldDescriptor (TX14 k).2.2.1 = some (tyX14 k) := fun _ h => absurd h (Nat.not_lt_zero _)
theorem in_X14 : ∀ w ∈ u_ws RX14 TX14 0, w ∈ lw_all := fun _ h => by cases h
theorem zpX14 : ∀ a, a < 0 → ∀ b, b < 0 → a ≠ b → (TX14 a).2.1 ≠ (TX14 b).2.1 ∨ ((TX14 a).1 ≠ (TX14 b).1 ∧ (TX14 a).2.2.2 = true ∧ (TX14 b).2.2.2 = true) := by decide +kernel
def RX15 : String := "PackingDuel$Ranked"
def TX15 : u_T := fun k => match k with
  | 0 => ("PackingDuel$Ranked", "plan", "I", true)
  | _ => ("PackingDuel$Ranked", "result", "I", true)
def tyX15 : Nat → FieldType := fun k => match k with
  | 0 => .int
  | _ => .int
abbrev wsX150 : List Cond := u_ws RX15 TX15 2
theorem tyX15_ok : ∀ k, k < 2 → parseFieldDescriptor (TX15 k).2.2.1 = some (tyX15 k) := by decide +kernel
theorem in_X15 : ∀ w ∈ wsX150, w ∈ lw_all := lw_in wsX150 [1746, 1748] (by decide +kernel) (by decide +kernel)
theorem zpX15 : ∀ a, a < 2 → ∀ b, b < 2 → a ≠ b → (TX15 a).2.1 ≠ (TX15 b).2.1 ∨ ((TX15 a).1 ≠ (TX15 b).1 ∧ (TX15 a).2.2.2 = true ∧ (TX15 b).2.2.2 = true) := by decide +kernel
def RX16 : String := "PackingDuel$Cruel"
def TX16 : u_T := fun _ => ("", "", "", false)
def tyX16 : Nat → FieldType := fun _ => .int
theorem tyX16_ok : ∀ k, k < 0 → parseFieldDescriptor (TX16 k).2.2.1 = some (tyX16 k) := fun _ h => absurd h (Nat.not_lt_zero _)
theorem in_X16 : ∀ w ∈ u_ws RX16 TX16 0, w ∈ lw_all := fun _ h => by cases h
theorem zpX16 : ∀ a, a < 0 → ∀ b, b < 0 → a ≠ b → (TX16 a).2.1 ≠ (TX16 b).2.1 ∨ ((TX16 a).1 ≠ (TX16 b).1 ∧ (TX16 a).2.2.2 = true ∧ (TX16 b).2.2.2 = true) := by decide +kernel
def RX17 : String := "PackingDuel$Matrix"
def TX17 : u_T := fun k => match k with
  | 0 => ("PackingDuel$Matrix", "plans", "I", true)
  | 1 => ("PackingDuel$Matrix", "answers", "I", true)
  | _ => ("PackingDuel$Matrix", "payoffs", "[[I", true)
def tyX17 : Nat → FieldType := fun k => match k with
  | 0 => .int
  | 1 => .int
  | _ => .array (.array .int)
abbrev wsX170 : List Cond := u_ws RX17 TX17 3
theorem tyX17_ok : ∀ k, k < 3 → parseFieldDescriptor (TX17 k).2.2.1 = some (tyX17 k) := by decide +kernel
theorem in_X17 : ∀ w ∈ wsX170, w ∈ lw_all := lw_in wsX170 [505, 507, 509] (by decide +kernel) (by decide +kernel)
theorem zpX17 : ∀ a, a < 3 → ∀ b, b < 3 → a ≠ b → (TX17 a).2.1 ≠ (TX17 b).2.1 ∨ ((TX17 a).1 ≠ (TX17 b).1 ∧ (TX17 a).2.2.2 = true ∧ (TX17 b).2.2.2 = true) := by decide +kernel
def RX18 : String := "PackingDuel$Kernel"
def TX18 : u_T := fun k => match k with
  | 0 => ("PackingDuel$Kernel", "matrix", "LPackingDuel$Matrix;", true)
  | 1 => ("PackingDuel$Kernel", "rows", "I", true)
  | 2 => ("PackingDuel$Kernel", "columns", "I", true)
  | 3 => ("PackingDuel$Kernel", "ofPlans", "[J", true)
  | 4 => ("PackingDuel$Kernel", "ofAnswers", "[J", true)
  | 5 => ("PackingDuel$Kernel", "all", "J", false)
  | _ => ("PackingDuel$Kernel", "value", "J", false)
def tyX18 : Nat → FieldType := fun k => match k with
  | 0 => .object "PackingDuel$Matrix"
  | 1 => .int
  | 2 => .int
  | 3 => .array .long
  | 4 => .array .long
  | 5 => .long
  | _ => .long
abbrev wsX180 : List Cond := u_ws RX18 TX18 7
theorem tyX18_ok : ∀ k, k < 7 → parseFieldDescriptor (TX18 k).2.2.1 = some (tyX18 k) := by decide +kernel
theorem in_X18 : ∀ w ∈ wsX180, w ∈ lw_all := lw_in wsX180 [575, 577, 579, 581, 583, 585, 587] (by decide +kernel) (by decide +kernel)
theorem zpX18 : ∀ a, a < 7 → ∀ b, b < 7 → a ≠ b → (TX18 a).2.1 ≠ (TX18 b).2.1 ∨ ((TX18 a).1 ≠ (TX18 b).1 ∧ (TX18 a).2.2.2 = true ∧ (TX18 b).2.2.2 = true) := by decide +kernel
def RX19 : String := "PackingDuel$Ratio"
def TX19 : u_T := fun k => match k with
  | 0 => ("PackingDuel$Ratio", "upper", "J", true)
  | _ => ("PackingDuel$Ratio", "lower", "J", true)
def tyX19 : Nat → FieldType := fun k => match k with
  | 0 => .long
  | _ => .long
abbrev wsX190 : List Cond := u_ws RX19 TX19 2
theorem tyX19_ok : ∀ k, k < 2 → parseFieldDescriptor (TX19 k).2.2.1 = some (tyX19 k) := by decide +kernel
theorem in_X19 : ∀ w ∈ wsX190, w ∈ lw_all := lw_in wsX190 [617, 619] (by decide +kernel) (by decide +kernel)
theorem zpX19 : ∀ a, a < 2 → ∀ b, b < 2 → a ≠ b → (TX19 a).2.1 ≠ (TX19 b).2.1 ∨ ((TX19 a).1 ≠ (TX19 b).1 ∧ (TX19 a).2.2.2 = true ∧ (TX19 b).2.2.2 = true) := by decide +kernel
def RX20 : String := "PackingDuel$Outlook"
def TX20 : u_T := fun k => match k with
  | 0 => ("PackingDuel$Outlook", "state", "LPackingDuel$State;", true)
  | 1 => ("PackingDuel$Outlook", "gains", "[I", true)
  | _ => ("PackingDuel$Outlook", "isKnown", "[Z", true)
def tyX20 : Nat → FieldType := fun k => match k with
  | 0 => .object "PackingDuel$State"
  | 1 => .array .int
  | _ => .array .boolean
abbrev wsX200 : List Cond := u_ws RX20 TX20 3
theorem tyX20_ok : ∀ k, k < 3 → parseFieldDescriptor (TX20 k).2.2.1 = some (tyX20 k) := by decide +kernel
theorem in_X20 : ∀ w ∈ wsX200, w ∈ lw_all := lw_in wsX200 [664, 666, 668] (by decide +kernel) (by decide +kernel)
theorem zpX20 : ∀ a, a < 3 → ∀ b, b < 3 → a ≠ b → (TX20 a).2.1 ≠ (TX20 b).2.1 ∨ ((TX20 a).1 ≠ (TX20 b).1 ∧ (TX20 a).2.2.2 = true ∧ (TX20 b).2.2.2 = true) := by decide +kernel
def RX21 : String := "PackingDuel$QueryParser"
def TX21 : u_T := fun k => match k with
  | 0 => ("PackingDuel$Scanner", "word", "Ljava/lang/StringBuilder;", true)
  | 1 => ("PackingDuel$Scanner", "end", "I", true)
  | 2 => ("PackingDuel$Scanner", "at", "I", false)
  | 3 => ("PackingDuel$Scanner", "begin", "I", false)
  | 4 => ("PackingDuel$Scanner", "value", "I", false)
  | 5 => ("PackingDuel$Scanner", "sign", "I", false)
  | 6 => ("PackingDuel$Scanner", "token", "LPackingDuel$Token;", false)
  | 7 => ("PackingDuel$Scanner", "this$0", "LPackingDuel;", true)
  | 8 => ("PackingDuel$QueryParser", "isFirst", "Z", false)
  | 9 => ("PackingDuel$QueryParser", "open", "I", false)
  | _ => ("PackingDuel$QueryParser", "this$0", "LPackingDuel;", true)
def tyX21 : Nat → FieldType := fun k => match k with
  | 0 => .object "java/lang/StringBuilder"
  | 1 => .int
  | 2 => .int
  | 3 => .int
  | 4 => .int
  | 5 => .int
  | 6 => .object "PackingDuel$Token"
  | 7 => .object "PackingDuel"
  | 8 => .boolean
  | 9 => .int
  | _ => .object "PackingDuel"
abbrev wsX210 : List Cond := u_ws RX21 TX21 11
theorem tyX21_ok : ∀ k, k < 11 → parseFieldDescriptor (TX21 k).2.2.1 = some (tyX21 k) := by decide +kernel
theorem in_X21 : ∀ w ∈ wsX210, w ∈ lw_all := lw_in wsX210 [2207, 2208, 2209, 2210, 2211, 2212, 2213, 2214, 2201, 2203, 2205] (by decide +kernel) (by decide +kernel)
theorem zpX21 : ∀ a, a < 11 → ∀ b, b < 11 → a ≠ b → (TX21 a).2.1 ≠ (TX21 b).2.1 ∨ ((TX21 a).1 ≠ (TX21 b).1 ∧ (TX21 a).2.2.2 = true ∧ (TX21 b).2.2.2 = true) := by decide +kernel
def RX23 : String := "PackingDuel$Not"
def TX23 : u_T := fun k => match k with
  | _ => ("PackingDuel$Not", "operand", "LPackingDuel$Test;", true)
def tyX23 : Nat → FieldType := fun k => match k with
  | _ => .object "PackingDuel$Test"
abbrev wsX230 : List Cond := u_ws RX23 TX23 1
theorem tyX23_ok : ∀ k, k < 1 → parseFieldDescriptor (TX23 k).2.2.1 = some (tyX23 k) := by decide +kernel
theorem in_X23 : ∀ w ∈ wsX230, w ∈ lw_all := lw_in wsX230 [2264] (by decide +kernel) (by decide +kernel)
theorem zpX23 : ∀ a, a < 1 → ∀ b, b < 1 → a ≠ b → (TX23 a).2.1 ≠ (TX23 b).2.1 ∨ ((TX23 a).1 ≠ (TX23 b).1 ∧ (TX23 a).2.2.2 = true ∧ (TX23 b).2.2.2 = true) := by decide +kernel
def RX24 : String := "PackingDuel$Comparison"
def TX24 : u_T := fun k => match k with
  | 0 => ("PackingDuel$Comparison", "left", "I", true)
  | 1 => ("PackingDuel$Comparison", "sign", "I", true)
  | _ => ("PackingDuel$Comparison", "right", "I", true)
def tyX24 : Nat → FieldType := fun k => match k with
  | 0 => .int
  | 1 => .int
  | _ => .int
abbrev wsX240 : List Cond := u_ws RX24 TX24 3
theorem tyX24_ok : ∀ k, k < 3 → parseFieldDescriptor (TX24 k).2.2.1 = some (tyX24 k) := by decide +kernel
theorem in_X24 : ∀ w ∈ wsX240, w ∈ lw_all := lw_in wsX240 [2367, 2369, 2371] (by decide +kernel) (by decide +kernel)
theorem zpX24 : ∀ a, a < 3 → ∀ b, b < 3 → a ≠ b → (TX24 a).2.1 ≠ (TX24 b).2.1 ∨ ((TX24 a).1 ≠ (TX24 b).1 ∧ (TX24 a).2.2.2 = true ∧ (TX24 b).2.2.2 = true) := by decide +kernel
def RX25 : String := "PackingDuel$Joined"
def TX25 : u_T := fun k => match k with
  | 0 => ("PackingDuel$Joined", "operands", "Ljava/util/ArrayList;", true)
  | _ => ("PackingDuel$Joined", "isAny", "Z", true)
def tyX25 : Nat → FieldType := fun k => match k with
  | 0 => .object "java/util/ArrayList"
  | _ => .boolean
abbrev wsX250 : List Cond := u_ws RX25 TX25 2
theorem tyX25_ok : ∀ k, k < 2 → parseFieldDescriptor (TX25 k).2.2.1 = some (tyX25 k) := by decide +kernel
theorem in_X25 : ∀ w ∈ wsX250, w ∈ lw_all := lw_in wsX250 [2384, 2386] (by decide +kernel) (by decide +kernel)
theorem zpX25 : ∀ a, a < 2 → ∀ b, b < 2 → a ≠ b → (TX25 a).2.1 ≠ (TX25 b).2.1 ∨ ((TX25 a).1 ≠ (TX25 b).1 ∧ (TX25 a).2.2.2 = true ∧ (TX25 b).2.2.2 = true) := by decide +kernel
def RJ26 : String := "java/lang/Object"
def TJ26 : u_T := fun _ => ("", "", "", false)
def tyJ26 : Nat → FieldType := fun _ => .int
theorem tyJ26_ok : ∀ k, k < 0 → parseFieldDescriptor (TJ26 k).2.2.1 = some (tyJ26 k) := fun _ h => absurd h (Nat.not_lt_zero _)
theorem in_J26 : ∀ w ∈ u_ws RJ26 TJ26 0, w ∈ lw_all := fun _ h => by cases h
theorem zpJ26 : ∀ a, a < 0 → ∀ b, b < 0 → a ≠ b → (TJ26 a).2.1 ≠ (TJ26 b).2.1 ∨ ((TJ26 a).1 ≠ (TJ26 b).1 ∧ (TJ26 a).2.2.2 = true ∧ (TJ26 b).2.2.2 = true) := by decide +kernel
abbrev zCl : List vw_C := [(RX1, TX1, 7), (RX2, TX2, 15), (RJ2, TJ2, 3), (RJ3, TJ3, 3), (RX3, TX3, 41), (RJ5, TJ5, 0), (RJ8, TJ8, 0), (RX5, TX5, 10), (RJ10, TJ10, 4), (RJ11, TJ11, 4), (RJ18, TJ18, 1), (RX6, TX6, 8), (RX7, TX7, 1), (RX9, TX9, 6), (RX10, TX10, 1), (RX11, TX11, 6), (RJ21, TJ21, 0), (RX13, TX13, 1), (RJ23, TJ23, 4), (RX14, TX14, 0), (RX15, TX15, 2), (RX16, TX16, 0), (RX17, TX17, 3), (RX18, TX18, 7), (RX19, TX19, 2), (RX20, TX20, 3), (RX21, TX21, 11), (RX23, TX23, 1), (RX24, TX24, 3), (RX25, TX25, 2), (RJ26, TJ26, 0)]
/-- what is known of the class with the number ci -/
def zCls (ci : Nat) (C : String) (T : u_T) (N : Nat) (ty : Nat → FieldType) : Prop := zCl[ci]? = some (C, T, N) ∧ (∀ w ∈ u_ws C T N, w ∈ lw_all) ∧ (∀ k, k < N → parseFieldDescriptor (T k).2.2.1 = some (ty k)) ∧ ∀ a, a < N → ∀ b, b < N → a ≠ b → (T a).2.1 ≠ (T b).2.1 ∨ ((T a).1 ≠ (T b).1 ∧ (T a).2.2.2 = true ∧ (T b).2.2.2 = true)
theorem zc0 : zCls 0 RX1 TX1 7 tyX1 := ⟨rfl, in_X1, tyX1_ok, zpX1⟩
theorem zc1 : zCls 1 RX2 TX2 15 tyX2 := ⟨rfl, in_X2, tyX2_ok, zpX2⟩
theorem zc2 : zCls 2 RJ2 TJ2 3 tyJ2 := ⟨rfl, in_J2, tyJ2_ok, zpJ2⟩
theorem zc3 : zCls 3 RJ3 TJ3 3 tyJ3 := ⟨rfl, in_J3, tyJ3_ok, zpJ3⟩
theorem zc4 : zCls 4 RX3 TX3 41 tyX3 := ⟨rfl, in_X3, tyX3_ok, zpX3⟩
theorem zc5 : zCls 5 RJ5 TJ5 0 tyJ5 := ⟨rfl, in_J5, tyJ5_ok, zpJ5⟩
theorem zc6 : zCls 6 RJ8 TJ8 0 tyJ8 := ⟨rfl, in_J8, tyJ8_ok, zpJ8⟩
theorem zc7 : zCls 7 RX5 TX5 10 tyX5 := ⟨rfl, in_X5, tyX5_ok, zpX5⟩
theorem zc8 : zCls 8 RJ10 TJ10 4 tyJ10 := ⟨rfl, in_J10, tyJ10_ok, zpJ10⟩
theorem zc9 : zCls 9 RJ11 TJ11 4 tyJ11 := ⟨rfl, in_J11, tyJ11_ok, zpJ11⟩
theorem zc10 : zCls 10 RJ18 TJ18 1 tyJ18 := ⟨rfl, in_J18, tyJ18_ok, zpJ18⟩
theorem zc11 : zCls 11 RX6 TX6 8 tyX6 := ⟨rfl, in_X6, tyX6_ok, zpX6⟩
theorem zc12 : zCls 12 RX7 TX7 1 tyX7 := ⟨rfl, in_X7, tyX7_ok, zpX7⟩
theorem zc13 : zCls 13 RX9 TX9 6 tyX9 := ⟨rfl, in_X9, tyX9_ok, zpX9⟩
theorem zc14 : zCls 14 RX10 TX10 1 tyX10 := ⟨rfl, in_X10, tyX10_ok, zpX10⟩
theorem zc15 : zCls 15 RX11 TX11 6 tyX11 := ⟨rfl, in_X11, tyX11_ok, zpX11⟩
theorem zc16 : zCls 16 RJ21 TJ21 0 tyJ21 := ⟨rfl, in_J21, tyJ21_ok, zpJ21⟩
theorem zc17 : zCls 17 RX13 TX13 1 tyX13 := ⟨rfl, in_X13, tyX13_ok, zpX13⟩
theorem zc18 : zCls 18 RJ23 TJ23 4 tyJ23 := ⟨rfl, in_J23, tyJ23_ok, zpJ23⟩
theorem zc19 : zCls 19 RX14 TX14 0 tyX14 := ⟨rfl, in_X14, tyX14_ok, zpX14⟩
theorem zc20 : zCls 20 RX15 TX15 2 tyX15 := ⟨rfl, in_X15, tyX15_ok, zpX15⟩
theorem zc21 : zCls 21 RX16 TX16 0 tyX16 := ⟨rfl, in_X16, tyX16_ok, zpX16⟩
theorem zc22 : zCls 22 RX17 TX17 3 tyX17 := ⟨rfl, in_X17, tyX17_ok, zpX17⟩
theorem zc23 : zCls 23 RX18 TX18 7 tyX18 := ⟨rfl, in_X18, tyX18_ok, zpX18⟩
theorem zc24 : zCls 24 RX19 TX19 2 tyX19 := ⟨rfl, in_X19, tyX19_ok, zpX19⟩
theorem zc25 : zCls 25 RX20 TX20 3 tyX20 := ⟨rfl, in_X20, tyX20_ok, zpX20⟩
theorem zc26 : zCls 26 RX21 TX21 11 tyX21 := ⟨rfl, in_X21, tyX21_ok, zpX21⟩
theorem zc27 : zCls 27 RX23 TX23 1 tyX23 := ⟨rfl, in_X23, tyX23_ok, zpX23⟩
theorem zc28 : zCls 28 RX24 TX24 3 tyX24 := ⟨rfl, in_X24, tyX24_ok, zpX24⟩
theorem zc29 : zCls 29 RX25 TX25 2 tyX25 := ⟨rfl, in_X25, tyX25_ok, zpX25⟩
theorem zc30 : zCls 30 RJ26 TJ26 0 tyJ26 := ⟨rfl, in_J26, tyJ26_ok, zpJ26⟩
