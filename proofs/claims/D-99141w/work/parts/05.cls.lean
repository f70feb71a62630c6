/-! ===== the classes that have cells (out of claim/names), numbered; String constants and statics ===== -/
set_option maxRecDepth 100000
def RJ0 : String := "java/util/AbstractCollection"
def RJ1 : String := "java/util/AbstractList"
def RJ10 : String := "java/lang/StringLatin1"
def RJ11 : String := "jdk/internal/util/ArraysSupport"
def RJ12 : String := "java/lang/Math"
def RJ13 : String := "java/util/Arrays"
def RJ14 : String := "java/lang/AbstractStringBuilder"
def RJ15 : String := "java/lang/StringBuilder"
def RJ16 : String := "java/lang/Integer"
def RJ17 : String := "java/lang/Object"
def RJ18 : String := "java/lang/System$2"
def RJ2 : String := "java/util/ArrayList"
def RJ3 : String := "java/lang/Throwable"
def RJ4 : String := "java/lang/Exception"
def RJ5 : String := "java/lang/RuntimeException"
def RJ6 : String := "java/util/Objects"
def RJ7 : String := "jdk/internal/util/Preconditions"
def RJ8 : String := "java/lang/String"
def RJ9 : String := "java/lang/StringUTF16"
def RX0 : String := "GardenChess"
def RX1 : String := "GardenChess$Board"
def RX10 : String := "GardenChess$Man"
def RX11 : String := "GardenChess$Field"
def RX12 : String := "GardenChess$Value"
def RX13 : String := "GardenChess$Chain"
def RX14 : String := "GardenChess$Pair"
def RX15 : String := "GardenChess$Fixed"
def RX16 : String := "GardenChess$Asked"
def RX17 : String := "GardenChess$Looked"
def RX18 : String := "GardenChess$Question"
def RX19 : String := "GardenChess$Test"
def RX2 : String := "GardenChess$Reader"
def RX20 : String := "GardenChess$Facts"
def RX21 : String := "GardenChess$Not"
def RX22 : String := "GardenChess$All"
def RX23 : String := "GardenChess$Than"
def RX3 : String := "GardenChess$Fault"
def RX4 : String := "GardenChess$Moment"
def RX5 : String := "GardenChess$Moves"
def RX6 : String := "GardenChess$State"
def RX7 : String := "GardenChessModel"
def RX8 : String := "GardenChess$Named"
def RX9 : String := "GardenChess$Kind"
def TX0 : u_T := fun k => match k with
  | 0 => ("GardenChess", "board", "LGardenChess$Board;", false)
  | 1 => ("GardenChess", "tape", "[B", true)
  | 2 => ("GardenChess", "taped", "I", false)
  | 3 => ("GardenChess", "faultKind", "I", false)
  | 4 => ("GardenChess", "faultPlace", "I", false)
  | 5 => ("GardenChess", "reader", "LGardenChess$Reader;", true)
  | 6 => ("GardenChess", "moment", "LGardenChess$Moment;", true)
  | 7 => ("GardenChess", "asked", "LGardenChess$Moment;", true)
  | 8 => ("GardenChess", "refused", "[I", true)
  | 9 => ("GardenChess", "movesAt", "[LGardenChess$Moves;", true)
  | 10 => ("GardenChess", "spare", "LGardenChess$Moves;", true)
  | 11 => ("GardenChess", "options", "LGardenChess$Moves;", true)
  | 12 => ("GardenChess", "now", "LGardenChess$State;", true)
  | 13 => ("GardenChess", "tried", "LGardenChess$State;", true)
  | 14 => ("GardenChess", "harmOn", "[J", true)
  | 15 => ("GardenChess", "seenField", "[I", true)
  | 16 => ("GardenChess", "seenBears", "[I", true)
  | 17 => ("GardenChess", "rows", "I", false)
  | 18 => ("GardenChess", "goal", "[I", true)
  | 19 => ("GardenChess", "kept", "[LGardenChess$State;", true)
  | 20 => ("GardenChess", "undos", "I", false)
  | 21 => ("GardenChess", "seeds", "J", false)
  | 22 => ("GardenChess", "askedMan", "I", false)
  | 23 => ("GardenChess", "out", "[B", true)
  | _ => ("GardenChess", "outs", "I", false)
def tyX0 : Nat → FieldType := fun k => match k with
  | 0 => .object "GardenChess$Board"
  | 1 => .array .byte
  | 2 => .int
  | 3 => .int
  | 4 => .int
  | 5 => .object "GardenChess$Reader"
  | 6 => .object "GardenChess$Moment"
  | 7 => .object "GardenChess$Moment"
  | 8 => .array .int
  | 9 => .array (.object "GardenChess$Moves")
  | 10 => .object "GardenChess$Moves"
  | 11 => .object "GardenChess$Moves"
  | 12 => .object "GardenChess$State"
  | 13 => .object "GardenChess$State"
  | 14 => .array .long
  | 15 => .array .int
  | 16 => .array .int
  | 17 => .int
  | 18 => .array .int
  | 19 => .array (.object "GardenChess$State")
  | 20 => .int
  | 21 => .long
  | 22 => .int
  | 23 => .array .byte
  | _ => .int
abbrev wsX00 : List Cond := u_ws RX0 TX0 25
theorem nmX0 : ∀ a, a < 25 → ∀ b, b < 25 → a ≠ b → (TX0 a).2.1 ≠ (TX0 b).2.1 := by decide +kernel
theorem tyX0_ok : ∀ k, k < 25 → parseFieldDescriptor (TX0 k).2.2.1 = some (tyX0 k) := by decide +kernel
theorem in_X0 : ∀ w ∈ wsX00, w ∈ lw_all := lw_in wsX00 [570, 572, 574, 576, 578, 580, 582, 584, 586, 588, 590, 592, 594, 596, 598, 600, 602, 604, 606, 608, 610, 612, 614, 616, 618] (by decide +kernel) (by decide +kernel)
def TX1 : u_T := fun k => match k with
  | 0 => ("GardenChess$Board", "statements", "I", false)
  | 1 => ("GardenChess$Board", "columns", "I", false)
  | 2 => ("GardenChess$Board", "rows", "I", false)
  | 3 => ("GardenChess$Board", "grows", "I", false)
  | 4 => ("GardenChess$Board", "sleepy", "I", false)
  | 5 => ("GardenChess$Board", "looks", "[I", true)
  | 6 => ("GardenChess$Board", "kinds", "Ljava/util/List;", true)
  | 7 => ("GardenChess$Board", "men", "Ljava/util/List;", true)
  | 8 => ("GardenChess$Board", "fields", "Ljava/util/List;", true)
  | _ => ("GardenChess$Board", "harm", "LGardenChess$Value;", false)
def tyX1 : Nat → FieldType := fun k => match k with
  | 0 => .int
  | 1 => .int
  | 2 => .int
  | 3 => .int
  | 4 => .int
  | 5 => .array .int
  | 6 => .object "java/util/List"
  | 7 => .object "java/util/List"
  | 8 => .object "java/util/List"
  | _ => .object "GardenChess$Value"
abbrev wsX10 : List Cond := u_ws RX1 TX1 10
theorem nmX1 : ∀ a, a < 10 → ∀ b, b < 10 → a ≠ b → (TX1 a).2.1 ≠ (TX1 b).2.1 := by decide +kernel
theorem tyX1_ok : ∀ k, k < 10 → parseFieldDescriptor (TX1 k).2.2.1 = some (tyX1 k) := by decide +kernel
theorem in_X1 : ∀ w ∈ wsX10, w ∈ lw_all := lw_in wsX10 [277, 279, 281, 283, 285, 287, 289, 291, 293, 295] (by decide +kernel) (by decide +kernel)
def TJ2 : u_T := fun k => match k with
  | 0 => ("java/util/AbstractList", "modCount", "I", false)
  | 1 => ("java/util/ArrayList", "elementData", "[Ljava/lang/Object;", false)
  | _ => ("java/util/ArrayList", "size", "I", false)
def tyJ2 : Nat → FieldType := fun k => match k with
  | 0 => .int
  | 1 => .array (.object "java/lang/Object")
  | _ => .int
abbrev wsJ20 : List Cond := u_ws RJ2 TJ2 3
theorem nmJ2 : ∀ a, a < 3 → ∀ b, b < 3 → a ≠ b → (TJ2 a).2.1 ≠ (TJ2 b).2.1 := by decide +kernel
theorem tyJ2_ok : ∀ k, k < 3 → parseFieldDescriptor (TJ2 k).2.2.1 = some (tyJ2 k) := by decide +kernel
theorem in_J2 : ∀ w ∈ wsJ20, w ∈ lw_all := lw_in wsJ20 [245, 241, 243] (by decide +kernel) (by decide +kernel)
def TX2 : u_T := fun k => match k with
  | 0 => ("GardenChess$Reader", "fault", "LGardenChess$Fault;", true)
  | 1 => ("GardenChess$Reader", "size", "I", false)
  | 2 => ("GardenChess$Reader", "at", "I", false)
  | 3 => ("GardenChess$Reader", "from", "I", false)
  | 4 => ("GardenChess$Reader", "open", "I", false)
  | 5 => ("GardenChess$Reader", "context", "I", false)
  | 6 => ("GardenChess$Reader", "to", "LGardenChess$Board;", false)
  | _ => ("GardenChess$Reader", "this$0", "LGardenChess;", true)
def tyX2 : Nat → FieldType := fun k => match k with
  | 0 => .object "GardenChess$Fault"
  | 1 => .int
  | 2 => .int
  | 3 => .int
  | 4 => .int
  | 5 => .int
  | 6 => .object "GardenChess$Board"
  | _ => .object "GardenChess"
abbrev wsX20 : List Cond := u_ws RX2 TX2 8
theorem nmX2 : ∀ a, a < 8 → ∀ b, b < 8 → a ≠ b → (TX2 a).2.1 ≠ (TX2 b).2.1 := by decide +kernel
theorem tyX2_ok : ∀ k, k < 8 → parseFieldDescriptor (TX2 k).2.2.1 = some (tyX2 k) := by decide +kernel
theorem in_X2 : ∀ w ∈ wsX20, w ∈ lw_all := lw_in wsX20 [385, 387, 389, 391, 393, 395, 397, 399] (by decide +kernel) (by decide +kernel)
def TX3 : u_T := fun k => match k with
  | 0 => ("java/lang/Throwable", "cause", "Ljava/lang/Throwable;", false)
  | 1 => ("java/lang/Throwable", "stackTrace", "[Ljava/lang/StackTraceElement;", false)
  | 2 => ("java/lang/Throwable", "suppressedExceptions", "Ljava/util/List;", false)
  | 3 => ("java/lang/Throwable", "detailMessage", "Ljava/lang/String;", false)
  | 4 => ("java/lang/Throwable", "backtrace", "Ljava/lang/Object;", false)
  | 5 => ("java/lang/Throwable", "depth", "I", false)
  | 6 => ("GardenChess$Fault", "kind", "I", false)
  | _ => ("GardenChess$Fault", "place", "I", false)
def tyX3 : Nat → FieldType := fun k => match k with
  | 0 => .object "java/lang/Throwable"
  | 1 => .array (.object "java/lang/StackTraceElement")
  | 2 => .object "java/util/List"
  | 3 => .object "java/lang/String"
  | 4 => .object "java/lang/Object"
  | 5 => .int
  | 6 => .int
  | _ => .int
abbrev wsX30 : List Cond := u_ws RX3 TX3 8
theorem nmX3 : ∀ a, a < 8 → ∀ b, b < 8 → a ≠ b → (TX3 a).2.1 ≠ (TX3 b).2.1 := by decide +kernel
theorem tyX3_ok : ∀ k, k < 8 → parseFieldDescriptor (TX3 k).2.2.1 = some (tyX3 k) := by decide +kernel
theorem in_X3 : ∀ w ∈ wsX30, w ∈ lw_all := lw_in wsX30 [315, 317, 319, 321, 323, 372, 364, 366] (by decide +kernel) (by decide +kernel)
def TX4 : u_T := fun k => match k with
  | _ => ("GardenChess$Moment", "of", "[J", true)
def tyX4 : Nat → FieldType := fun k => match k with
  | _ => .array .long
abbrev wsX40 : List Cond := u_ws RX4 TX4 1
theorem nmX4 : ∀ a, a < 1 → ∀ b, b < 1 → a ≠ b → (TX4 a).2.1 ≠ (TX4 b).2.1 := by decide +kernel
theorem tyX4_ok : ∀ k, k < 1 → parseFieldDescriptor (TX4 k).2.2.1 = some (tyX4 k) := by decide +kernel
theorem in_X4 : ∀ w ∈ wsX40, w ∈ lw_all := lw_in wsX40 [412] (by decide +kernel) (by decide +kernel)
def TX5 : u_T := fun k => match k with
  | 0 => ("GardenChess$Moves", "man", "[I", true)
  | 1 => ("GardenChess$Moves", "place", "[I", true)
  | _ => ("GardenChess$Moves", "many", "I", false)
def tyX5 : Nat → FieldType := fun k => match k with
  | 0 => .array .int
  | 1 => .array .int
  | _ => .int
abbrev wsX50 : List Cond := u_ws RX5 TX5 3
theorem nmX5 : ∀ a, a < 3 → ∀ b, b < 3 → a ≠ b → (TX5 a).2.1 ≠ (TX5 b).2.1 := by decide +kernel
theorem tyX5_ok : ∀ k, k < 3 → parseFieldDescriptor (TX5 k).2.2.1 = some (tyX5 k) := by decide +kernel
theorem in_X5 : ∀ w ∈ wsX50, w ∈ lw_all := lw_in wsX50 [432, 434, 436] (by decide +kernel) (by decide +kernel)
def TX6 : u_T := fun k => match k with
  | 0 => ("GardenChess$State", "day", "I", false)
  | 1 => ("GardenChess$State", "side", "I", false)
  | 2 => ("GardenChess$State", "keeps", "I", false)
  | 3 => ("GardenChess$State", "place", "[I", true)
  | 4 => ("GardenChess$State", "on", "[I", true)
  | 5 => ("GardenChess$State", "bears", "[I", true)
  | 6 => ("GardenChess$State", "rows", "[[I", true)
  | 7 => ("GardenChess$State", "crowns", "I", false)
  | 8 => ("GardenChess$State", "movedTo", "I", false)
  | 9 => ("GardenChess$State", "takenWorth", "I", false)
  | 10 => ("GardenChess$State", "wasCheck", "Z", false)
  | _ => ("GardenChess$State", "this$0", "LGardenChess;", true)
def tyX6 : Nat → FieldType := fun k => match k with
  | 0 => .int
  | 1 => .int
  | 2 => .int
  | 3 => .array .int
  | 4 => .array .int
  | 5 => .array .int
  | 6 => .array (.array .int)
  | 7 => .int
  | 8 => .int
  | 9 => .int
  | 10 => .boolean
  | _ => .object "GardenChess"
abbrev wsX60 : List Cond := u_ws RX6 TX6 12
theorem nmX6 : ∀ a, a < 12 → ∀ b, b < 12 → a ≠ b → (TX6 a).2.1 ≠ (TX6 b).2.1 := by decide +kernel
theorem tyX6_ok : ∀ k, k < 12 → parseFieldDescriptor (TX6 k).2.2.1 = some (tyX6 k) := by decide +kernel
theorem in_X6 : ∀ w ∈ wsX60, w ∈ lw_all := lw_in wsX60 [467, 469, 471, 473, 475, 477, 479, 481, 483, 485, 487, 489] (by decide +kernel) (by decide +kernel)
def TX7 : u_T := fun k => match k with
  | 0 => ("GardenChessModel", "tape", "[I", true)
  | 1 => ("GardenChessModel", "taped", "I", false)
  | 2 => ("GardenChessModel", "at", "I", false)
  | 3 => ("GardenChessModel", "end", "I", false)
  | 4 => ("GardenChessModel", "ended", "I", false)
  | 5 => ("GardenChessModel", "bad", "I", false)
  | 6 => ("GardenChessModel", "badPlace", "I", false)
  | 7 => ("GardenChessModel", "fault", "I", false)
  | 8 => ("GardenChessModel", "faultPlace", "I", false)
  | 9 => ("GardenChessModel", "refused", "[I", true)
  | 10 => ("GardenChessModel", "numberPlace", "I", false)
  | 11 => ("GardenChessModel", "boardWord", "[C", true)
  | 12 => ("GardenChessModel", "byWord", "[C", true)
  | 13 => ("GardenChessModel", "whiteWord", "[C", true)
  | 14 => ("GardenChessModel", "blackWord", "[C", true)
  | 15 => ("GardenChessModel", "kindWord", "[C", true)
  | 16 => ("GardenChessModel", "waysWord", "[C", true)
  | 17 => ("GardenChessModel", "reachWord", "[C", true)
  | 18 => ("GardenChessModel", "worthWord", "[C", true)
  | 19 => ("GardenChessModel", "crownWord", "[C", true)
  | 20 => ("GardenChessModel", "manWord", "[C", true)
  | 21 => ("GardenChessModel", "isWord", "[C", true)
  | 22 => ("GardenChessModel", "ofWord", "[C", true)
  | 23 => ("GardenChessModel", "atWord", "[C", true)
  | 24 => ("GardenChessModel", "fieldWord", "[C", true)
  | 25 => ("GardenChessModel", "bearsWord", "[C", true)
  | 26 => ("GardenChessModel", "harmWord", "[C", true)
  | 27 => ("GardenChessModel", "growsWord", "[C", true)
  | 28 => ("GardenChessModel", "sleepyWord", "[C", true)
  | 29 => ("GardenChessModel", "takenWord", "[C", true)
  | 30 => ("GardenChessModel", "checkWord", "[C", true)
  | 31 => ("GardenChessModel", "offWord", "[C", true)
  | 32 => ("GardenChessModel", "dayWord", "[C", true)
  | 33 => ("GardenChessModel", "numberWord", "[C", true)
  | 34 => ("GardenChessModel", "columnWord", "[C", true)
  | 35 => ("GardenChessModel", "rowWord", "[C", true)
  | 36 => ("GardenChessModel", "sideWord", "[C", true)
  | 37 => ("GardenChessModel", "movesWord", "[C", true)
  | 38 => ("GardenChessModel", "orWord", "[C", true)
  | 39 => ("GardenChessModel", "andWord", "[C", true)
  | 40 => ("GardenChessModel", "notWord", "[C", true)
  | 41 => ("GardenChessModel", "allWord", "[C", true)
  | 42 => ("GardenChessModel", "minWord", "[C", true)
  | 43 => ("GardenChessModel", "maxWord", "[C", true)
  | 44 => ("GardenChessModel", "namePlace", "I", false)
  | 45 => ("GardenChessModel", "many", "[I", true)
  | 46 => ("GardenChessModel", "names", "[J", true)
  | 47 => ("GardenChessModel", "side", "[I", true)
  | 48 => ("GardenChessModel", "kinds", "[I", true)
  | 49 => ("GardenChessModel", "men", "[I", true)
  | 50 => ("GardenChessModel", "begins", "[I", true)
  | 51 => ("GardenChessModel", "fields", "[I", true)
  | 52 => ("GardenChessModel", "settings", "[I", true)
  | 53 => ("GardenChessModel", "sumFrom", "[I", true)
  | 54 => ("GardenChessModel", "sumEnd", "[I", true)
  | 55 => ("GardenChessModel", "codes", "[I", true)
  | 56 => ("GardenChessModel", "coded", "I", false)
  | 57 => ("GardenChessModel", "statements", "I", false)
  | 58 => ("GardenChessModel", "isBoard", "Z", false)
  | 59 => ("GardenChessModel", "inHarm", "Z", false)
  | 60 => ("GardenChessModel", "placeX", "I", false)
  | 61 => ("GardenChessModel", "placeY", "I", false)
  | 62 => ("GardenChessModel", "now", "[I", true)
  | 63 => ("GardenChessModel", "aside", "[I", true)
  | 64 => ("GardenChessModel", "doneMan", "[I", true)
  | 65 => ("GardenChessModel", "doneX", "[I", true)
  | 66 => ("GardenChessModel", "doneY", "[I", true)
  | 67 => ("GardenChessModel", "doneTook", "[I", true)
  | 68 => ("GardenChessModel", "chosen", "I", false)
  | 69 => ("GardenChessModel", "chosenMan", "I", false)
  | 70 => ("GardenChessModel", "chosenPlace", "I", false)
  | 71 => ("GardenChessModel", "askTaken", "J", false)
  | 72 => ("GardenChessModel", "askCheck", "J", false)
  | 73 => ("GardenChessModel", "askOff", "J", false)
  | 74 => ("GardenChessModel", "askMoves", "[I", true)
  | 75 => ("GardenChessModel", "isThought", "Z", false)
  | 76 => ("GardenChessModel", "harms", "[J", true)
  | 77 => ("GardenChessModel", "tookLast", "I", false)
  | 78 => ("GardenChessModel", "deeperSide", "I", false)
  | 79 => ("GardenChessModel", "deeperBy", "I", false)
  | 80 => ("GardenChessModel", "rowMany", "I", false)
  | 81 => ("GardenChessModel", "rows", "[I", true)
  | 82 => ("GardenChessModel", "goal", "[I", true)
  | 83 => ("GardenChessModel", "kept0", "[I", true)
  | 84 => ("GardenChessModel", "undoable", "I", false)
  | 85 => ("GardenChessModel", "newest", "I", false)
  | 86 => ("GardenChessModel", "seeded", "J", false)
  | 87 => ("GardenChessModel", "firstAsked", "[C", true)
  | 88 => ("GardenChessModel", "lastAsked", "[C", true)
  | 89 => ("GardenChessModel", "oftenAsked", "[C", true)
  | 90 => ("GardenChessModel", "totalAsked", "[C", true)
  | 91 => ("GardenChessModel", "mostAsked", "[C", true)
  | 92 => ("GardenChessModel", "leastAsked", "[C", true)
  | 93 => ("GardenChessModel", "notAsked", "[C", true)
  | 94 => ("GardenChessModel", "andAsked", "[C", true)
  | 95 => ("GardenChessModel", "orAsked", "[C", true)
  | 96 => ("GardenChessModel", "allAsked", "[C", true)
  | 97 => ("GardenChessModel", "minAsked", "[C", true)
  | 98 => ("GardenChessModel", "maxAsked", "[C", true)
  | 99 => ("GardenChessModel", "takenAsked", "[C", true)
  | 100 => ("GardenChessModel", "checkAsked", "[C", true)
  | 101 => ("GardenChessModel", "offAsked", "[C", true)
  | 102 => ("GardenChessModel", "dayAsked", "[C", true)
  | 103 => ("GardenChessModel", "numberAsked", "[C", true)
  | 104 => ("GardenChessModel", "columnAsked", "[C", true)
  | 105 => ("GardenChessModel", "rowAsked", "[C", true)
  | 106 => ("GardenChessModel", "sideAsked", "[C", true)
  | 107 => ("GardenChessModel", "worthAsked", "[C", true)
  | 108 => ("GardenChessModel", "reachAsked", "[C", true)
  | 109 => ("GardenChessModel", "movesAsked", "[C", true)
  | 110 => ("GardenChessModel", "qCodes", "[I", true)
  | 111 => ("GardenChessModel", "qCoded", "I", false)
  | 112 => ("GardenChessModel", "qWait", "[I", true)
  | 113 => ("GardenChessModel", "qWaits", "I", false)
  | 114 => ("GardenChessModel", "qOpened", "I", false)
  | 115 => ("GardenChessModel", "qBase", "I", false)
  | 116 => ("GardenChessModel", "qPile", "[J", true)
  | 117 => ("GardenChessModel", "qPiled", "I", false)
  | 118 => ("GardenChessModel", "qAnswer", "J", false)
  | 119 => ("GardenChessModel", "qIsNew", "Z", false)
  | 120 => ("GardenChessModel", "octet", "[I", true)
  | _ => ("GardenChessModel", "octets", "I", false)
def tyX7 : Nat → FieldType := fun k => match k with
  | 0 => .array .int
  | 1 => .int
  | 2 => .int
  | 3 => .int
  | 4 => .int
  | 5 => .int
  | 6 => .int
  | 7 => .int
  | 8 => .int
  | 9 => .array .int
  | 10 => .int
  | 11 => .array .char
  | 12 => .array .char
  | 13 => .array .char
  | 14 => .array .char
  | 15 => .array .char
  | 16 => .array .char
  | 17 => .array .char
  | 18 => .array .char
  | 19 => .array .char
  | 20 => .array .char
  | 21 => .array .char
  | 22 => .array .char
  | 23 => .array .char
  | 24 => .array .char
  | 25 => .array .char
  | 26 => .array .char
  | 27 => .array .char
  | 28 => .array .char
  | 29 => .array .char
  | 30 => .array .char
  | 31 => .array .char
  | 32 => .array .char
  | 33 => .array .char
  | 34 => .array .char
  | 35 => .array .char
  | 36 => .array .char
  | 37 => .array .char
  | 38 => .array .char
  | 39 => .array .char
  | 40 => .array .char
  | 41 => .array .char
  | 42 => .array .char
  | 43 => .array .char
  | 44 => .int
  | 45 => .array .int
  | 46 => .array .long
  | 47 => .array .int
  | 48 => .array .int
  | 49 => .array .int
  | 50 => .array .int
  | 51 => .array .int
  | 52 => .array .int
  | 53 => .array .int
  | 54 => .array .int
  | 55 => .array .int
  | 56 => .int
  | 57 => .int
  | 58 => .boolean
  | 59 => .boolean
  | 60 => .int
  | 61 => .int
  | 62 => .array .int
  | 63 => .array .int
  | 64 => .array .int
  | 65 => .array .int
  | 66 => .array .int
  | 67 => .array .int
  | 68 => .int
  | 69 => .int
  | 70 => .int
  | 71 => .long
  | 72 => .long
  | 73 => .long
  | 74 => .array .int
  | 75 => .boolean
  | 76 => .array .long
  | 77 => .int
  | 78 => .int
  | 79 => .int
  | 80 => .int
  | 81 => .array .int
  | 82 => .array .int
  | 83 => .array .int
  | 84 => .int
  | 85 => .int
  | 86 => .long
  | 87 => .array .char
  | 88 => .array .char
  | 89 => .array .char
  | 90 => .array .char
  | 91 => .array .char
  | 92 => .array .char
  | 93 => .array .char
  | 94 => .array .char
  | 95 => .array .char
  | 96 => .array .char
  | 97 => .array .char
  | 98 => .array .char
  | 99 => .array .char
  | 100 => .array .char
  | 101 => .array .char
  | 102 => .array .char
  | 103 => .array .char
  | 104 => .array .char
  | 105 => .array .char
  | 106 => .array .char
  | 107 => .array .char
  | 108 => .array .char
  | 109 => .array .char
  | 110 => .array .int
  | 111 => .int
  | 112 => .array .int
  | 113 => .int
  | 114 => .int
  | 115 => .int
  | 116 => .array .long
  | 117 => .int
  | 118 => .long
  | 119 => .boolean
  | 120 => .array .int
  | _ => .int
abbrev wsX70 : List Cond := u_ws RX7 TX7 122
theorem nmX7 : ∀ a, a < 122 → ∀ b, b < 122 → a ≠ b → (TX7 a).2.1 ≠ (TX7 b).2.1 := by decide +kernel
theorem tyX7_ok : ∀ k, k < 122 → parseFieldDescriptor (TX7 k).2.2.1 = some (tyX7 k) := by decide +kernel
theorem in_X7 : ∀ w ∈ wsX70, w ∈ lw_all := lw_in wsX70 [1936, 1938, 1940, 1942, 1944, 1946, 1948, 1950, 1952, 1954, 1956, 1958, 1960, 1962, 1964, 1966, 1968, 1970, 1972, 1974, 1976, 1978, 1980, 1982, 1984, 1986, 1988, 1990, 1992, 1994, 1996, 1998, 2000, 2002, 2004, 2006, 2008, 2010, 2012, 2014, 2016, 2018, 2020, 2022, 2024, 2026, 2028, 2030, 2032, 2034, 2036, 2038, 2040, 2042, 2044, 2046, 2048, 2050, 2052, 2054, 2056, 2058, 2060, 2062, 2064, 2066, 2068, 2070, 2072, 2074, 2076, 2078, 2080, 2082, 2084, 2086, 2088, 2090, 2092, 2094, 2096, 2098, 2100, 2102, 2104, 2106, 2108, 2110, 2112, 2114, 2116, 2118, 2120, 2122, 2124, 2126, 2128, 2130, 2132, 2134, 2136, 2138, 2140, 2142, 2144, 2146, 2148, 2150, 2152, 2154, 2156, 2158, 2160, 2162, 2164, 2166, 2168, 2170, 2172, 2174, 2176, 2178] (by decide +kernel) (by decide +kernel)
def TJ8 : u_T := fun k => match k with
  | 0 => ("java/lang/String", "value", "[B", true)
  | 1 => ("java/lang/String", "coder", "B", true)
  | 2 => ("java/lang/String", "hash", "I", false)
  | _ => ("java/lang/String", "hashIsZero", "Z", false)
def tyJ8 : Nat → FieldType := fun k => match k with
  | 0 => .array .byte
  | 1 => .byte
  | 2 => .int
  | _ => .boolean
abbrev wsJ80 : List Cond := u_ws RJ8 TJ8 4
theorem nmJ8 : ∀ a, a < 4 → ∀ b, b < 4 → a ≠ b → (TJ8 a).2.1 ≠ (TJ8 b).2.1 := by decide +kernel
theorem tyJ8_ok : ∀ k, k < 4 → parseFieldDescriptor (TJ8 k).2.2.1 = some (tyJ8 k) := by decide +kernel
theorem in_J8 : ∀ w ∈ wsJ80, w ∈ lw_all := lw_in wsJ80 [751, 753, 755, 757] (by decide +kernel) (by decide +kernel)
def TJ15 : u_T := fun k => match k with
  | 0 => ("java/lang/AbstractStringBuilder", "value", "[B", false)
  | 1 => ("java/lang/AbstractStringBuilder", "coder", "B", false)
  | 2 => ("java/lang/AbstractStringBuilder", "maybeLatin1", "Z", false)
  | _ => ("java/lang/AbstractStringBuilder", "count", "I", false)
def tyJ15 : Nat → FieldType := fun k => match k with
  | 0 => .array .byte
  | 1 => .byte
  | 2 => .boolean
  | _ => .int
abbrev wsJ150 : List Cond := u_ws RJ15 TJ15 4
theorem nmJ15 : ∀ a, a < 4 → ∀ b, b < 4 → a ≠ b → (TJ15 a).2.1 ≠ (TJ15 b).2.1 := by decide +kernel
theorem tyJ15_ok : ∀ k, k < 4 → parseFieldDescriptor (TJ15 k).2.2.1 = some (tyJ15 k) := by decide +kernel
theorem in_J15 : ∀ w ∈ wsJ150, w ∈ lw_all := lw_in wsJ150 [1108, 1110, 1112, 1114] (by decide +kernel) (by decide +kernel)
def TX9 : u_T := fun k => match k with
  | 0 => ("GardenChess$Named", "name", "Ljava/lang/String;", true)
  | 1 => ("GardenChess$Kind", "ways", "I", true)
  | 2 => ("GardenChess$Kind", "reach", "I", true)
  | 3 => ("GardenChess$Kind", "worth", "I", true)
  | _ => ("GardenChess$Kind", "isCrown", "Z", false)
def tyX9 : Nat → FieldType := fun k => match k with
  | 0 => .object "java/lang/String"
  | 1 => .int
  | 2 => .int
  | 3 => .int
  | _ => .boolean
abbrev wsX90 : List Cond := u_ws RX9 TX9 5
theorem nmX9 : ∀ a, a < 5 → ∀ b, b < 5 → a ≠ b → (TX9 a).2.1 ≠ (TX9 b).2.1 := by decide +kernel
theorem tyX9_ok : ∀ k, k < 5 → parseFieldDescriptor (TX9 k).2.2.1 = some (tyX9 k) := by decide +kernel
theorem in_X9 : ∀ w ∈ wsX90, w ∈ lw_all := lw_in wsX90 [923, 915, 917, 919, 921] (by decide +kernel) (by decide +kernel)
def TX10 : u_T := fun k => match k with
  | 0 => ("GardenChess$Named", "name", "Ljava/lang/String;", true)
  | 1 => ("GardenChess$Man", "kind", "I", true)
  | 2 => ("GardenChess$Man", "side", "I", true)
  | 3 => ("GardenChess$Man", "column", "I", true)
  | _ => ("GardenChess$Man", "row", "I", true)
def tyX10 : Nat → FieldType := fun k => match k with
  | 0 => .object "java/lang/String"
  | 1 => .int
  | 2 => .int
  | 3 => .int
  | _ => .int
abbrev wsX100 : List Cond := u_ws RX10 TX10 5
theorem nmX10 : ∀ a, a < 5 → ∀ b, b < 5 → a ≠ b → (TX10 a).2.1 ≠ (TX10 b).2.1 := by decide +kernel
theorem tyX10_ok : ∀ k, k < 5 → parseFieldDescriptor (TX10 k).2.2.1 = some (tyX10 k) := by decide +kernel
theorem in_X10 : ∀ w ∈ wsX100, w ∈ lw_all := lw_in wsX100 [1054, 1046, 1048, 1050, 1052] (by decide +kernel) (by decide +kernel)
def TX11 : u_T := fun k => match k with
  | 0 => ("GardenChess$Named", "name", "Ljava/lang/String;", true)
  | 1 => ("GardenChess$Field", "column", "I", true)
  | 2 => ("GardenChess$Field", "row", "I", true)
  | _ => ("GardenChess$Field", "bears", "I", true)
def tyX11 : Nat → FieldType := fun k => match k with
  | 0 => .object "java/lang/String"
  | 1 => .int
  | 2 => .int
  | _ => .int
abbrev wsX110 : List Cond := u_ws RX11 TX11 4
theorem nmX11 : ∀ a, a < 4 → ∀ b, b < 4 → a ≠ b → (TX11 a).2.1 ≠ (TX11 b).2.1 := by decide +kernel
theorem tyX11_ok : ∀ k, k < 4 → parseFieldDescriptor (TX11 k).2.2.1 = some (tyX11 k) := by decide +kernel
theorem in_X11 : ∀ w ∈ wsX110, w ∈ lw_all := lw_in wsX110 [1077, 1071, 1073, 1075] (by decide +kernel) (by decide +kernel)
def TX13 : u_T := fun k => match k with
  | 0 => ("GardenChess$Chain", "values", "Ljava/util/List;", true)
  | _ => ("GardenChess$Chain", "signs", "Ljava/lang/StringBuilder;", true)
def tyX13 : Nat → FieldType := fun k => match k with
  | 0 => .object "java/util/List"
  | _ => .object "java/lang/StringBuilder"
abbrev wsX130 : List Cond := u_ws RX13 TX13 2
theorem nmX13 : ∀ a, a < 2 → ∀ b, b < 2 → a ≠ b → (TX13 a).2.1 ≠ (TX13 b).2.1 := by decide +kernel
theorem tyX13_ok : ∀ k, k < 2 → parseFieldDescriptor (TX13 k).2.2.1 = some (tyX13 k) := by decide +kernel
theorem in_X13 : ∀ w ∈ wsX130, w ∈ lw_all := lw_in wsX130 [1119, 1121] (by decide +kernel) (by decide +kernel)
def TX14 : u_T := fun k => match k with
  | 0 => ("GardenChess$Pair", "most", "Z", true)
  | 1 => ("GardenChess$Pair", "first", "LGardenChess$Value;", true)
  | _ => ("GardenChess$Pair", "second", "LGardenChess$Value;", true)
def tyX14 : Nat → FieldType := fun k => match k with
  | 0 => .boolean
  | 1 => .object "GardenChess$Value"
  | _ => .object "GardenChess$Value"
abbrev wsX140 : List Cond := u_ws RX14 TX14 3
theorem nmX14 : ∀ a, a < 3 → ∀ b, b < 3 → a ≠ b → (TX14 a).2.1 ≠ (TX14 b).2.1 := by decide +kernel
theorem tyX14_ok : ∀ k, k < 3 → parseFieldDescriptor (TX14 k).2.2.1 = some (tyX14 k) := by decide +kernel
theorem in_X14 : ∀ w ∈ wsX140, w ∈ lw_all := lw_in wsX140 [1149, 1151, 1153] (by decide +kernel) (by decide +kernel)
def TX15 : u_T := fun k => match k with
  | _ => ("GardenChess$Fixed", "value", "J", true)
def tyX15 : Nat → FieldType := fun k => match k with
  | _ => .long
abbrev wsX150 : List Cond := u_ws RX15 TX15 1
theorem nmX15 : ∀ a, a < 1 → ∀ b, b < 1 → a ≠ b → (TX15 a).2.1 ≠ (TX15 b).2.1 := by decide +kernel
theorem tyX15_ok : ∀ k, k < 1 → parseFieldDescriptor (TX15 k).2.2.1 = some (tyX15 k) := by decide +kernel
theorem in_X15 : ∀ w ∈ wsX150, w ∈ lw_all := lw_in wsX150 [1163] (by decide +kernel) (by decide +kernel)
def TX16 : u_T := fun k => match k with
  | _ => ("GardenChess$Asked", "what", "I", true)
def tyX16 : Nat → FieldType := fun k => match k with
  | _ => .int
abbrev wsX160 : List Cond := u_ws RX16 TX16 1
theorem nmX16 : ∀ a, a < 1 → ∀ b, b < 1 → a ≠ b → (TX16 a).2.1 ≠ (TX16 b).2.1 := by decide +kernel
theorem tyX16_ok : ∀ k, k < 1 → parseFieldDescriptor (TX16 k).2.2.1 = some (tyX16 k) := by decide +kernel
theorem in_X16 : ∀ w ∈ wsX160, w ∈ lw_all := lw_in wsX160 [1178] (by decide +kernel) (by decide +kernel)
def TX17 : u_T := fun k => match k with
  | 0 => ("GardenChess$Looked", "what", "I", true)
  | 1 => ("GardenChess$Looked", "of", "LGardenChess$Value;", true)
  | _ => ("GardenChess$Looked", "this$0", "LGardenChess;", true)
def tyX17 : Nat → FieldType := fun k => match k with
  | 0 => .int
  | 1 => .object "GardenChess$Value"
  | _ => .object "GardenChess"
abbrev wsX170 : List Cond := u_ws RX17 TX17 3
theorem nmX17 : ∀ a, a < 3 → ∀ b, b < 3 → a ≠ b → (TX17 a).2.1 ≠ (TX17 b).2.1 := by decide +kernel
theorem tyX17_ok : ∀ k, k < 3 → parseFieldDescriptor (TX17 k).2.2.1 = some (tyX17 k) := by decide +kernel
theorem in_X17 : ∀ w ∈ wsX170, w ∈ lw_all := lw_in wsX170 [1196, 1198, 1200] (by decide +kernel) (by decide +kernel)
def TX18 : u_T := fun k => match k with
  | 0 => ("GardenChess$Question", "what", "I", true)
  | 1 => ("GardenChess$Question", "test", "LGardenChess$Test;", true)
  | 2 => ("GardenChess$Question", "sum", "LGardenChess$Value;", true)
  | 3 => ("GardenChess$Question", "found", "J", false)
  | _ => ("GardenChess$Question", "has", "Z", false)
def tyX18 : Nat → FieldType := fun k => match k with
  | 0 => .int
  | 1 => .object "GardenChess$Test"
  | 2 => .object "GardenChess$Value"
  | 3 => .long
  | _ => .boolean
abbrev wsX180 : List Cond := u_ws RX18 TX18 5
theorem nmX18 : ∀ a, a < 5 → ∀ b, b < 5 → a ≠ b → (TX18 a).2.1 ≠ (TX18 b).2.1 := by decide +kernel
theorem tyX18_ok : ∀ k, k < 5 → parseFieldDescriptor (TX18 k).2.2.1 = some (tyX18 k) := by decide +kernel
theorem in_X18 : ∀ w ∈ wsX180, w ∈ lw_all := lw_in wsX180 [1740, 1742, 1744, 1746, 1748] (by decide +kernel) (by decide +kernel)
def TX20 : u_T := fun k => match k with
  | 0 => ("GardenChess$Facts", "tests", "Ljava/util/List;", true)
  | _ => ("GardenChess$Facts", "all", "Z", true)
def tyX20 : Nat → FieldType := fun k => match k with
  | 0 => .object "java/util/List"
  | _ => .boolean
abbrev wsX200 : List Cond := u_ws RX20 TX20 2
theorem nmX20 : ∀ a, a < 2 → ∀ b, b < 2 → a ≠ b → (TX20 a).2.1 ≠ (TX20 b).2.1 := by decide +kernel
theorem tyX20_ok : ∀ k, k < 2 → parseFieldDescriptor (TX20 k).2.2.1 = some (tyX20 k) := by decide +kernel
theorem in_X20 : ∀ w ∈ wsX200, w ∈ lw_all := lw_in wsX200 [1680, 1682] (by decide +kernel) (by decide +kernel)
def TX21 : u_T := fun k => match k with
  | _ => ("GardenChess$Not", "test", "LGardenChess$Test;", true)
def tyX21 : Nat → FieldType := fun k => match k with
  | _ => .object "GardenChess$Test"
abbrev wsX210 : List Cond := u_ws RX21 TX21 1
theorem nmX21 : ∀ a, a < 1 → ∀ b, b < 1 → a ≠ b → (TX21 a).2.1 ≠ (TX21 b).2.1 := by decide +kernel
theorem tyX21_ok : ∀ k, k < 1 → parseFieldDescriptor (TX21 k).2.2.1 = some (tyX21 k) := by decide +kernel
theorem in_X21 : ∀ w ∈ wsX210, w ∈ lw_all := lw_in wsX210 [1701] (by decide +kernel) (by decide +kernel)
def TX22 : u_T := fun _ => ("", "", "", false)
def tyX22 : Nat → FieldType := fun _ => .int
def TX23 : u_T := fun k => match k with
  | 0 => ("GardenChess$Than", "a", "LGardenChess$Value;", true)
  | 1 => ("GardenChess$Than", "b", "LGardenChess$Value;", true)
  | _ => ("GardenChess$Than", "sign", "I", true)
def tyX23 : Nat → FieldType := fun k => match k with
  | 0 => .object "GardenChess$Value"
  | 1 => .object "GardenChess$Value"
  | _ => .int
abbrev wsX230 : List Cond := u_ws RX23 TX23 3
theorem nmX23 : ∀ a, a < 3 → ∀ b, b < 3 → a ≠ b → (TX23 a).2.1 ≠ (TX23 b).2.1 := by decide +kernel
theorem tyX23_ok : ∀ k, k < 3 → parseFieldDescriptor (TX23 k).2.2.1 = some (tyX23 k) := by decide +kernel
theorem in_X23 : ∀ w ∈ wsX230, w ∈ lw_all := lw_in wsX230 [1721, 1723, 1725] (by decide +kernel) (by decide +kernel)
def gcl : List vw_C := [(RX0, TX0, 25), (RX1, TX1, 10), (RJ2, TJ2, 3), (RX2, TX2, 8), (RX3, TX3, 8), (RX4, TX4, 1), (RX5, TX5, 3), (RX6, TX6, 12), (RX7, TX7, 122), (RJ8, TJ8, 4), (RJ15, TJ15, 4), (RX9, TX9, 5), (RX10, TX10, 5), (RX11, TX11, 4), (RX13, TX13, 2), (RX14, TX14, 3), (RX15, TX15, 1), (RX16, TX16, 1), (RX17, TX17, 3), (RX18, TX18, 5), (RX20, TX20, 2), (RX21, TX21, 1), (RX22, TX22, 0), (RX23, TX23, 3)]
def gty (ci : Nat) : Nat → FieldType := match ci with
  | 0 => tyX0
  | 1 => tyX1
  | 2 => tyJ2
  | 3 => tyX2
  | 4 => tyX3
  | 5 => tyX4
  | 6 => tyX5
  | 7 => tyX6
  | 8 => tyX7
  | 9 => tyJ8
  | 10 => tyJ15
  | 11 => tyX9
  | 12 => tyX10
  | 13 => tyX11
  | 14 => tyX13
  | 15 => tyX14
  | 16 => tyX15
  | 17 => tyX16
  | 18 => tyX17
  | 19 => tyX18
  | 20 => tyX20
  | 21 => tyX21
  | 22 => tyX22
  | _ => tyX23
def ClsOk (ci : Nat) (r : vw_C) : Prop := (∀ w ∈ u_ws r.1 r.2.1 r.2.2, w ∈ lw_all) ∧ (∀ k, k < r.2.2 → parseFieldDescriptor (r.2.1 k).2.2.1 = some (gty ci k)) ∧ ∀ a, a < r.2.2 → ∀ b, b < r.2.2 → a ≠ b → (r.2.1 a).2.1 ≠ (r.2.1 b).2.1
theorem gcl_ok : ∀ (ci : Nat) (r : vw_C), gcl[ci]? = some r → ClsOk ci r := by
  intro ci r h
  match ci, h with
  | 0, h => cases h; exact ⟨in_X0, tyX0_ok, nmX0⟩
  | 1, h => cases h; exact ⟨in_X1, tyX1_ok, nmX1⟩
  | 2, h => cases h; exact ⟨in_J2, tyJ2_ok, nmJ2⟩
  | 3, h => cases h; exact ⟨in_X2, tyX2_ok, nmX2⟩
  | 4, h => cases h; exact ⟨in_X3, tyX3_ok, nmX3⟩
  | 5, h => cases h; exact ⟨in_X4, tyX4_ok, nmX4⟩
  | 6, h => cases h; exact ⟨in_X5, tyX5_ok, nmX5⟩
  | 7, h => cases h; exact ⟨in_X6, tyX6_ok, nmX6⟩
  | 8, h => cases h; exact ⟨in_X7, tyX7_ok, nmX7⟩
  | 9, h => cases h; exact ⟨in_J8, tyJ8_ok, nmJ8⟩
  | 10, h => cases h; exact ⟨in_J15, tyJ15_ok, nmJ15⟩
  | 11, h => cases h; exact ⟨in_X9, tyX9_ok, nmX9⟩
  | 12, h => cases h; exact ⟨in_X10, tyX10_ok, nmX10⟩
  | 13, h => cases h; exact ⟨in_X11, tyX11_ok, nmX11⟩
  | 14, h => cases h; exact ⟨in_X13, tyX13_ok, nmX13⟩
  | 15, h => cases h; exact ⟨in_X14, tyX14_ok, nmX14⟩
  | 16, h => cases h; exact ⟨in_X15, tyX15_ok, nmX15⟩
  | 17, h => cases h; exact ⟨in_X16, tyX16_ok, nmX16⟩
  | 18, h => cases h; exact ⟨in_X17, tyX17_ok, nmX17⟩
  | 19, h => cases h; exact ⟨in_X18, tyX18_ok, nmX18⟩
  | 20, h => cases h; exact ⟨in_X20, tyX20_ok, nmX20⟩
  | 21, h => cases h; exact ⟨in_X21, tyX21_ok, nmX21⟩
  | 22, h => cases h; exact ⟨fun w hw => by simp [u_ws] at hw, fun k hk => absurd hk (Nat.not_lt_zero k), fun a ha => absurd ha (Nat.not_lt_zero a)⟩
  | 23, h => cases h; exact ⟨in_X23, tyX23_ok, nmX23⟩
  | n + 24, h => simp [gcl] at h
/-- String constants: class, entry, text, pointer -/
def gss : List (String × Nat × String × Int) := [("GardenChess", 421, "taken", -10), ("GardenChess", 422, "check", -12), ("GardenChess", 423, "off", -14), ("GardenChess", 424, "day", -16), ("GardenChess", 425, "number", -18), ("GardenChess", 427, "column", -20), ("GardenChess", 428, "row", -22), ("GardenChess", 429, "side", -24), ("GardenChess", 430, "worth", -26), ("GardenChess", 431, "reach", -28), ("GardenChess", 432, "moves", -30), ("GardenChess", 440, "first", -32), ("GardenChess", 442, "last", -34), ("GardenChess", 444, "often", -36), ("GardenChess", 446, "total", -38), ("GardenChess", 448, "most", -40), ("GardenChess", 450, "least", -42), ("GardenChess", 455, "board", -44), ("GardenChess", 456, "by", -46), ("GardenChess", 458, "white", -48), ("GardenChess", 460, "black", -50), ("GardenChess", 462, "kind", -52), ("GardenChess", 463, "ways", -54), ("GardenChess", 464, "crown", -56), ("GardenChess", 466, "man", -58), ("GardenChess", 467, "is", -60), ("GardenChess", 468, "of", -62), ("GardenChess", 469, "at", -64), ("GardenChess", 471, "field", -66), ("GardenChess", 473, "bears", -68), ("GardenChess", 474, "harm", -70), ("GardenChess", 476, "grows", -72), ("GardenChess", 478, "sleepy", -74), ("GardenChess", 479, "or", -76), ("GardenChess", 481, "and", -78), ("GardenChess", 483, "not", -80), ("GardenChess", 485, "all", -82), ("GardenChess", 486, "min", -84), ("GardenChess", 487, "max", -86), ("GardenChess$Reader", 122, "board", -44), ("GardenChess$Reader", 127, "by", -46), ("GardenChess$Reader", 139, "white", -48), ("GardenChess$Reader", 141, "black", -50), ("GardenChess$Reader", 161, "kind", -52), ("GardenChess$Reader", 162, "man", -58), ("GardenChess$Reader", 164, "field", -66), ("GardenChess$Reader", 166, "harm", -70), ("GardenChess$Reader", 168, "grows", -72), ("GardenChess$Reader", 170, "sleepy", -74), ("GardenChess$Reader", 183, "ways", -54), ("GardenChess$Reader", 185, "reach", -28), ("GardenChess$Reader", 189, "worth", -26), ("GardenChess$Reader", 194, "crown", -56), ("GardenChess$Reader", 214, "at", -64), ("GardenChess$Reader", 217, "bears", -68), ("GardenChess$Reader", 234, "is", -60), ("GardenChess$Reader", 239, "of", -62), ("GardenChess$Reader", 298, "min", -84), ("GardenChess$Reader", 300, "max", -86), ("GardenChess$Reader", 314, "or", -76), ("GardenChess$Reader", 319, "and", -78), ("GardenChess$Reader", 324, "not", -80), ("GardenChess$Reader", 331, "all", -82), ("java/lang/String", 7, "", -88)]
/-- statics: class, name, descriptor, kind of value (0 int, 2 reference), value -/
def gsz : List (String × String × String × Int × Int) := [("GardenChess", "OWN", "[Ljava/lang/String;", 2, -300), ("GardenChess", "ASKED", "[Ljava/lang/String;", 2, -301), ("GardenChess", "LOOKED", "[Ljava/lang/String;", 2, -302), ("GardenChess", "TOLD_OF", "[Ljava/lang/String;", 2, -303), ("java/lang/String", "COMPACT_STRINGS", "Z", 0, 1), ("java/util/ArrayList", "DEFAULTCAPACITY_EMPTY_ELEMENTDATA", "[Ljava/lang/Object;", 2, -304), ("java/lang/Throwable", "UNASSIGNED_STACK", "[Ljava/lang/StackTraceElement;", 2, -305), ("java/lang/Throwable", "SUPPRESSED_SENTINEL", "Ljava/util/List;", 2, -306), ("jdk/internal/util/Preconditions", "SIOOBE_FORMATTER", "Ljava/util/function/BiFunction;", 2, -307)]
