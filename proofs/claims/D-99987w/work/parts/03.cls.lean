set_option maxRecDepth 100000
def RJ0 : String := "java/util/AbstractCollection"
def RJ1 : String := "java/util/AbstractList"
def RJ10 : String := "jdk/internal/util/ArraysSupport"
def RJ11 : String := "java/lang/Math"
def RJ12 : String := "java/lang/StringLatin1"
def RJ13 : String := "java/lang/Throwable"
def TJ13 : u_T := fun k => match k with
  | 0 => ("java/lang/Throwable", "cause", "Ljava/lang/Throwable;", false)
  | 1 => ("java/lang/Throwable", "stackTrace", "[Ljava/lang/StackTraceElement;", false)
  | 2 => ("java/lang/Throwable", "suppressedExceptions", "Ljava/util/List;", false)
  | 3 => ("java/lang/Throwable", "detailMessage", "Ljava/lang/String;", false)
  | _ => ("java/lang/Throwable", "backtrace", "Ljava/lang/Object;", false)
def tyJ13 : Nat → FieldType := fun k => match k with
  | 0 => .object "java/lang/Throwable"
  | 1 => .array (.object "java/lang/StackTraceElement")
  | 2 => .object "java/util/List"
  | 3 => .object "java/lang/String"
  | _ => .object "java/lang/Object"
abbrev wsJ130 : List Cond := u_ws RJ13 TJ13 5
theorem nmJ13 : ∀ a, a < 5 → ∀ b, b < 5 → a ≠ b → (TJ13 a).2.1 ≠ (TJ13 b).2.1 := by decide +kernel
theorem tyJ13_ok : ∀ k, k < 5 → parseFieldDescriptor (TJ13 k).2.2.1 = some (tyJ13 k) := by decide +kernel
def RJ14 : String := "java/lang/Exception"
def RJ15 : String := "java/lang/RuntimeException"
def RJ16 : String := "java/util/NoSuchElementException"
def TJ16 : u_T := fun k => match k with
  | 0 => ("java/lang/Throwable", "cause", "Ljava/lang/Throwable;", false)
  | 1 => ("java/lang/Throwable", "stackTrace", "[Ljava/lang/StackTraceElement;", false)
  | 2 => ("java/lang/Throwable", "suppressedExceptions", "Ljava/util/List;", false)
  | 3 => ("java/lang/Throwable", "detailMessage", "Ljava/lang/String;", false)
  | 4 => ("java/lang/Throwable", "backtrace", "Ljava/lang/Object;", false)
  | _ => ("java/lang/Throwable", "depth", "I", false)
def tyJ16 : Nat → FieldType := fun k => match k with
  | 0 => .object "java/lang/Throwable"
  | 1 => .array (.object "java/lang/StackTraceElement")
  | 2 => .object "java/util/List"
  | 3 => .object "java/lang/String"
  | 4 => .object "java/lang/Object"
  | _ => .int
abbrev wsJ160 : List Cond := u_ws RJ16 TJ16 6
theorem nmJ16 : ∀ a, a < 6 → ∀ b, b < 6 → a ≠ b → (TJ16 a).2.1 ≠ (TJ16 b).2.1 := by decide +kernel
theorem tyJ16_ok : ∀ k, k < 6 → parseFieldDescriptor (TJ16 k).2.2.1 = some (tyJ16 k) := by decide +kernel
def RJ17 : String := "java/lang/Integer"
def RJ18 : String := "java/lang/Object"
def RJ2 : String := "java/util/ArrayList"
def TJ2 : u_T := fun k => match k with
  | 0 => ("java/util/AbstractList", "modCount", "I", false)
  | 1 => ("java/util/ArrayList", "elementData", "[Ljava/lang/Object;", false)
  | _ => ("java/util/ArrayList", "size", "I", false)
def tyJ2 : Nat → FieldType := fun k => match k with
  | 0 => .int
  | 1 => .array (.object "java/lang/Object")
  | _ => .int
abbrev wsJ20 : List Cond := u_ws RJ2 TJ2 3
theorem nmJ2 : ∀ a, a < 3 → ∀ b, b < 3 → a ≠ b → (TJ2 a).2.1 ≠ (TJ2 b).2.1 := by decide +kernel
theorem tyJ2_ok : ∀ k, k < 3 → parseFieldDescriptor (TJ2 k).2.2.1 = some (tyJ2 k) := by decide +kernel
def RJ3 : String := "java/util/Arrays"
def RJ4 : String := "java/util/Objects"
def RJ5 : String := "jdk/internal/util/Preconditions"
def RJ6 : String := "java/lang/AbstractStringBuilder"
def RJ7 : String := "java/lang/StringBuilder"
def TJ7 : u_T := fun k => match k with
  | 0 => ("java/lang/AbstractStringBuilder", "value", "[B", false)
  | 1 => ("java/lang/AbstractStringBuilder", "coder", "B", false)
  | 2 => ("java/lang/AbstractStringBuilder", "maybeLatin1", "Z", false)
  | _ => ("java/lang/AbstractStringBuilder", "count", "I", false)
def tyJ7 : Nat → FieldType := fun k => match k with
  | 0 => .array .byte
  | 1 => .byte
  | 2 => .boolean
  | _ => .int
abbrev wsJ70 : List Cond := u_ws RJ7 TJ7 4
theorem nmJ7 : ∀ a, a < 4 → ∀ b, b < 4 → a ≠ b → (TJ7 a).2.1 ≠ (TJ7 b).2.1 := by decide +kernel
theorem tyJ7_ok : ∀ k, k < 4 → parseFieldDescriptor (TJ7 k).2.2.1 = some (tyJ7 k) := by decide +kernel
def RJ8 : String := "java/lang/String"
def TJ8 : u_T := fun k => match k with
  | 0 => ("java/lang/String", "value", "[B", true)
  | 1 => ("java/lang/String", "coder", "B", true)
  | 2 => ("java/lang/String", "hash", "I", false)
  | _ => ("java/lang/String", "hashIsZero", "Z", false)
def tyJ8 : Nat → FieldType := fun k => match k with
  | 0 => .array .byte
  | 1 => .byte
  | 2 => .int
  | _ => .boolean
abbrev wsJ80 : List Cond := u_ws RJ8 TJ8 4
theorem nmJ8 : ∀ a, a < 4 → ∀ b, b < 4 → a ≠ b → (TJ8 a).2.1 ≠ (TJ8 b).2.1 := by decide +kernel
theorem tyJ8_ok : ∀ k, k < 4 → parseFieldDescriptor (TJ8 k).2.2.1 = some (tyJ8 k) := by decide +kernel
def RJ9 : String := "java/lang/StringUTF16"
def RX0 : String := "StrangerMarketLaw"
def RX1 : String := "StrangerMarket"
def TX1 : u_T := fun k => match k with
  | 0 => ("StrangerMarket", "tape", "[B", true)
  | 1 => ("StrangerMarket", "taped", "I", false)
  | 2 => ("StrangerMarket", "fault", "I", false)
  | 3 => ("StrangerMarket", "county", "LStrangerMarket$County;", false)
  | 4 => ("StrangerMarket", "now", "LStrangerMarket$Market;", true)
  | 5 => ("StrangerMarket", "trial", "LStrangerMarket$Market;", true)
  | 6 => ("StrangerMarket", "sentence", "LStrangerMarket$Cond;", false)
  | 7 => ("StrangerMarket", "before", "[LStrangerMarket$Market;", true)
  | 8 => ("StrangerMarket", "befores", "I", false)
  | 9 => ("StrangerMarket", "flow", "[I", true)
  | 10 => ("StrangerMarket", "left", "[I", true)
  | 11 => ("StrangerMarket", "asked", "I", false)
  | 12 => ("StrangerMarket", "ask", "I", false)
  | 13 => ("StrangerMarket", "serving", "I", false)
  | 14 => ("StrangerMarket", "row", "[I", true)
  | 15 => ("StrangerMarket", "chain", "[I", true)
  | 16 => ("StrangerMarket", "chains", "I", false)
  | 17 => ("StrangerMarket", "parting", "I", false)
  | 18 => ("StrangerMarket", "face", "Ljava/lang/String;", false)
  | 19 => ("StrangerMarket", "told", "[I", true)
  | _ => ("StrangerMarket", "kept", "[LStrangerMarket$Kept;", true)
def tyX1 : Nat → FieldType := fun k => match k with
  | 0 => .array .byte
  | 1 => .int
  | 2 => .int
  | 3 => .object "StrangerMarket$County"
  | 4 => .object "StrangerMarket$Market"
  | 5 => .object "StrangerMarket$Market"
  | 6 => .object "StrangerMarket$Cond"
  | 7 => .array (.object "StrangerMarket$Market")
  | 8 => .int
  | 9 => .array .int
  | 10 => .array .int
  | 11 => .int
  | 12 => .int
  | 13 => .int
  | 14 => .array .int
  | 15 => .array .int
  | 16 => .int
  | 17 => .int
  | 18 => .object "java/lang/String"
  | 19 => .array .int
  | _ => .array (.object "StrangerMarket$Kept")
abbrev wsX10 : List Cond := u_ws RX1 TX1 21
theorem nmX1 : ∀ a, a < 21 → ∀ b, b < 21 → a ≠ b → (TX1 a).2.1 ≠ (TX1 b).2.1 := by decide +kernel
theorem tyX1_ok : ∀ k, k < 21 → parseFieldDescriptor (TX1 k).2.2.1 = some (tyX1 k) := by decide +kernel
def RX10 : String := "StrangerMarket$Person"
def TX10 : u_T := fun k => match k with
  | 0 => ("StrangerMarket$Named", "name", "Ljava/lang/String;", true)
  | 1 => ("StrangerMarket$Person", "coins", "I", true)
  | 2 => ("StrangerMarket$Person", "knows", "I", false)
  | 3 => ("StrangerMarket$Person", "foes", "I", false)
  | 4 => ("StrangerMarket$Person", "stock", "[I", true)
  | 5 => ("StrangerMarket$Person", "price", "[I", true)
  | _ => ("StrangerMarket$Person", "want", "[I", true)
def tyX10 : Nat → FieldType := fun k => match k with
  | 0 => .object "java/lang/String"
  | 1 => .int
  | 2 => .int
  | 3 => .int
  | 4 => .array .int
  | 5 => .array .int
  | _ => .array .int
abbrev wsX100 : List Cond := u_ws RX10 TX10 7
theorem nmX10 : ∀ a, a < 7 → ∀ b, b < 7 → a ≠ b → (TX10 a).2.1 ≠ (TX10 b).2.1 := by decide +kernel
theorem tyX10_ok : ∀ k, k < 7 → parseFieldDescriptor (TX10 k).2.2.1 = some (tyX10 k) := by decide +kernel
def RX11 : String := "StrangerMarket$Act"
def RX12 : String := "StrangerMarket$WithOther"
def RX13 : String := "StrangerMarket$Buys"
def TX13 : u_T := fun k => match k with
  | 0 => ("StrangerMarket$WithOther", "other", "I", true)
  | 1 => ("StrangerMarket$Act", "person", "I", true)
  | _ => ("StrangerMarket$Buys", "good", "I", true)
def tyX13 : Nat → FieldType := fun k => match k with
  | 0 => .int
  | 1 => .int
  | _ => .int
abbrev wsX130 : List Cond := u_ws RX13 TX13 3
theorem nmX13 : ∀ a, a < 3 → ∀ b, b < 3 → a ≠ b → (TX13 a).2.1 ≠ (TX13 b).2.1 := by decide +kernel
theorem tyX13_ok : ∀ k, k < 3 → parseFieldDescriptor (TX13 k).2.2.1 = some (tyX13 k) := by decide +kernel
def RX14 : String := "StrangerMarket$Nods"
def TX14 : u_T := fun k => match k with
  | 0 => ("StrangerMarket$WithOther", "other", "I", true)
  | _ => ("StrangerMarket$Act", "person", "I", true)
def tyX14 : Nat → FieldType := fun k => match k with
  | 0 => .int
  | _ => .int
abbrev wsX140 : List Cond := u_ws RX14 TX14 2
theorem nmX14 : ∀ a, a < 2 → ∀ b, b < 2 → a ≠ b → (TX14 a).2.1 ≠ (TX14 b).2.1 := by decide +kernel
theorem tyX14_ok : ∀ k, k < 2 → parseFieldDescriptor (TX14 k).2.2.1 = some (tyX14 k) := by decide +kernel
def RX15 : String := "StrangerMarket$Tells"
def TX15 : u_T := fun k => match k with
  | 0 => ("StrangerMarket$WithOther", "other", "I", true)
  | 1 => ("StrangerMarket$Act", "person", "I", true)
  | _ => ("StrangerMarket$Tells", "third", "I", true)
def tyX15 : Nat → FieldType := fun k => match k with
  | 0 => .int
  | 1 => .int
  | _ => .int
abbrev wsX150 : List Cond := u_ws RX15 TX15 3
theorem nmX15 : ∀ a, a < 3 → ∀ b, b < 3 → a ≠ b → (TX15 a).2.1 ≠ (TX15 b).2.1 := by decide +kernel
theorem tyX15_ok : ∀ k, k < 3 → parseFieldDescriptor (TX15 k).2.2.1 = some (tyX15 k) := by decide +kernel
def RX16 : String := "StrangerMarket$Veils"
def TX16 : u_T := fun k => match k with
  | _ => ("StrangerMarket$Act", "person", "I", true)
def tyX16 : Nat → FieldType := fun k => match k with
  | _ => .int
abbrev wsX160 : List Cond := u_ws RX16 TX16 1
theorem nmX16 : ∀ a, a < 1 → ∀ b, b < 1 → a ≠ b → (TX16 a).2.1 ≠ (TX16 b).2.1 := by decide +kernel
theorem tyX16_ok : ∀ k, k < 1 → parseFieldDescriptor (TX16 k).2.2.1 = some (tyX16 k) := by decide +kernel
def RX17 : String := "StrangerMarket$BookReader"
def TX17 : u_T := fun k => match k with
  | 0 => ("StrangerMarket$Reader", "tape", "[B", true)
  | 1 => ("StrangerMarket$Reader", "size", "I", true)
  | 2 => ("StrangerMarket$Reader", "limit", "I", true)
  | 3 => ("StrangerMarket$Reader", "to", "I", false)
  | 4 => ("StrangerMarket$Reader", "kind", "I", false)
  | 5 => ("StrangerMarket$Reader", "from", "I", false)
  | 6 => ("StrangerMarket$Reader", "number", "I", false)
  | 7 => ("StrangerMarket$Reader", "sign", "I", false)
  | 8 => ("StrangerMarket$Reader", "word", "Ljava/lang/String;", false)
  | 9 => ("StrangerMarket$BookReader", "c", "LStrangerMarket$County;", true)
  | _ => ("StrangerMarket$BookReader", "acts", "Ljava/util/ArrayList;", true)
def tyX17 : Nat → FieldType := fun k => match k with
  | 0 => .array .byte
  | 1 => .int
  | 2 => .int
  | 3 => .int
  | 4 => .int
  | 5 => .int
  | 6 => .int
  | 7 => .int
  | 8 => .object "java/lang/String"
  | 9 => .object "StrangerMarket$County"
  | _ => .object "java/util/ArrayList"
abbrev wsX170 : List Cond := u_ws RX17 TX17 11
theorem nmX17 : ∀ a, a < 11 → ∀ b, b < 11 → a ≠ b → (TX17 a).2.1 ≠ (TX17 b).2.1 := by decide +kernel
theorem tyX17_ok : ∀ k, k < 11 → parseFieldDescriptor (TX17 k).2.2.1 = some (tyX17 k) := by decide +kernel
def RX18 : String := "StrangerMarket$Passes"
def TX18 : u_T := fun k => match k with
  | 0 => ("StrangerMarket$Act", "person", "I", true)
  | _ => ("StrangerMarket$Passes", "many", "I", true)
def tyX18 : Nat → FieldType := fun k => match k with
  | 0 => .int
  | _ => .int
abbrev wsX180 : List Cond := u_ws RX18 TX18 2
theorem nmX18 : ∀ a, a < 2 → ∀ b, b < 2 → a ≠ b → (TX18 a).2.1 ≠ (TX18 b).2.1 := by decide +kernel
theorem tyX18_ok : ∀ k, k < 2 → parseFieldDescriptor (TX18 k).2.2.1 = some (tyX18 k) := by decide +kernel
def RX19 : String := "StrangerMarket$SentenceReader"
def TX19 : u_T := fun k => match k with
  | 0 => ("StrangerMarket$Reader", "tape", "[B", true)
  | 1 => ("StrangerMarket$Reader", "size", "I", true)
  | 2 => ("StrangerMarket$Reader", "limit", "I", true)
  | 3 => ("StrangerMarket$Reader", "to", "I", false)
  | 4 => ("StrangerMarket$Reader", "kind", "I", false)
  | 5 => ("StrangerMarket$Reader", "from", "I", false)
  | 6 => ("StrangerMarket$Reader", "number", "I", false)
  | 7 => ("StrangerMarket$Reader", "sign", "I", false)
  | 8 => ("StrangerMarket$Reader", "word", "Ljava/lang/String;", false)
  | 9 => ("StrangerMarket$SentenceReader", "c", "LStrangerMarket$County;", true)
  | 10 => ("StrangerMarket$SentenceReader", "ones", "I", false)
  | _ => ("StrangerMarket$SentenceReader", "within", "I", false)
def tyX19 : Nat → FieldType := fun k => match k with
  | 0 => .array .byte
  | 1 => .int
  | 2 => .int
  | 3 => .int
  | 4 => .int
  | 5 => .int
  | 6 => .int
  | 7 => .int
  | 8 => .object "java/lang/String"
  | 9 => .object "StrangerMarket$County"
  | 10 => .int
  | _ => .int
abbrev wsX190 : List Cond := u_ws RX19 TX19 12
theorem nmX19 : ∀ a, a < 12 → ∀ b, b < 12 → a ≠ b → (TX19 a).2.1 ≠ (TX19 b).2.1 := by decide +kernel
theorem tyX19_ok : ∀ k, k < 12 → parseFieldDescriptor (TX19 k).2.2.1 = some (tyX19 k) := by decide +kernel
def RX2 : String := "StrangerMarket$County"
def TX2 : u_T := fun k => match k with
  | 0 => ("StrangerMarket$County", "lines", "I", false)
  | 1 => ("StrangerMarket$County", "deals", "I", false)
  | 2 => ("StrangerMarket$County", "veils", "I", false)
  | 3 => ("StrangerMarket$County", "bell", "I", false)
  | 4 => ("StrangerMarket$County", "persons", "Ljava/util/ArrayList;", true)
  | _ => ("StrangerMarket$County", "goods", "Ljava/util/ArrayList;", true)
def tyX2 : Nat → FieldType := fun k => match k with
  | 0 => .int
  | 1 => .int
  | 2 => .int
  | 3 => .int
  | 4 => .object "java/util/ArrayList"
  | _ => .object "java/util/ArrayList"
abbrev wsX20 : List Cond := u_ws RX2 TX2 6
theorem nmX2 : ∀ a, a < 6 → ∀ b, b < 6 → a ≠ b → (TX2 a).2.1 ≠ (TX2 b).2.1 := by decide +kernel
theorem tyX2_ok : ∀ k, k < 6 → parseFieldDescriptor (TX2 k).2.2.1 = some (tyX2 k) := by decide +kernel
def RX20 : String := "StrangerMarket$Cond"
def RX21 : String := "StrangerMarket$Not"
def TX21 : u_T := fun k => match k with
  | _ => ("StrangerMarket$Not", "c", "LStrangerMarket$Cond;", true)
def tyX21 : Nat → FieldType := fun k => match k with
  | _ => .object "StrangerMarket$Cond"
abbrev wsX210 : List Cond := u_ws RX21 TX21 1
theorem nmX21 : ∀ a, a < 1 → ∀ b, b < 1 → a ≠ b → (TX21 a).2.1 ≠ (TX21 b).2.1 := by decide +kernel
theorem tyX21_ok : ∀ k, k < 1 → parseFieldDescriptor (TX21 k).2.2.1 = some (tyX21 k) := by decide +kernel
def RX22 : String := "StrangerMarket$Of"
def TX22 : u_T := fun k => match k with
  | 0 => ("StrangerMarket$Of", "knows", "Z", true)
  | _ => ("StrangerMarket$Of", "which", "I", true)
def tyX22 : Nat → FieldType := fun k => match k with
  | 0 => .boolean
  | _ => .int
abbrev wsX220 : List Cond := u_ws RX22 TX22 2
theorem nmX22 : ∀ a, a < 2 → ∀ b, b < 2 → a ≠ b → (TX22 a).2.1 ≠ (TX22 b).2.1 := by decide +kernel
theorem tyX22_ok : ∀ k, k < 2 → parseFieldDescriptor (TX22 k).2.2.1 = some (tyX22 k) := by decide +kernel
def RX23 : String := "StrangerMarket$IsSo"
def TX23 : u_T := fun k => match k with
  | _ => ("StrangerMarket$IsSo", "what", "I", true)
def tyX23 : Nat → FieldType := fun k => match k with
  | _ => .int
abbrev wsX230 : List Cond := u_ws RX23 TX23 1
theorem nmX23 : ∀ a, a < 1 → ∀ b, b < 1 → a ≠ b → (TX23 a).2.1 ≠ (TX23 b).2.1 := by decide +kernel
theorem tyX23_ok : ∀ k, k < 1 → parseFieldDescriptor (TX23 k).2.2.1 = some (tyX23 k) := by decide +kernel
def RX24 : String := "StrangerMarket$Than"
def TX24 : u_T := fun k => match k with
  | 0 => ("StrangerMarket$Than", "what", "I", true)
  | 1 => ("StrangerMarket$Than", "sign", "I", true)
  | _ => ("StrangerMarket$Than", "number", "I", true)
def tyX24 : Nat → FieldType := fun k => match k with
  | 0 => .int
  | 1 => .int
  | _ => .int
abbrev wsX240 : List Cond := u_ws RX24 TX24 3
theorem nmX24 : ∀ a, a < 3 → ∀ b, b < 3 → a ≠ b → (TX24 a).2.1 ≠ (TX24 b).2.1 := by decide +kernel
theorem tyX24_ok : ∀ k, k < 3 → parseFieldDescriptor (TX24 k).2.2.1 = some (tyX24 k) := by decide +kernel
def RX25 : String := "StrangerMarket$Two"
def TX25 : u_T := fun k => match k with
  | 0 => ("StrangerMarket$Two", "one", "LStrangerMarket$Cond;", true)
  | 1 => ("StrangerMarket$Two", "other", "LStrangerMarket$Cond;", true)
  | _ => ("StrangerMarket$Two", "both", "Z", true)
def tyX25 : Nat → FieldType := fun k => match k with
  | 0 => .object "StrangerMarket$Cond"
  | 1 => .object "StrangerMarket$Cond"
  | _ => .boolean
abbrev wsX250 : List Cond := u_ws RX25 TX25 3
theorem nmX25 : ∀ a, a < 3 → ∀ b, b < 3 → a ≠ b → (TX25 a).2.1 ≠ (TX25 b).2.1 := by decide +kernel
theorem tyX25_ok : ∀ k, k < 3 → parseFieldDescriptor (TX25 k).2.2.1 = some (tyX25 k) := by decide +kernel
def RX3 : String := "StrangerMarket$Market"
def TX3 : u_T := fun k => match k with
  | 0 => ("StrangerMarket$Market", "c", "LStrangerMarket$County;", false)
  | 1 => ("StrangerMarket$Market", "day", "I", false)
  | 2 => ("StrangerMarket$Market", "bought", "I", false)
  | 3 => ("StrangerMarket$Market", "veils", "I", false)
  | 4 => ("StrangerMarket$Market", "home", "I", false)
  | 5 => ("StrangerMarket$Market", "veiled", "I", false)
  | 6 => ("StrangerMarket$Market", "coins", "[I", true)
  | 7 => ("StrangerMarket$Market", "hunger", "[I", true)
  | 8 => ("StrangerMarket$Market", "met", "[I", true)
  | 9 => ("StrangerMarket$Market", "deals", "[I", true)
  | 10 => ("StrangerMarket$Market", "stock", "[I", true)
  | 11 => ("StrangerMarket$Market", "want", "[I", true)
  | _ => ("StrangerMarket$Market", "seed", "I", false)
def tyX3 : Nat → FieldType := fun k => match k with
  | 0 => .object "StrangerMarket$County"
  | 1 => .int
  | 2 => .int
  | 3 => .int
  | 4 => .int
  | 5 => .int
  | 6 => .array .int
  | 7 => .array .int
  | 8 => .array .int
  | 9 => .array .int
  | 10 => .array .int
  | 11 => .array .int
  | _ => .int
abbrev wsX30 : List Cond := u_ws RX3 TX3 13
theorem nmX3 : ∀ a, a < 13 → ∀ b, b < 13 → a ≠ b → (TX3 a).2.1 ≠ (TX3 b).2.1 := by decide +kernel
theorem tyX3_ok : ∀ k, k < 13 → parseFieldDescriptor (TX3 k).2.2.1 = some (tyX3 k) := by decide +kernel
def RX4 : String := "StrangerMarket$Kept"
def TX4 : u_T := fun k => match k with
  | 0 => ("StrangerMarket$Kept", "county", "LStrangerMarket$County;", false)
  | 1 => ("StrangerMarket$Kept", "sentence", "LStrangerMarket$Cond;", false)
  | _ => ("StrangerMarket$Kept", "market", "LStrangerMarket$Market;", true)
def tyX4 : Nat → FieldType := fun k => match k with
  | 0 => .object "StrangerMarket$County"
  | 1 => .object "StrangerMarket$Cond"
  | _ => .object "StrangerMarket$Market"
abbrev wsX40 : List Cond := u_ws RX4 TX4 3
theorem nmX4 : ∀ a, a < 3 → ∀ b, b < 3 → a ≠ b → (TX4 a).2.1 ≠ (TX4 b).2.1 := by decide +kernel
theorem tyX4_ok : ∀ k, k < 3 → parseFieldDescriptor (TX4 k).2.2.1 = some (tyX4 k) := by decide +kernel
def RX5 : String := "StrangerMarketModel"
def TX5 : u_T := fun k => match k with
  | 0 => ("StrangerMarketModel", "thrown", "I", false)
  | 1 => ("StrangerMarketModel", "tape", "[B", true)
  | 2 => ("StrangerMarketModel", "length", "I", false)
  | 3 => ("StrangerMarketModel", "size", "I", false)
  | 4 => ("StrangerMarketModel", "p", "I", false)
  | 5 => ("StrangerMarketModel", "limit", "I", false)
  | 6 => ("StrangerMarketModel", "s", "[I", true)
  | 7 => ("StrangerMarketModel", "h", "[I", true)
  | 8 => ("StrangerMarketModel", "read", "[I", true)
  | 9 => ("StrangerMarketModel", "names", "[J", true)
  | 10 => ("StrangerMarketModel", "reserved", "[J", true)
  | 11 => ("StrangerMarketModel", "token", "I", false)
  | 12 => ("StrangerMarketModel", "at", "I", false)
  | 13 => ("StrangerMarketModel", "span", "I", false)
  | 14 => ("StrangerMarketModel", "number", "I", false)
  | 15 => ("StrangerMarketModel", "fault", "I", false)
  | 16 => ("StrangerMarketModel", "faultAt", "I", false)
  | 17 => ("StrangerMarketModel", "word", "J", false)
  | 18 => ("StrangerMarketModel", "got", "I", false)
  | 19 => ("StrangerMarketModel", "lines", "I", false)
  | 20 => ("StrangerMarketModel", "onces", "I", false)
  | 21 => ("StrangerMarketModel", "undone", "[I", true)
  | 22 => ("StrangerMarketModel", "before", "[I", true)
  | 23 => ("StrangerMarketModel", "undoMany", "I", false)
  | 24 => ("StrangerMarketModel", "room", "[I", true)
  | 25 => ("StrangerMarketModel", "came", "[I", true)
  | 26 => ("StrangerMarketModel", "queue", "[I", true)
  | 27 => ("StrangerMarketModel", "askPerson", "I", false)
  | 28 => ("StrangerMarketModel", "hasWho", "Z", false)
  | 29 => ("StrangerMarketModel", "serveSet", "I", false)
  | 30 => ("StrangerMarketModel", "hasServe", "Z", false)
  | 31 => ("StrangerMarketModel", "steps", "[I", true)
  | 32 => ("StrangerMarketModel", "chainRow", "[I", true)
  | 33 => ("StrangerMarketModel", "chainMany", "I", false)
  | 34 => ("StrangerMarketModel", "partSet", "I", false)
  | 35 => ("StrangerMarketModel", "hasPart", "Z", false)
  | 36 => ("StrangerMarketModel", "text", "[B", true)
  | 37 => ("StrangerMarketModel", "textMany", "I", false)
  | 38 => ("StrangerMarketModel", "seed", "I", false)
  | 39 => ("StrangerMarketModel", "toldMany", "I", false)
  | 40 => ("StrangerMarketModel", "toldAt", "[I", true)
  | 41 => ("StrangerMarketModel", "hasTold", "Z", false)
  | 42 => ("StrangerMarketModel", "stack", "[I", true)
  | 43 => ("StrangerMarketModel", "codes", "I", false)
  | 44 => ("StrangerMarketModel", "ones", "I", false)
  | 45 => ("StrangerMarketModel", "top", "I", false)
  | 46 => ("StrangerMarketModel", "deep", "I", false)
  | 47 => ("StrangerMarketModel", "isWhole", "Z", false)
  | 48 => ("StrangerMarketModel", "truths", "[Z", true)
  | 49 => ("StrangerMarketModel", "imaged", "[I", true)
  | 50 => ("StrangerMarketModel", "namesKept", "[J", true)
  | _ => ("StrangerMarketModel", "areKept", "[Z", true)
def tyX5 : Nat → FieldType := fun k => match k with
  | 0 => .int
  | 1 => .array .byte
  | 2 => .int
  | 3 => .int
  | 4 => .int
  | 5 => .int
  | 6 => .array .int
  | 7 => .array .int
  | 8 => .array .int
  | 9 => .array .long
  | 10 => .array .long
  | 11 => .int
  | 12 => .int
  | 13 => .int
  | 14 => .int
  | 15 => .int
  | 16 => .int
  | 17 => .long
  | 18 => .int
  | 19 => .int
  | 20 => .int
  | 21 => .array .int
  | 22 => .array .int
  | 23 => .int
  | 24 => .array .int
  | 25 => .array .int
  | 26 => .array .int
  | 27 => .int
  | 28 => .boolean
  | 29 => .int
  | 30 => .boolean
  | 31 => .array .int
  | 32 => .array .int
  | 33 => .int
  | 34 => .int
  | 35 => .boolean
  | 36 => .array .byte
  | 37 => .int
  | 38 => .int
  | 39 => .int
  | 40 => .array .int
  | 41 => .boolean
  | 42 => .array .int
  | 43 => .int
  | 44 => .int
  | 45 => .int
  | 46 => .int
  | 47 => .boolean
  | 48 => .array .boolean
  | 49 => .array .int
  | 50 => .array .long
  | _ => .array .boolean
abbrev wsX50 : List Cond := u_ws RX5 TX5 52
theorem nmX5 : ∀ a, a < 52 → ∀ b, b < 52 → a ≠ b → (TX5 a).2.1 ≠ (TX5 b).2.1 := by decide +kernel
theorem tyX5_ok : ∀ k, k < 52 → parseFieldDescriptor (TX5 k).2.2.1 = some (tyX5 k) := by decide +kernel
def RX6 : String := "StrangerMarket$Reader"
def RX7 : String := "StrangerMarket$CountyReader"
def TX7 : u_T := fun k => match k with
  | 0 => ("StrangerMarket$Reader", "tape", "[B", true)
  | 1 => ("StrangerMarket$Reader", "size", "I", true)
  | 2 => ("StrangerMarket$Reader", "limit", "I", true)
  | 3 => ("StrangerMarket$Reader", "to", "I", false)
  | 4 => ("StrangerMarket$Reader", "kind", "I", false)
  | 5 => ("StrangerMarket$Reader", "from", "I", false)
  | 6 => ("StrangerMarket$Reader", "number", "I", false)
  | 7 => ("StrangerMarket$Reader", "sign", "I", false)
  | 8 => ("StrangerMarket$Reader", "word", "Ljava/lang/String;", false)
  | 9 => ("StrangerMarket$CountyReader", "c", "LStrangerMarket$County;", true)
  | _ => ("StrangerMarket$CountyReader", "onces", "I", false)
def tyX7 : Nat → FieldType := fun k => match k with
  | 0 => .array .byte
  | 1 => .int
  | 2 => .int
  | 3 => .int
  | 4 => .int
  | 5 => .int
  | 6 => .int
  | 7 => .int
  | 8 => .object "java/lang/String"
  | 9 => .object "StrangerMarket$County"
  | _ => .int
abbrev wsX70 : List Cond := u_ws RX7 TX7 11
theorem nmX7 : ∀ a, a < 11 → ∀ b, b < 11 → a ≠ b → (TX7 a).2.1 ≠ (TX7 b).2.1 := by decide +kernel
theorem tyX7_ok : ∀ k, k < 11 → parseFieldDescriptor (TX7 k).2.2.1 = some (tyX7 k) := by decide +kernel
def RX8 : String := "StrangerMarket$Fault"
def TX8 : u_T := fun k => match k with
  | 0 => ("java/lang/Throwable", "cause", "Ljava/lang/Throwable;", false)
  | 1 => ("java/lang/Throwable", "stackTrace", "[Ljava/lang/StackTraceElement;", false)
  | 2 => ("java/lang/Throwable", "suppressedExceptions", "Ljava/util/List;", false)
  | 3 => ("java/lang/Throwable", "detailMessage", "Ljava/lang/String;", false)
  | 4 => ("java/lang/Throwable", "backtrace", "Ljava/lang/Object;", false)
  | 5 => ("java/lang/Throwable", "depth", "I", false)
  | 6 => ("StrangerMarket$Fault", "kind", "I", true)
  | _ => ("StrangerMarket$Fault", "place", "I", true)
def tyX8 : Nat → FieldType := fun k => match k with
  | 0 => .object "java/lang/Throwable"
  | 1 => .array (.object "java/lang/StackTraceElement")
  | 2 => .object "java/util/List"
  | 3 => .object "java/lang/String"
  | 4 => .object "java/lang/Object"
  | 5 => .int
  | 6 => .int
  | _ => .int
abbrev wsX80 : List Cond := u_ws RX8 TX8 8
theorem nmX8 : ∀ a, a < 8 → ∀ b, b < 8 → a ≠ b → (TX8 a).2.1 ≠ (TX8 b).2.1 := by decide +kernel
theorem tyX8_ok : ∀ k, k < 8 → parseFieldDescriptor (TX8 k).2.2.1 = some (tyX8 k) := by decide +kernel
def RX9 : String := "StrangerMarket$Named"
def TX9 : u_T := fun k => match k with
  | _ => ("StrangerMarket$Named", "name", "Ljava/lang/String;", true)
def tyX9 : Nat → FieldType := fun k => match k with
  | _ => .object "java/lang/String"
abbrev wsX90 : List Cond := u_ws RX9 TX9 1
theorem nmX9 : ∀ a, a < 1 → ∀ b, b < 1 → a ≠ b → (TX9 a).2.1 ≠ (TX9 b).2.1 := by decide +kernel
theorem tyX9_ok : ∀ k, k < 1 → parseFieldDescriptor (TX9 k).2.2.1 = some (tyX9 k) := by decide +kernel
theorem in_J13 : ∀ w ∈ wsJ130, w ∈ lw_all := lw_in wsJ130 [760, 762, 764, 766, 768] (by decide +kernel) (by decide +kernel)

theorem in_J16 : ∀ w ∈ wsJ160, w ∈ lw_all := lw_in wsJ160 [1866, 1867, 1868, 1869, 1870, 1881] (by decide +kernel) (by decide +kernel)

theorem in_J2 : ∀ w ∈ wsJ20, w ∈ lw_all := lw_in wsJ20 [201, 197, 199] (by decide +kernel) (by decide +kernel)

theorem in_J7 : ∀ w ∈ wsJ70, w ∈ lw_all := lw_in wsJ70 [555, 557, 559, 561] (by decide +kernel) (by decide +kernel)

theorem in_J8 : ∀ w ∈ wsJ80, w ∈ lw_all := lw_in wsJ80 [707, 709, 711, 713] (by decide +kernel) (by decide +kernel)

theorem in_X1 : ∀ w ∈ wsX10, w ∈ lw_all := lw_in wsX10 [393, 395, 397, 399, 401, 403, 405, 407, 409, 411, 413, 415, 417, 419, 421, 423, 425, 427, 429, 431, 433] (by decide +kernel) (by decide +kernel)

theorem in_X10 : ∀ w ∈ wsX100, w ∈ lw_all := lw_in wsX100 [966, 954, 956, 958, 960, 962, 964] (by decide +kernel) (by decide +kernel)

theorem in_X13 : ∀ w ∈ wsX130, w ∈ lw_all := lw_in wsX130 [1200, 1202, 1198] (by decide +kernel) (by decide +kernel)

theorem in_X14 : ∀ w ∈ wsX140, w ∈ lw_all := lw_in wsX140 [1328, 1329] (by decide +kernel) (by decide +kernel)

theorem in_X15 : ∀ w ∈ wsX150, w ∈ lw_all := lw_in wsX150 [1356, 1357, 1354] (by decide +kernel) (by decide +kernel)

theorem in_X16 : ∀ w ∈ wsX160, w ∈ lw_all := lw_in wsX160 [1341] (by decide +kernel) (by decide +kernel)

theorem in_X17 : ∀ w ∈ wsX170, w ∈ lw_all := lw_in wsX170 [1556, 1557, 1558, 1559, 1560, 1561, 1562, 1563, 1564, 1552, 1554] (by decide +kernel) (by decide +kernel)

theorem in_X18 : ∀ w ∈ wsX180, w ∈ lw_all := lw_in wsX180 [1623, 1621] (by decide +kernel) (by decide +kernel)

theorem in_X19 : ∀ w ∈ wsX190, w ∈ lw_all := lw_in wsX190 [1659, 1660, 1661, 1662, 1663, 1664, 1665, 1666, 1667, 1653, 1655, 1657] (by decide +kernel) (by decide +kernel)

theorem in_X2 : ∀ w ∈ wsX20, w ∈ lw_all := lw_in wsX20 [230, 232, 234, 236, 238, 240] (by decide +kernel) (by decide +kernel)

theorem in_X21 : ∀ w ∈ wsX210, w ∈ lw_all := lw_in wsX210 [1727] (by decide +kernel) (by decide +kernel)

theorem in_X22 : ∀ w ∈ wsX220, w ∈ lw_all := lw_in wsX220 [1741, 1743] (by decide +kernel) (by decide +kernel)

theorem in_X23 : ∀ w ∈ wsX230, w ∈ lw_all := lw_in wsX230 [1753] (by decide +kernel) (by decide +kernel)

theorem in_X24 : ∀ w ∈ wsX240, w ∈ lw_all := lw_in wsX240 [1772, 1774, 1776] (by decide +kernel) (by decide +kernel)

theorem in_X25 : ∀ w ∈ wsX250, w ∈ lw_all := lw_in wsX250 [1789, 1791, 1793] (by decide +kernel) (by decide +kernel)

theorem in_X3 : ∀ w ∈ wsX30, w ∈ lw_all := lw_in wsX30 [277, 279, 281, 283, 285, 287, 289, 291, 293, 295, 297, 299, 301] (by decide +kernel) (by decide +kernel)

theorem in_X4 : ∀ w ∈ wsX40, w ∈ lw_all := lw_in wsX40 [365, 367, 369] (by decide +kernel) (by decide +kernel)

theorem in_X5 : ∀ w ∈ wsX50, w ∈ lw_all := lw_in wsX50 [1985, 1987, 1989, 1991, 1993, 1995, 1997, 1999, 2001, 2003, 2005, 2007, 2009, 2011, 2013, 2015, 2017, 2019, 2021, 2023, 2025, 2027, 2029, 2031, 2033, 2035, 2037, 2039, 2041, 2043, 2045, 2047, 2049, 2051, 2053, 2055, 2057, 2059, 2061, 2063, 2065, 2067, 2069, 2071, 2073, 2075, 2077, 2079, 2081, 2083, 2085, 2087] (by decide +kernel) (by decide +kernel)

theorem in_X7 : ∀ w ∈ wsX70, w ∈ lw_all := lw_in wsX70 [494, 496, 498, 500, 502, 504, 506, 508, 510, 490, 492] (by decide +kernel) (by decide +kernel)

theorem in_X8 : ∀ w ∈ wsX80, w ∈ lw_all := lw_in wsX80 [759, 761, 763, 765, 767, 814, 806, 808] (by decide +kernel) (by decide +kernel)

theorem in_X9 : ∀ w ∈ wsX90, w ∈ lw_all := lw_in wsX90 [1034] (by decide +kernel) (by decide +kernel)

