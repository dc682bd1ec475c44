set_option maxRecDepth 100000
/-! java/util/AbstractCollection -/
def RJ0 : String := "java/util/AbstractCollection"
/-! java/util/AbstractList -/
def RJ1 : String := "java/util/AbstractList"
/-! java/util/ArrayList -/
def RJ2 : String := "java/util/ArrayList"
def TJ2 : u_T := fun k => match k with
  | 0 => ("java/util/AbstractList", "modCount", "I", false)
  | 1 => ("java/util/ArrayList", "elementData", "[Ljava/lang/Object;", false)
  | _ => ("java/util/ArrayList", "size", "I", false)
def tyJ2 : Nat → FieldType := fun k => match k with
  | 0 => .int
  | 1 => .array (.object "java/lang/Object")
  | _ => .int
abbrev wsJ20 : List Cond := u_ws RJ2 TJ2 3
theorem nmJ2 : ∀ a, a < 3 → ∀ b, b < 3 → a ≠ b → (TJ2 a).2.1 ≠ (TJ2 b).2.1 := by decide +kernel
theorem tyJ2_ok : ∀ k, k < 3 → parseFieldDescriptor (TJ2 k).2.2.1 = some (tyJ2 k) := by decide +kernel
/-! java/lang/String -/
def RJ3 : String := "java/lang/String"
def TJ3 : u_T := fun k => match k with
  | 0 => ("java/lang/String", "value", "[B", true)
  | _ => ("java/lang/String", "coder", "B", true)
def tyJ3 : Nat → FieldType := fun k => match k with
  | 0 => .array .byte
  | _ => .byte
abbrev wsJ30 : List Cond := u_ws RJ3 TJ3 2
theorem nmJ3 : ∀ a, a < 2 → ∀ b, b < 2 → a ≠ b → (TJ3 a).2.1 ≠ (TJ3 b).2.1 := by decide +kernel
theorem tyJ3_ok : ∀ k, k < 2 → parseFieldDescriptor (TJ3 k).2.2.1 = some (tyJ3 k) := by decide +kernel
/-! java/lang/StringLatin1 -/
def RJ4 : String := "java/lang/StringLatin1"
/-! jdk/internal/util/Preconditions -/
def RJ5 : String := "jdk/internal/util/Preconditions"
/-! java/lang/StringUTF16 -/
def RJ6 : String := "java/lang/StringUTF16"
/-! java/lang/Math -/
def RJ7 : String := "java/lang/Math"
/-! java/lang/Character -/
def RJ8 : String := "java/lang/Character"
/-! java/lang/Throwable -/
def RJ9 : String := "java/lang/Throwable"
def TJ9 : u_T := fun k => match k with
  | 0 => ("java/lang/Throwable", "cause", "Ljava/lang/Throwable;", false)
  | 1 => ("java/lang/Throwable", "stackTrace", "[Ljava/lang/StackTraceElement;", false)
  | 2 => ("java/lang/Throwable", "suppressedExceptions", "Ljava/util/List;", false)
  | 3 => ("java/lang/Throwable", "detailMessage", "Ljava/lang/String;", false)
  | _ => ("java/lang/Throwable", "backtrace", "Ljava/lang/Object;", false)
def tyJ9 : Nat → FieldType := fun k => match k with
  | 0 => .object "java/lang/Throwable"
  | 1 => .array (.object "java/lang/StackTraceElement")
  | 2 => .object "java/util/List"
  | 3 => .object "java/lang/String"
  | _ => .object "java/lang/Object"
abbrev wsJ90 : List Cond := u_ws RJ9 TJ9 5
theorem nmJ9 : ∀ a, a < 5 → ∀ b, b < 5 → a ≠ b → (TJ9 a).2.1 ≠ (TJ9 b).2.1 := by decide +kernel
theorem tyJ9_ok : ∀ k, k < 5 → parseFieldDescriptor (TJ9 k).2.2.1 = some (tyJ9 k) := by decide +kernel
/-! java/lang/Exception -/
def RJ10 : String := "java/lang/Exception"
/-! java/util/Objects -/
def RJ11 : String := "java/util/Objects"
/-! jdk/internal/util/ArraysSupport -/
def RJ12 : String := "jdk/internal/util/ArraysSupport"
/-! java/util/Arrays -/
def RJ13 : String := "java/util/Arrays"
/-! java/lang/RuntimeException -/
def RJ14 : String := "java/lang/RuntimeException"
/-! java/lang/IndexOutOfBoundsException -/
def RJ15 : String := "java/lang/IndexOutOfBoundsException"
def TJ15 : u_T := fun k => match k with
  | 0 => ("java/lang/Throwable", "cause", "Ljava/lang/Throwable;", false)
  | 1 => ("java/lang/Throwable", "stackTrace", "[Ljava/lang/StackTraceElement;", false)
  | 2 => ("java/lang/Throwable", "suppressedExceptions", "Ljava/util/List;", false)
  | 3 => ("java/lang/Throwable", "detailMessage", "Ljava/lang/String;", false)
  | 4 => ("java/lang/Throwable", "backtrace", "Ljava/lang/Object;", false)
  | _ => ("java/lang/Throwable", "depth", "I", false)
def tyJ15 : Nat → FieldType := fun k => match k with
  | 0 => .object "java/lang/Throwable"
  | 1 => .array (.object "java/lang/StackTraceElement")
  | 2 => .object "java/util/List"
  | 3 => .object "java/lang/String"
  | 4 => .object "java/lang/Object"
  | _ => .int
abbrev wsJ150 : List Cond := u_ws RJ15 TJ15 6
theorem nmJ15 : ∀ a, a < 6 → ∀ b, b < 6 → a ≠ b → (TJ15 a).2.1 ≠ (TJ15 b).2.1 := by decide +kernel
theorem tyJ15_ok : ∀ k, k < 6 → parseFieldDescriptor (TJ15 k).2.2.1 = some (tyJ15 k) := by decide +kernel
/-! java/lang/ArrayIndexOutOfBoundsException -/
def RJ16 : String := "java/lang/ArrayIndexOutOfBoundsException"
def TJ16 : u_T := fun k => match k with
  | 0 => ("java/lang/Throwable", "backtrace", "Ljava/lang/Object;", false)
  | 1 => ("java/lang/Throwable", "detailMessage", "Ljava/lang/String;", false)
  | 2 => ("java/lang/Throwable", "cause", "Ljava/lang/Throwable;", false)
  | 3 => ("java/lang/Throwable", "stackTrace", "[Ljava/lang/StackTraceElement;", false)
  | 4 => ("java/lang/Throwable", "depth", "I", false)
  | _ => ("java/lang/Throwable", "suppressedExceptions", "Ljava/util/List;", false)
def tyJ16 : Nat → FieldType := fun k => match k with
  | 0 => .object "java/lang/Object"
  | 1 => .object "java/lang/String"
  | 2 => .object "java/lang/Throwable"
  | 3 => .array (.object "java/lang/StackTraceElement")
  | 4 => .int
  | _ => .object "java/util/List"
abbrev wsJ160 : List Cond := u_ws RJ16 TJ16 6
theorem nmJ16 : ∀ a, a < 6 → ∀ b, b < 6 → a ≠ b → (TJ16 a).2.1 ≠ (TJ16 b).2.1 := by decide +kernel
theorem tyJ16_ok : ∀ k, k < 6 → parseFieldDescriptor (TJ16 k).2.2.1 = some (tyJ16 k) := by decide +kernel
/-! java/util/NoSuchElementException -/
def RJ17 : String := "java/util/NoSuchElementException"
def TJ17 : u_T := fun k => match k with
  | 0 => ("java/lang/Throwable", "cause", "Ljava/lang/Throwable;", false)
  | 1 => ("java/lang/Throwable", "stackTrace", "[Ljava/lang/StackTraceElement;", false)
  | 2 => ("java/lang/Throwable", "suppressedExceptions", "Ljava/util/List;", false)
  | 3 => ("java/lang/Throwable", "detailMessage", "Ljava/lang/String;", false)
  | 4 => ("java/lang/Throwable", "backtrace", "Ljava/lang/Object;", false)
  | _ => ("java/lang/Throwable", "depth", "I", false)
def tyJ17 : Nat → FieldType := fun k => match k with
  | 0 => .object "java/lang/Throwable"
  | 1 => .array (.object "java/lang/StackTraceElement")
  | 2 => .object "java/util/List"
  | 3 => .object "java/lang/String"
  | 4 => .object "java/lang/Object"
  | _ => .int
abbrev wsJ170 : List Cond := u_ws RJ17 TJ17 6
theorem nmJ17 : ∀ a, a < 6 → ∀ b, b < 6 → a ≠ b → (TJ17 a).2.1 ≠ (TJ17 b).2.1 := by decide +kernel
theorem tyJ17_ok : ∀ k, k < 6 → parseFieldDescriptor (TJ17 k).2.2.1 = some (tyJ17 k) := by decide +kernel
/-! java/lang/Integer -/
def RJ18 : String := "java/lang/Integer"
/-! java/lang/Object -/
def RJ19 : String := "java/lang/Object"
/-! the law's own entry -/
/-! LongYearsLaw -/
def RX0 : String := "LongYearsLaw"
/-! LongYears -/
def RX1 : String := "LongYears"
def TX1 : u_T := fun k => match k with
  | 0 => ("LongYears", "tape", "[B", true)
  | 1 => ("LongYears", "taped", "I", false)
  | 2 => ("LongYears", "faultKind", "I", false)
  | 3 => ("LongYears", "faultPlace", "I", false)
  | 4 => ("LongYears", "reader", "LLongYears$Reader;", true)
  | 5 => ("LongYears", "realm", "LLongYears$Realm;", false)
  | 6 => ("LongYears", "names", "[J", true)
  | 7 => ("LongYears", "notes", "[LLongYears$Note;", true)
  | 8 => ("LongYears", "image", "[LLongYears$Note;", true)
  | 9 => ("LongYears", "noteMany", "I", false)
  | 10 => ("LongYears", "imageMany", "I", false)
  | 11 => ("LongYears", "toldMany", "I", false)
  | 12 => ("LongYears", "imageTold", "I", false)
  | 13 => ("LongYears", "undos", "[I", true)
  | 14 => ("LongYears", "undoMany", "I", false)
  | 15 => ("LongYears", "hasImage", "Z", false)
  | 16 => ("LongYears", "toldOf", "[I", true)
  | 17 => ("LongYears", "toldCount", "[I", true)
  | 18 => ("LongYears", "imageOf", "[I", true)
  | 19 => ("LongYears", "imageCount", "[I", true)
  | 20 => ("LongYears", "rows", "[[J", true)
  | 21 => ("LongYears", "isLaid", "[Z", true)
  | 22 => ("LongYears", "root", "[I", true)
  | 23 => ("LongYears", "far", "[I", true)
  | 24 => ("LongYears", "fitMany", "I", false)
  | 25 => ("LongYears", "fitFirst", "I", false)
  | _ => ("LongYears", "fitLast", "I", false)
def tyX1 : Nat → FieldType := fun k => match k with
  | 0 => .array .byte
  | 1 => .int
  | 2 => .int
  | 3 => .int
  | 4 => .object "LongYears$Reader"
  | 5 => .object "LongYears$Realm"
  | 6 => .array .long
  | 7 => .array (.object "LongYears$Note")
  | 8 => .array (.object "LongYears$Note")
  | 9 => .int
  | 10 => .int
  | 11 => .int
  | 12 => .int
  | 13 => .array .int
  | 14 => .int
  | 15 => .boolean
  | 16 => .array .int
  | 17 => .array .int
  | 18 => .array .int
  | 19 => .array .int
  | 20 => .array (.array .long)
  | 21 => .array .boolean
  | 22 => .array .int
  | 23 => .array .int
  | 24 => .int
  | 25 => .int
  | _ => .int
abbrev wsX10 : List Cond := u_ws RX1 TX1 27
set_option maxRecDepth 100000 in
theorem nmX1 : ∀ a, a < 27 → ∀ b, b < 27 → a ≠ b → (TX1 a).2.1 ≠ (TX1 b).2.1 := by decide +kernel
set_option maxRecDepth 100000 in
theorem tyX1_ok : ∀ k, k < 27 → parseFieldDescriptor (TX1 k).2.2.1 = some (tyX1 k) := by decide +kernel
/-! LongYears$Reader -/
def RX2 : String := "LongYears$Reader"
def TX2 : u_T := fun k => match k with
  | 0 => ("LongYears$Reader", "at", "I", false)
  | 1 => ("LongYears$Reader", "size", "I", false)
  | 2 => ("LongYears$Reader", "place", "I", false)
  | 3 => ("LongYears$Reader", "sort", "I", false)
  | 4 => ("LongYears$Reader", "value", "I", false)
  | 5 => ("LongYears$Reader", "open", "I", false)
  | 6 => ("LongYears$Reader", "told", "I", false)
  | 7 => ("LongYears$Reader", "made", "LLongYears$Realm;", false)
  | _ => ("LongYears$Reader", "this$0", "LLongYears;", true)
def tyX2 : Nat → FieldType := fun k => match k with
  | 0 => .int
  | 1 => .int
  | 2 => .int
  | 3 => .int
  | 4 => .int
  | 5 => .int
  | 6 => .int
  | 7 => .object "LongYears$Realm"
  | _ => .object "LongYears"
abbrev wsX20 : List Cond := u_ws RX2 TX2 9
theorem nmX2 : ∀ a, a < 9 → ∀ b, b < 9 → a ≠ b → (TX2 a).2.1 ≠ (TX2 b).2.1 := by decide +kernel
theorem tyX2_ok : ∀ k, k < 9 → parseFieldDescriptor (TX2 k).2.2.1 = some (tyX2 k) := by decide +kernel
/-! LongYears$Realm -/
def RX3 : String := "LongYears$Realm"
def TX3 : u_T := fun k => match k with
  | 0 => ("LongYears$Realm", "lands", "Ljava/util/ArrayList;", true)
  | 1 => ("LongYears$Realm", "feasts", "Ljava/util/ArrayList;", true)
  | 2 => ("LongYears$Realm", "people", "Ljava/util/ArrayList;", true)
  | 3 => ("LongYears$Realm", "deeds", "Ljava/util/ArrayList;", true)
  | 4 => ("LongYears$Realm", "notes", "Ljava/util/ArrayList;", true)
  | 5 => ("LongYears$Realm", "week", "I", false)
  | 6 => ("LongYears$Realm", "weekAt", "I", false)
  | 7 => ("LongYears$Realm", "moonAt", "I", false)
  | 8 => ("LongYears$Realm", "moonBy", "I", false)
  | 9 => ("LongYears$Realm", "sunBy", "I", false)
  | 10 => ("LongYears$Realm", "knots", "I", false)
  | 11 => ("LongYears$Realm", "lines", "I", false)
  | 12 => ("LongYears$Realm", "moon", "J", false)
  | _ => ("LongYears$Realm", "sun", "J", false)
def tyX3 : Nat → FieldType := fun k => match k with
  | 0 => .object "java/util/ArrayList"
  | 1 => .object "java/util/ArrayList"
  | 2 => .object "java/util/ArrayList"
  | 3 => .object "java/util/ArrayList"
  | 4 => .object "java/util/ArrayList"
  | 5 => .int
  | 6 => .int
  | 7 => .int
  | 8 => .int
  | 9 => .int
  | 10 => .int
  | 11 => .int
  | 12 => .long
  | _ => .long
abbrev wsX30 : List Cond := u_ws RX3 TX3 14
set_option maxRecDepth 100000 in
theorem nmX3 : ∀ a, a < 14 → ∀ b, b < 14 → a ≠ b → (TX3 a).2.1 ≠ (TX3 b).2.1 := by decide +kernel
set_option maxRecDepth 100000 in
theorem tyX3_ok : ∀ k, k < 14 → parseFieldDescriptor (TX3 k).2.2.1 = some (tyX3 k) := by decide +kernel
/-! LongYears$Named -/
def RX4 : String := "LongYears$Named"
/-! LongYears$Note -/
def RX5 : String := "LongYears$Note"
def TX5 : u_T := fun k => match k with
  | 0 => ("LongYears$Named", "name", "I", true)
  | 1 => ("LongYears$Note", "words", "I", false)
  | 2 => ("LongYears$Note", "a", "[I", true)
  | _ => ("LongYears$Note", "b", "[I", true)
def tyX5 : Nat → FieldType := fun k => match k with
  | 0 => .int
  | 1 => .int
  | 2 => .array .int
  | _ => .array .int
abbrev wsX50 : List Cond := u_ws RX5 TX5 4
theorem nmX5 : ∀ a, a < 4 → ∀ b, b < 4 → a ≠ b → (TX5 a).2.1 ≠ (TX5 b).2.1 := by decide +kernel
theorem tyX5_ok : ∀ k, k < 4 → parseFieldDescriptor (TX5 k).2.2.1 = some (tyX5 k) := by decide +kernel
/-! LongYearsModel -/
def RX6 : String := "LongYearsModel"
def TX6 : u_T := fun k => match k with
  | 0 => ("LongYearsModel", "tape", "[I", true)
  | 1 => ("LongYearsModel", "tapeSize", "I", false)
  | 2 => ("LongYearsModel", "thrown", "I", false)
  | 3 => ("LongYearsModel", "words", "[I", true)
  | 4 => ("LongYearsModel", "fault", "I", false)
  | 5 => ("LongYearsModel", "faultPlace", "I", false)
  | 6 => ("LongYearsModel", "stop", "I", false)
  | 7 => ("LongYearsModel", "next", "I", false)
  | 8 => ("LongYearsModel", "kind", "I", false)
  | 9 => ("LongYearsModel", "which", "I", false)
  | 10 => ("LongYearsModel", "at", "I", false)
  | 11 => ("LongYearsModel", "got", "I", false)
  | 12 => ("LongYearsModel", "lands", "I", false)
  | 13 => ("LongYearsModel", "feasts", "I", false)
  | 14 => ("LongYearsModel", "people", "I", false)
  | 15 => ("LongYearsModel", "deeds", "I", false)
  | 16 => ("LongYearsModel", "notes", "I", false)
  | 17 => ("LongYearsModel", "knots", "I", false)
  | 18 => ("LongYearsModel", "landsRead", "I", false)
  | 19 => ("LongYearsModel", "feastsRead", "I", false)
  | 20 => ("LongYearsModel", "peopleRead", "I", false)
  | 21 => ("LongYearsModel", "deedsRead", "I", false)
  | 22 => ("LongYearsModel", "notesRead", "I", false)
  | 23 => ("LongYearsModel", "knotsRead", "I", false)
  | 24 => ("LongYearsModel", "sky", "[I", true)
  | 25 => ("LongYearsModel", "weekTold", "Z", false)
  | 26 => ("LongYearsModel", "moonTold", "Z", false)
  | 27 => ("LongYearsModel", "sunTold", "Z", false)
  | 28 => ("LongYearsModel", "landName", "[I", true)
  | 29 => ("LongYearsModel", "landHas", "[I", true)
  | 30 => ("LongYearsModel", "feastName", "[I", true)
  | 31 => ("LongYearsModel", "first", "[I", true)
  | 32 => ("LongYearsModel", "last", "[I", true)
  | 33 => ("LongYearsModel", "personName", "[I", true)
  | 34 => ("LongYearsModel", "born", "[J", true)
  | 35 => ("LongYearsModel", "died", "[J", true)
  | 36 => ("LongYearsModel", "deedName", "[I", true)
  | 37 => ("LongYearsModel", "deedOn", "[J", true)
  | 38 => ("LongYearsModel", "deedHas", "[I", true)
  | 39 => ("LongYearsModel", "noteName", "[I", true)
  | 40 => ("LongYearsModel", "noteHas", "[I", true)
  | 41 => ("LongYearsModel", "knot", "[I", true)
  | 42 => ("LongYearsModel", "part", "[I", true)
  | 43 => ("LongYearsModel", "other", "[I", true)
  | 44 => ("LongYearsModel", "gotCount", "J", false)
  | 45 => ("LongYearsModel", "wait", "[I", true)
  | 46 => ("LongYearsModel", "held", "[I", true)
  | 47 => ("LongYearsModel", "waits", "I", false)
  | 48 => ("LongYearsModel", "helds", "I", false)
  | 49 => ("LongYearsModel", "brackets", "I", false)
  | 50 => ("LongYearsModel", "counted", "I", false)
  | 51 => ("LongYearsModel", "wants", "Z", false)
  | 52 => ("LongYearsModel", "mayNot", "Z", false)
  | 53 => ("LongYearsModel", "gotYear", "J", false)
  | 54 => ("LongYearsModel", "gotDay", "J", false)
  | 55 => ("LongYearsModel", "names", "[J", true)
  | 56 => ("LongYearsModel", "value", "[J", true)
  | 57 => ("LongYearsModel", "isError", "Z", false)
  | 58 => ("LongYearsModel", "named1", "I", false)
  | 59 => ("LongYearsModel", "undos", "I", false)
  | 60 => ("LongYearsModel", "undo", "[I", true)
  | 61 => ("LongYearsModel", "can", "[Z", true)
  | 62 => ("LongYearsModel", "manyGot", "I", false)
  | 63 => ("LongYearsModel", "firstGot", "I", false)
  | 64 => ("LongYearsModel", "lastGot", "I", false)
  | 65 => ("LongYearsModel", "root", "[I", true)
  | 66 => ("LongYearsModel", "off", "[I", true)
  | 67 => ("LongYearsModel", "tolds", "I", false)
  | 68 => ("LongYearsModel", "toldNote", "[I", true)
  | 69 => ("LongYearsModel", "toldCount", "[I", true)
  | 70 => ("LongYearsModel", "hasImage", "Z", false)
  | 71 => ("LongYearsModel", "keptNotes", "I", false)
  | 72 => ("LongYearsModel", "keptTolds", "I", false)
  | 73 => ("LongYearsModel", "keptHas", "[I", true)
  | 74 => ("LongYearsModel", "keptNote", "[I", true)
  | _ => ("LongYearsModel", "keptCount", "[I", true)
def tyX6 : Nat → FieldType := fun k => match k with
  | 0 => .array .int
  | 1 => .int
  | 2 => .int
  | 3 => .array .int
  | 4 => .int
  | 5 => .int
  | 6 => .int
  | 7 => .int
  | 8 => .int
  | 9 => .int
  | 10 => .int
  | 11 => .int
  | 12 => .int
  | 13 => .int
  | 14 => .int
  | 15 => .int
  | 16 => .int
  | 17 => .int
  | 18 => .int
  | 19 => .int
  | 20 => .int
  | 21 => .int
  | 22 => .int
  | 23 => .int
  | 24 => .array .int
  | 25 => .boolean
  | 26 => .boolean
  | 27 => .boolean
  | 28 => .array .int
  | 29 => .array .int
  | 30 => .array .int
  | 31 => .array .int
  | 32 => .array .int
  | 33 => .array .int
  | 34 => .array .long
  | 35 => .array .long
  | 36 => .array .int
  | 37 => .array .long
  | 38 => .array .int
  | 39 => .array .int
  | 40 => .array .int
  | 41 => .array .int
  | 42 => .array .int
  | 43 => .array .int
  | 44 => .long
  | 45 => .array .int
  | 46 => .array .int
  | 47 => .int
  | 48 => .int
  | 49 => .int
  | 50 => .int
  | 51 => .boolean
  | 52 => .boolean
  | 53 => .long
  | 54 => .long
  | 55 => .array .long
  | 56 => .array .long
  | 57 => .boolean
  | 58 => .int
  | 59 => .int
  | 60 => .array .int
  | 61 => .array .boolean
  | 62 => .int
  | 63 => .int
  | 64 => .int
  | 65 => .array .int
  | 66 => .array .int
  | 67 => .int
  | 68 => .array .int
  | 69 => .array .int
  | 70 => .boolean
  | 71 => .int
  | 72 => .int
  | 73 => .array .int
  | 74 => .array .int
  | _ => .array .int
abbrev wsX60 : List Cond := u_ws RX6 TX6 76
set_option maxRecDepth 100000 in
theorem nmX6 : ∀ a, a < 76 → ∀ b, b < 76 → a ≠ b → (TX6 a).2.1 ≠ (TX6 b).2.1 := by decide +kernel
set_option maxRecDepth 100000 in
theorem tyX6_ok : ∀ k, k < 76 → parseFieldDescriptor (TX6 k).2.2.1 = some (tyX6 k) := by decide +kernel
/-! LongYears$Fault -/
def RX7 : String := "LongYears$Fault"
def TX7 : u_T := fun k => match k with
  | 0 => ("java/lang/Throwable", "cause", "Ljava/lang/Throwable;", false)
  | 1 => ("java/lang/Throwable", "stackTrace", "[Ljava/lang/StackTraceElement;", false)
  | 2 => ("java/lang/Throwable", "suppressedExceptions", "Ljava/util/List;", false)
  | 3 => ("java/lang/Throwable", "detailMessage", "Ljava/lang/String;", false)
  | 4 => ("java/lang/Throwable", "backtrace", "Ljava/lang/Object;", false)
  | 5 => ("java/lang/Throwable", "depth", "I", false)
  | 6 => ("LongYears$Fault", "kind", "I", true)
  | _ => ("LongYears$Fault", "place", "I", true)
def tyX7 : Nat → FieldType := fun k => match k with
  | 0 => .object "java/lang/Throwable"
  | 1 => .array (.object "java/lang/StackTraceElement")
  | 2 => .object "java/util/List"
  | 3 => .object "java/lang/String"
  | 4 => .object "java/lang/Object"
  | 5 => .int
  | 6 => .int
  | _ => .int
abbrev wsX70 : List Cond := u_ws RX7 TX7 8
theorem nmX7 : ∀ a, a < 8 → ∀ b, b < 8 → a ≠ b → (TX7 a).2.1 ≠ (TX7 b).2.1 := by decide +kernel
theorem tyX7_ok : ∀ k, k < 8 → parseFieldDescriptor (TX7 k).2.2.1 = some (tyX7 k) := by decide +kernel
/-! LongYears$Land -/
def RX8 : String := "LongYears$Land"
def TX8 : u_T := fun k => match k with
  | 0 => ("LongYears$Named", "name", "I", true)
  | 1 => ("LongYears$Land", "length", "I", true)
  | 2 => ("LongYears$Land", "growth", "I", true)
  | _ => ("LongYears$Land", "from", "I", false)
def tyX8 : Nat → FieldType := fun k => match k with
  | 0 => .int
  | 1 => .int
  | 2 => .int
  | _ => .int
abbrev wsX80 : List Cond := u_ws RX8 TX8 4
theorem nmX8 : ∀ a, a < 4 → ∀ b, b < 4 → a ≠ b → (TX8 a).2.1 ≠ (TX8 b).2.1 := by decide +kernel
theorem tyX8_ok : ∀ k, k < 4 → parseFieldDescriptor (TX8 k).2.2.1 = some (tyX8 k) := by decide +kernel
/-! LongYears$Person -/
def RX9 : String := "LongYears$Person"
def TX9 : u_T := fun k => match k with
  | 0 => ("LongYears$Named", "name", "I", true)
  | 1 => ("LongYears$Person", "born", "J", true)
  | _ => ("LongYears$Person", "died", "J", false)
def tyX9 : Nat → FieldType := fun k => match k with
  | 0 => .int
  | 1 => .long
  | _ => .long
abbrev wsX90 : List Cond := u_ws RX9 TX9 3
theorem nmX9 : ∀ a, a < 3 → ∀ b, b < 3 → a ≠ b → (TX9 a).2.1 ≠ (TX9 b).2.1 := by decide +kernel
theorem tyX9_ok : ∀ k, k < 3 → parseFieldDescriptor (TX9 k).2.2.1 = some (tyX9 k) := by decide +kernel
/-! LongYears$Deed -/
def RX10 : String := "LongYears$Deed"
def TX10 : u_T := fun k => match k with
  | 0 => ("LongYears$Named", "name", "I", true)
  | 1 => ("LongYears$Deed", "count", "J", true)
  | 2 => ("LongYears$Deed", "term", "I", true)
  | _ => ("LongYears$Deed", "pay", "I", false)
def tyX10 : Nat → FieldType := fun k => match k with
  | 0 => .int
  | 1 => .long
  | 2 => .int
  | _ => .int
abbrev wsX100 : List Cond := u_ws RX10 TX10 4
theorem nmX10 : ∀ a, a < 4 → ∀ b, b < 4 → a ≠ b → (TX10 a).2.1 ≠ (TX10 b).2.1 := by decide +kernel
theorem tyX10_ok : ∀ k, k < 4 → parseFieldDescriptor (TX10 k).2.2.1 = some (tyX10 k) := by decide +kernel
/-! LongYears$Yearly -/
def RX11 : String := "LongYears$Yearly"
def TX11 : u_T := fun k => match k with
  | 0 => ("LongYears$Named", "name", "I", true)
  | 1 => ("LongYears$Deed", "count", "J", true)
  | 2 => ("LongYears$Deed", "term", "I", true)
  | _ => ("LongYears$Deed", "pay", "I", false)
def tyX11 : Nat → FieldType := fun k => match k with
  | 0 => .int
  | 1 => .long
  | 2 => .int
  | _ => .int
abbrev wsX110 : List Cond := u_ws RX11 TX11 4
theorem nmX11 : ∀ a, a < 4 → ∀ b, b < 4 → a ≠ b → (TX11 a).2.1 ≠ (TX11 b).2.1 := by decide +kernel
theorem tyX11_ok : ∀ k, k < 4 → parseFieldDescriptor (TX11 k).2.2.1 = some (tyX11 k) := by decide +kernel
/-! LongYears$Festive -/
def RX12 : String := "LongYears$Festive"
def TX12 : u_T := fun k => match k with
  | 0 => ("LongYears$Named", "name", "I", true)
  | 1 => ("LongYears$Deed", "count", "J", true)
  | 2 => ("LongYears$Deed", "term", "I", true)
  | _ => ("LongYears$Deed", "pay", "I", false)
def tyX12 : Nat → FieldType := fun k => match k with
  | 0 => .int
  | 1 => .long
  | 2 => .int
  | _ => .int
abbrev wsX120 : List Cond := u_ws RX12 TX12 4
theorem nmX12 : ∀ a, a < 4 → ∀ b, b < 4 → a ≠ b → (TX12 a).2.1 ≠ (TX12 b).2.1 := by decide +kernel
theorem tyX12_ok : ∀ k, k < 4 → parseFieldDescriptor (TX12 k).2.2.1 = some (tyX12 k) := by decide +kernel
/-! LongYears$Feast -/
def RX13 : String := "LongYears$Feast"
def TX13 : u_T := fun k => match k with
  | 0 => ("LongYears$Named", "name", "I", true)
  | _ => ("LongYears$Feast", "rule", "LLongYears$Part;", true)
def tyX13 : Nat → FieldType := fun k => match k with
  | 0 => .int
  | _ => .object "LongYears$Part"
abbrev wsX130 : List Cond := u_ws RX13 TX13 2
theorem nmX13 : ∀ a, a < 2 → ∀ b, b < 2 → a ≠ b → (TX13 a).2.1 ≠ (TX13 b).2.1 := by decide +kernel
theorem tyX13_ok : ∀ k, k < 2 → parseFieldDescriptor (TX13 k).2.2.1 = some (tyX13 k) := by decide +kernel
/-! LongYears$Part -/
def RX14 : String := "LongYears$Part"
/-! LongYears$Number -/
def RX15 : String := "LongYears$Number"
def TX15 : u_T := fun k => match k with
  | _ => ("LongYears$Number", "n", "I", true)
def tyX15 : Nat → FieldType := fun k => match k with
  | _ => .int
abbrev wsX150 : List Cond := u_ws RX15 TX15 1
theorem nmX15 : ∀ a, a < 1 → ∀ b, b < 1 → a ≠ b → (TX15 a).2.1 ≠ (TX15 b).2.1 := by decide +kernel
theorem tyX15_ok : ∀ k, k < 1 → parseFieldDescriptor (TX15 k).2.2.1 = some (tyX15 k) := by decide +kernel
/-! LongYears$Name -/
def RX16 : String := "LongYears$Name"
def TX16 : u_T := fun k => match k with
  | _ => ("LongYears$Name", "which", "I", true)
def tyX16 : Nat → FieldType := fun k => match k with
  | _ => .int
abbrev wsX160 : List Cond := u_ws RX16 TX16 1
theorem nmX16 : ∀ a, a < 1 → ∀ b, b < 1 → a ≠ b → (TX16 a).2.1 ≠ (TX16 b).2.1 := by decide +kernel
theorem tyX16_ok : ∀ k, k < 1 → parseFieldDescriptor (TX16 k).2.2.1 = some (tyX16 k) := by decide +kernel
/-! LongYears$Not -/
def RX17 : String := "LongYears$Not"
def TX17 : u_T := fun k => match k with
  | _ => ("LongYears$Not", "a", "LLongYears$Part;", true)
def tyX17 : Nat → FieldType := fun k => match k with
  | _ => .object "LongYears$Part"
abbrev wsX170 : List Cond := u_ws RX17 TX17 1
theorem nmX17 : ∀ a, a < 1 → ∀ b, b < 1 → a ≠ b → (TX17 a).2.1 ≠ (TX17 b).2.1 := by decide +kernel
theorem tyX17_ok : ∀ k, k < 1 → parseFieldDescriptor (TX17 k).2.2.1 = some (tyX17 k) := by decide +kernel
/-! LongYears$Two -/
def RX18 : String := "LongYears$Two"
def TX18 : u_T := fun k => match k with
  | 0 => ("LongYears$Not", "a", "LLongYears$Part;", true)
  | 1 => ("LongYears$Two", "sign", "I", true)
  | _ => ("LongYears$Two", "b", "LLongYears$Part;", true)
def tyX18 : Nat → FieldType := fun k => match k with
  | 0 => .object "LongYears$Part"
  | 1 => .int
  | _ => .object "LongYears$Part"
abbrev wsX180 : List Cond := u_ws RX18 TX18 3
theorem nmX18 : ∀ a, a < 3 → ∀ b, b < 3 → a ≠ b → (TX18 a).2.1 ≠ (TX18 b).2.1 := by decide +kernel
theorem tyX18_ok : ∀ k, k < 3 → parseFieldDescriptor (TX18 k).2.2.1 = some (tyX18 k) := by decide +kernel
theorem in_J2 : ∀ w ∈ wsJ20, w ∈ lw_all := lw_in wsJ20 [242, 238, 240] (by decide +kernel) (by decide +kernel)
theorem in_J3 : ∀ w ∈ wsJ30, w ∈ lw_all := lw_in wsJ30 [1459, 1461] (by decide +kernel) (by decide +kernel)
theorem in_J9 : ∀ w ∈ wsJ90, w ∈ lw_all := lw_in wsJ90 [604, 606, 608, 610, 612] (by decide +kernel) (by decide +kernel)
theorem in_J15 : ∀ w ∈ wsJ150, w ∈ lw_all := lw_in wsJ150 [1472, 1473, 1474, 1475, 1476, 1487] (by decide +kernel) (by decide +kernel)
theorem in_J16 : ∀ w ∈ wsJ160, w ∈ lw_all := lw_in wsJ160 [1445, 1446, 1447, 1448, 1449, 1450] (by decide +kernel) (by decide +kernel)
theorem in_J17 : ∀ w ∈ wsJ170, w ∈ lw_all := lw_in wsJ170 [1493, 1494, 1495, 1496, 1497, 1502] (by decide +kernel) (by decide +kernel)
theorem in_X1 : ∀ w ∈ wsX10, w ∈ lw_all := lw_in wsX10 [369, 371, 373, 375, 377, 379, 381, 383, 385, 387, 389, 391, 393, 395, 397, 399, 401, 403, 405, 407, 409, 411, 413, 415, 417, 419, 421] (by decide +kernel) (by decide +kernel)
theorem in_X2 : ∀ w ∈ wsX20, w ∈ lw_all := lw_in wsX20 [191, 193, 195, 197, 199, 201, 203, 205, 207] (by decide +kernel) (by decide +kernel)
theorem in_X3 : ∀ w ∈ wsX30, w ∈ lw_all := lw_in wsX30 [281, 283, 285, 287, 289, 291, 293, 295, 297, 299, 301, 303, 305, 307] (by decide +kernel) (by decide +kernel)
theorem in_X5 : ∀ w ∈ wsX50, w ∈ lw_all := lw_in wsX50 [335, 329, 331, 333] (by decide +kernel) (by decide +kernel)
theorem in_X6 : ∀ w ∈ wsX60, w ∈ lw_all := lw_in wsX60 [1601, 1603, 1605, 1607, 1609, 1611, 1613, 1615, 1617, 1619, 1621, 1623, 1625, 1627, 1629, 1631, 1633, 1635, 1637, 1639, 1641, 1643, 1645, 1647, 1649, 1651, 1653, 1655, 1657, 1659, 1661, 1663, 1665, 1667, 1669, 1671, 1673, 1675, 1677, 1679, 1681, 1683, 1685, 1687, 1689, 1691, 1693, 1695, 1697, 1699, 1701, 1703, 1705, 1707, 1709, 1711, 1713, 1715, 1717, 1719, 1721, 1723, 1725, 1727, 1729, 1731, 1733, 1735, 1737, 1739, 1741, 1743, 1745, 1747, 1749, 1751] (by decide +kernel) (by decide +kernel)
theorem in_X7 : ∀ w ∈ wsX70, w ∈ lw_all := lw_in wsX70 [603, 605, 607, 609, 611, 661, 653, 655] (by decide +kernel) (by decide +kernel)
theorem in_X8 : ∀ w ∈ wsX80, w ∈ lw_all := lw_in wsX80 [725, 719, 721, 723] (by decide +kernel) (by decide +kernel)
theorem in_X9 : ∀ w ∈ wsX90, w ∈ lw_all := lw_in wsX90 [845, 841, 843] (by decide +kernel) (by decide +kernel)
theorem in_X10 : ∀ w ∈ wsX100, w ∈ lw_all := lw_in wsX100 [887, 884, 885, 886] (by decide +kernel) (by decide +kernel)
theorem in_X11 : ∀ w ∈ wsX110, w ∈ lw_all := lw_in wsX110 [879, 873, 875, 877] (by decide +kernel) (by decide +kernel)
theorem in_X12 : ∀ w ∈ wsX120, w ∈ lw_all := lw_in wsX120 [902, 899, 900, 901] (by decide +kernel) (by decide +kernel)
theorem in_X13 : ∀ w ∈ wsX130, w ∈ lw_all := lw_in wsX130 [1018, 1016] (by decide +kernel) (by decide +kernel)
theorem in_X15 : ∀ w ∈ wsX150, w ∈ lw_all := lw_in wsX150 [967] (by decide +kernel) (by decide +kernel)
theorem in_X16 : ∀ w ∈ wsX160, w ∈ lw_all := lw_in wsX160 [981] (by decide +kernel) (by decide +kernel)
theorem in_X17 : ∀ w ∈ wsX170, w ∈ lw_all := lw_in wsX170 [1008] (by decide +kernel) (by decide +kernel)
theorem in_X18 : ∀ w ∈ wsX180, w ∈ lw_all := lw_in wsX180 [1002, 998, 1000] (by decide +kernel) (by decide +kernel)
