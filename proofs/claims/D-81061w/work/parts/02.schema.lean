set_option maxRecDepth 100000
def RX0 : String := "ElectionHouse"
def TX0 : u_T := fun k => match k with
  | 0 => ("ElectionHouse", "tape", "[B", true)
  | 1 => ("ElectionHouse", "taped", "I", false)
  | 2 => ("ElectionHouse", "today", "I", false)
  | 3 => ("ElectionHouse", "land", "LElectionHouse$Land;", true)
  | 4 => ("ElectionHouse", "people", "[LElectionHouse$Person;", true)
  | 5 => ("ElectionHouse", "persons", "I", false)
  | 6 => ("ElectionHouse", "reader", "LElectionHouse$Reader;", true)
  | 7 => ("ElectionHouse", "law", "LElectionHouse$Law;", false)
  | 8 => ("ElectionHouse", "draft", "LElectionHouse$Law;", false)
  | 9 => ("ElectionHouse", "hasLaw", "Z", false)
  | 10 => ("ElectionHouse", "failed", "I", false)
  | 11 => ("ElectionHouse", "book", "LElectionHouse$Digests;", true)
  | 12 => ("ElectionHouse", "rows", "I", false)
  | 13 => ("ElectionHouse", "contests", "[LElectionHouse$Contest;", true)
  | 14 => ("ElectionHouse", "nominations", "[LElectionHouse$Nomination;", true)
  | 15 => ("ElectionHouse", "nominated", "I", false)
  | 16 => ("ElectionHouse", "signed", "[I", true)
  | 17 => ("ElectionHouse", "isFrozen", "Z", false)
  | 18 => ("ElectionHouse", "rowPerson", "[I", true)
  | 19 => ("ElectionHouse", "rowSheet", "[I", true)
  | 20 => ("ElectionHouse", "rowOn", "[Z", true)
  | 21 => ("ElectionHouse", "rolled", "I", false)
  | 22 => ("ElectionHouse", "rowOf", "[I", true)
  | 23 => ("ElectionHouse", "appealOf", "[I", true)
  | 24 => ("ElectionHouse", "appealKind", "[I", true)
  | 25 => ("ElectionHouse", "appealDone", "[Z", true)
  | 26 => ("ElectionHouse", "appeals", "I", false)
  | 27 => ("ElectionHouse", "clocks", "[I", true)
  | 28 => ("ElectionHouse", "isCut", "[Z", true)
  | 29 => ("ElectionHouse", "known", "[[B", true)
  | 30 => ("ElectionHouse", "stations", "I", false)
  | 31 => ("ElectionHouse", "issues", "[LElectionHouse$Issue;", true)
  | 32 => ("ElectionHouse", "issued", "I", false)
  | 33 => ("ElectionHouse", "order", "[LElectionHouse$Issue;", true)
  | 34 => ("ElectionHouse", "boxes", "[LElectionHouse$Box;", true)
  | 35 => ("ElectionHouse", "count", "LElectionHouse$Count;", true)
  | 36 => ("ElectionHouse", "helper", "LElectionHouse$Count;", true)
  | 37 => ("ElectionHouse", "isCounted", "Z", false)
  | 38 => ("ElectionHouse", "pickBox", "[I", true)
  | 39 => ("ElectionHouse", "pickPlace", "[I", true)
  | 40 => ("ElectionHouse", "pickOther", "[Z", true)
  | 41 => ("ElectionHouse", "isPicked", "[Z", true)
  | 42 => ("ElectionHouse", "picks", "I", false)
  | 43 => ("ElectionHouse", "sampleOf", "I", false)
  | 44 => ("ElectionHouse", "sampleMargin", "I", false)
  | 45 => ("ElectionHouse", "sampleBad", "I", false)
  | 46 => ("ElectionHouse", "riskAbove", "J", false)
  | 47 => ("ElectionHouse", "riskBelow", "J", false)
  | _ => ("ElectionHouse", "choices", "[[J", true)
def tyX0 : Nat → FieldType := fun k => match k with
  | 0 => .array .byte
  | 1 => .int
  | 2 => .int
  | 3 => .object "ElectionHouse$Land"
  | 4 => .array (.object "ElectionHouse$Person")
  | 5 => .int
  | 6 => .object "ElectionHouse$Reader"
  | 7 => .object "ElectionHouse$Law"
  | 8 => .object "ElectionHouse$Law"
  | 9 => .boolean
  | 10 => .int
  | 11 => .object "ElectionHouse$Digests"
  | 12 => .int
  | 13 => .array (.object "ElectionHouse$Contest")
  | 14 => .array (.object "ElectionHouse$Nomination")
  | 15 => .int
  | 16 => .array .int
  | 17 => .boolean
  | 18 => .array .int
  | 19 => .array .int
  | 20 => .array .boolean
  | 21 => .int
  | 22 => .array .int
  | 23 => .array .int
  | 24 => .array .int
  | 25 => .array .boolean
  | 26 => .int
  | 27 => .array .int
  | 28 => .array .boolean
  | 29 => .array (.array .byte)
  | 30 => .int
  | 31 => .array (.object "ElectionHouse$Issue")
  | 32 => .int
  | 33 => .array (.object "ElectionHouse$Issue")
  | 34 => .array (.object "ElectionHouse$Box")
  | 35 => .object "ElectionHouse$Count"
  | 36 => .object "ElectionHouse$Count"
  | 37 => .boolean
  | 38 => .array .int
  | 39 => .array .int
  | 40 => .array .boolean
  | 41 => .array .boolean
  | 42 => .int
  | 43 => .int
  | 44 => .int
  | 45 => .int
  | 46 => .long
  | 47 => .long
  | _ => .array (.array .long)
abbrev wsX00 : List Cond := u_ws RX0 TX0 49
set_option maxRecDepth 100000 in
theorem nmX0 : ∀ a, a < 49 → ∀ b, b < 49 → a ≠ b → (TX0 a).2.1 ≠ (TX0 b).2.1 := by decide +kernel
set_option maxRecDepth 100000 in
theorem tyX0_ok : ∀ k, k < 49 → parseFieldDescriptor (TX0 k).2.2.1 = some (tyX0 k) := by decide +kernel
def RX1 : String := "ElectionHouse$Land"
def TX1 : u_T := fun k => match k with
  | 0 => ("ElectionHouse$Land", "kinds", "[I", true)
  | 1 => ("ElectionHouse$Land", "areas", "I", false)
  | 2 => ("ElectionHouse$Land", "of", "[I", true)
  | 3 => ("ElectionHouse$Land", "from", "[I", true)
  | 4 => ("ElectionHouse$Land", "to", "[I", true)
  | 5 => ("ElectionHouse$Land", "since", "[I", true)
  | _ => ("ElectionHouse$Land", "borders", "I", false)
def tyX1 : Nat → FieldType := fun k => match k with
  | 0 => .array .int
  | 1 => .int
  | 2 => .array .int
  | 3 => .array .int
  | 4 => .array .int
  | 5 => .array .int
  | _ => .int
abbrev wsX10 : List Cond := u_ws RX1 TX1 7
theorem nmX1 : ∀ a, a < 7 → ∀ b, b < 7 → a ≠ b → (TX1 a).2.1 ≠ (TX1 b).2.1 := by decide +kernel
theorem tyX1_ok : ∀ k, k < 7 → parseFieldDescriptor (TX1 k).2.2.1 = some (tyX1 k) := by decide +kernel
def RX2 : String := "ElectionHouse$Reader"
def TX2 : u_T := fun k => match k with
  | 0 => ("ElectionHouse$Reader", "words", "[Ljava/lang/String;", true)
  | 1 => ("ElectionHouse$Reader", "fault", "LElectionHouse$Fault;", true)
  | 2 => ("ElectionHouse$Reader", "land", "LElectionHouse$Land;", true)
  | 3 => ("ElectionHouse$Reader", "text", "[B", true)
  | 4 => ("ElectionHouse$Reader", "size", "I", false)
  | 5 => ("ElectionHouse$Reader", "at", "I", false)
  | 6 => ("ElectionHouse$Reader", "end", "I", false)
  | 7 => ("ElectionHouse$Reader", "kind", "I", false)
  | 8 => ("ElectionHouse$Reader", "value", "I", false)
  | 9 => ("ElectionHouse$Reader", "wrong", "I", false)
  | 10 => ("ElectionHouse$Reader", "to", "LElectionHouse$Law;", false)
  | 11 => ("ElectionHouse$Reader", "seen", "[Z", true)
  | 12 => ("ElectionHouse$Reader", "hasLevel", "Z", false)
  | 13 => ("ElectionHouse$Reader", "tests", "I", false)
  | 14 => ("ElectionHouse$Reader", "stack", "[I", true)
  | 15 => ("ElectionHouse$Reader", "waiting", "I", false)
  | _ => ("ElectionHouse$Reader", "isTurned", "Z", false)
def tyX2 : Nat → FieldType := fun k => match k with
  | 0 => .array (.object "java/lang/String")
  | 1 => .object "ElectionHouse$Fault"
  | 2 => .object "ElectionHouse$Land"
  | 3 => .array .byte
  | 4 => .int
  | 5 => .int
  | 6 => .int
  | 7 => .int
  | 8 => .int
  | 9 => .int
  | 10 => .object "ElectionHouse$Law"
  | 11 => .array .boolean
  | 12 => .boolean
  | 13 => .int
  | 14 => .array .int
  | 15 => .int
  | _ => .boolean
abbrev wsX20 : List Cond := u_ws RX2 TX2 17
set_option maxRecDepth 100000 in
theorem nmX2 : ∀ a, a < 17 → ∀ b, b < 17 → a ≠ b → (TX2 a).2.1 ≠ (TX2 b).2.1 := by decide +kernel
set_option maxRecDepth 100000 in
theorem tyX2_ok : ∀ k, k < 17 → parseFieldDescriptor (TX2 k).2.2.1 = some (tyX2 k) := by decide +kernel
def RX3 : String := "ElectionHouse$Fault"
def TX3 : u_T := fun k => match k with
  | 0 => ("ElectionHouse$Fault", "place", "I", false)
  | 1 => ("java/lang/Throwable", "backtrace", "Ljava/lang/Object;", false)
  | 2 => ("java/lang/Throwable", "detailMessage", "Ljava/lang/String;", false)
  | 3 => ("java/lang/Throwable", "cause", "Ljava/lang/Throwable;", false)
  | 4 => ("java/lang/Throwable", "stackTrace", "[Ljava/lang/StackTraceElement;", false)
  | 5 => ("java/lang/Throwable", "depth", "I", false)
  | 6 => ("java/lang/Throwable", "suppressedExceptions", "Ljava/util/List;", false)
  | _ => ("", "", "", false)
def tyX3 : Nat → FieldType := fun k => match k with
  | 0 => .int
  | 1 => .object "java/lang/Object"
  | 2 => .object "java/lang/String"
  | 3 => .object "java/lang/Throwable"
  | 4 => .array (.object "java/lang/StackTraceElement")
  | 5 => .int
  | 6 => .object "java/util/List"
  | _ => .int
abbrev wsX30 : List Cond := u_ws RX3 TX3 7
theorem nmX3 : ∀ a, a < 7 → ∀ b, b < 7 → a ≠ b → (TX3 a).2.1 ≠ (TX3 b).2.1 := by decide +kernel
theorem tyX3_ok : ∀ k, k < 7 → parseFieldDescriptor (TX3 k).2.2.1 = some (tyX3 k) := by decide +kernel
def RX4 : String := "ElectionHouse$Law"
def TX4 : u_T := fun k => match k with
  | 0 => ("ElectionHouse$Law", "days", "[I", true)
  | 1 => ("ElectionHouse$Law", "eve", "Z", false)
  | 2 => ("ElectionHouse$Law", "mail", "Z", false)
  | 3 => ("ElectionHouse$Law", "signatures", "I", false)
  | 4 => ("ElectionHouse$Law", "each", "I", false)
  | 5 => ("ElectionHouse$Law", "spoil", "I", false)
  | 6 => ("ElectionHouse$Law", "vote", "LElectionHouse$Clause;", true)
  | 7 => ("ElectionHouse$Law", "stand", "LElectionHouse$Clause;", true)
  | 8 => ("ElectionHouse$Law", "word", "[I", true)
  | 9 => ("ElectionHouse$Law", "number", "[I", true)
  | 10 => ("ElectionHouse$Law", "on", "[I", true)
  | 11 => ("ElectionHouse$Law", "place", "[I", true)
  | 12 => ("ElectionHouse$Law", "isTurned", "[Z", true)
  | 13 => ("ElectionHouse$Law", "ways", "[LElectionHouse$Way;", true)
  | 14 => ("ElectionHouse$Law", "contests", "I", false)
  | _ => ("ElectionHouse$Law", "values", "[Z", true)
def tyX4 : Nat → FieldType := fun k => match k with
  | 0 => .array .int
  | 1 => .boolean
  | 2 => .boolean
  | 3 => .int
  | 4 => .int
  | 5 => .int
  | 6 => .object "ElectionHouse$Clause"
  | 7 => .object "ElectionHouse$Clause"
  | 8 => .array .int
  | 9 => .array .int
  | 10 => .array .int
  | 11 => .array .int
  | 12 => .array .boolean
  | 13 => .array (.object "ElectionHouse$Way")
  | 14 => .int
  | _ => .array .boolean
abbrev wsX40 : List Cond := u_ws RX4 TX4 16
set_option maxRecDepth 100000 in
theorem nmX4 : ∀ a, a < 16 → ∀ b, b < 16 → a ≠ b → (TX4 a).2.1 ≠ (TX4 b).2.1 := by decide +kernel
set_option maxRecDepth 100000 in
theorem tyX4_ok : ∀ k, k < 16 → parseFieldDescriptor (TX4 k).2.2.1 = some (tyX4 k) := by decide +kernel
def RX5 : String := "ElectionHouse$Clause"
def TX5 : u_T := fun k => match k with
  | 0 => ("ElectionHouse$Clause", "code", "[I", true)
  | 1 => ("ElectionHouse$Clause", "size", "I", false)
  | 2 => ("ElectionHouse$Clause", "from", "I", false)
  | _ => ("ElectionHouse$Clause", "to", "I", false)
def tyX5 : Nat → FieldType := fun k => match k with
  | 0 => .array .int
  | 1 => .int
  | 2 => .int
  | _ => .int
abbrev wsX50 : List Cond := u_ws RX5 TX5 4
theorem nmX5 : ∀ a, a < 4 → ∀ b, b < 4 → a ≠ b → (TX5 a).2.1 ≠ (TX5 b).2.1 := by decide +kernel
theorem tyX5_ok : ∀ k, k < 4 → parseFieldDescriptor (TX5 k).2.2.1 = some (tyX5 k) := by decide +kernel
def RX6 : String := "ElectionHouse$Way"
def TX6 : u_T := fun k => match k with
  | 0 => ("ElectionHouse$Way", "area", "I", false)
  | 1 => ("ElectionHouse$Way", "seats", "I", false)
  | 2 => ("ElectionHouse$Way", "rule", "I", false)
  | 3 => ("ElectionHouse$Way", "option", "I", false)
  | 4 => ("ElectionHouse$Way", "above", "I", false)
  | 5 => ("ElectionHouse$Way", "below", "I", false)
  | 6 => ("ElectionHouse$Way", "isOpen", "Z", false)
  | _ => ("ElectionHouse$Way", "isLevel", "Z", false)
def tyX6 : Nat → FieldType := fun k => match k with
  | 0 => .int
  | 1 => .int
  | 2 => .int
  | 3 => .int
  | 4 => .int
  | 5 => .int
  | 6 => .boolean
  | _ => .boolean
abbrev wsX60 : List Cond := u_ws RX6 TX6 8
theorem nmX6 : ∀ a, a < 8 → ∀ b, b < 8 → a ≠ b → (TX6 a).2.1 ≠ (TX6 b).2.1 := by decide +kernel
theorem tyX6_ok : ∀ k, k < 8 → parseFieldDescriptor (TX6 k).2.2.1 = some (tyX6 k) := by decide +kernel
def RX7 : String := "ElectionHouse$Digests"
def TX7 : u_T := fun k => match k with
  | 0 => ("ElectionHouse$Digests", "v", "[I", true)
  | 1 => ("ElectionHouse$Digests", "w", "[I", true)
  | _ => ("ElectionHouse$Digests", "head", "[I", true)
def tyX7 : Nat → FieldType := fun k => match k with
  | 0 => .array .int
  | 1 => .array .int
  | _ => .array .int
abbrev wsX70 : List Cond := u_ws RX7 TX7 3
theorem nmX7 : ∀ a, a < 3 → ∀ b, b < 3 → a ≠ b → (TX7 a).2.1 ≠ (TX7 b).2.1 := by decide +kernel
theorem tyX7_ok : ∀ k, k < 3 → parseFieldDescriptor (TX7 k).2.2.1 = some (tyX7 k) := by decide +kernel
def RX8 : String := "ElectionHouse$Count"
def TX8 : u_T := fun k => match k with
  | 0 => ("ElectionHouse$Count", "way", "LElectionHouse$Way;", false)
  | 1 => ("ElectionHouse$Count", "of", "LElectionHouse$Contest;", false)
  | 2 => ("ElectionHouse$Count", "number", "I", false)
  | 3 => ("ElectionHouse$Count", "candidates", "I", false)
  | 4 => ("ElectionHouse$Count", "is", "[Z", true)
  | 5 => ("ElectionHouse$Count", "left", "I", false)
  | 6 => ("ElectionHouse$Count", "ballots", "[[B", true)
  | 7 => ("ElectionHouse$Count", "ballot", "[B", true)
  | 8 => ("ElectionHouse$Count", "valid", "I", false)
  | 9 => ("ElectionHouse$Count", "blank", "I", false)
  | 10 => ("ElectionHouse$Count", "spoiled", "I", false)
  | 11 => ("ElectionHouse$Count", "rankings", "[[I", true)
  | 12 => ("ElectionHouse$Count", "ranked", "[I", true)
  | 13 => ("ElectionHouse$Count", "votes", "[J", true)
  | 14 => ("ElectionHouse$Count", "rounds", "[[J", true)
  | 15 => ("ElectionHouse$Count", "acts", "[I", true)
  | 16 => ("ElectionHouse$Count", "whose", "[I", true)
  | 17 => ("ElectionHouse$Count", "roundMany", "I", false)
  | 18 => ("ElectionHouse$Count", "elected", "[I", true)
  | 19 => ("ElectionHouse$Count", "electedMany", "I", false)
  | 20 => ("ElectionHouse$Count", "isElected", "[Z", true)
  | 21 => ("ElectionHouse$Count", "isOut", "[Z", true)
  | 22 => ("ElectionHouse$Count", "house", "I", false)
  | 23 => ("ElectionHouse$Count", "marks", "[[B", true)
  | 24 => ("ElectionHouse$Count", "one", "[B", true)
  | 25 => ("ElectionHouse$Count", "two", "[B", true)
  | 26 => ("ElectionHouse$Count", "worth", "[J", true)
  | 27 => ("ElectionHouse$Count", "lies", "[I", true)
  | 28 => ("ElectionHouse$Count", "isGiven", "[Z", true)
  | 29 => ("ElectionHouse$Count", "quota", "J", false)
  | 30 => ("ElectionHouse$Count", "x", "J", false)
  | 31 => ("ElectionHouse$Count", "keeps", "[J", true)
  | 32 => ("ElectionHouse$Count", "allVotes", "J", false)
  | 33 => ("ElectionHouse$Count", "above", "[[I", true)
  | 34 => ("ElectionHouse$Count", "beats", "[[Z", true)
  | 35 => ("ElectionHouse$Count", "kept", "[[Z", true)
  | 36 => ("ElectionHouse$Count", "widths", "[[I", true)
  | 37 => ("ElectionHouse$Count", "rest", "[Z", true)
  | 38 => ("ElectionHouse$Count", "pairA", "[I", true)
  | 39 => ("ElectionHouse$Count", "pairB", "[I", true)
  | 40 => ("ElectionHouse$Count", "pairs", "I", false)
  | 41 => ("ElectionHouse$Count", "lists", "[I", true)
  | 42 => ("ElectionHouse$Count", "listMany", "I", false)
  | 43 => ("ElectionHouse$Count", "listVotes", "[I", true)
  | 44 => ("ElectionHouse$Count", "room", "[I", true)
  | 45 => ("ElectionHouse$Count", "takesPart", "[Z", true)
  | 46 => ("ElectionHouse$Count", "seats", "[I", true)
  | 47 => ("ElectionHouse$Count", "remainders", "[I", true)
  | 48 => ("ElectionHouse$Count", "byRemainder", "[I", true)
  | 49 => ("ElectionHouse$Count", "taking", "I", false)
  | 50 => ("ElectionHouse$Count", "firstSeats", "[I", true)
  | 51 => ("ElectionHouse$Count", "allFirst", "I", false)
  | 52 => ("ElectionHouse$Count", "isElsewhere", "[Z", true)
  | _ => ("ElectionHouse$Count", "marked", "[J", true)
def tyX8 : Nat → FieldType := fun k => match k with
  | 0 => .object "ElectionHouse$Way"
  | 1 => .object "ElectionHouse$Contest"
  | 2 => .int
  | 3 => .int
  | 4 => .array .boolean
  | 5 => .int
  | 6 => .array (.array .byte)
  | 7 => .array .byte
  | 8 => .int
  | 9 => .int
  | 10 => .int
  | 11 => .array (.array .int)
  | 12 => .array .int
  | 13 => .array .long
  | 14 => .array (.array .long)
  | 15 => .array .int
  | 16 => .array .int
  | 17 => .int
  | 18 => .array .int
  | 19 => .int
  | 20 => .array .boolean
  | 21 => .array .boolean
  | 22 => .int
  | 23 => .array (.array .byte)
  | 24 => .array .byte
  | 25 => .array .byte
  | 26 => .array .long
  | 27 => .array .int
  | 28 => .array .boolean
  | 29 => .long
  | 30 => .long
  | 31 => .array .long
  | 32 => .long
  | 33 => .array (.array .int)
  | 34 => .array (.array .boolean)
  | 35 => .array (.array .boolean)
  | 36 => .array (.array .int)
  | 37 => .array .boolean
  | 38 => .array .int
  | 39 => .array .int
  | 40 => .int
  | 41 => .array .int
  | 42 => .int
  | 43 => .array .int
  | 44 => .array .int
  | 45 => .array .boolean
  | 46 => .array .int
  | 47 => .array .int
  | 48 => .array .int
  | 49 => .int
  | 50 => .array .int
  | 51 => .int
  | 52 => .array .boolean
  | _ => .array .long
abbrev wsX80 : List Cond := u_ws RX8 TX8 54
set_option maxRecDepth 100000 in
theorem nmX8 : ∀ a, a < 54 → ∀ b, b < 54 → a ≠ b → (TX8 a).2.1 ≠ (TX8 b).2.1 := by decide +kernel
set_option maxRecDepth 100000 in
theorem tyX8_ok : ∀ k, k < 54 → parseFieldDescriptor (TX8 k).2.2.1 = some (tyX8 k) := by decide +kernel
def RX9 : String := "ElectionHouse$Contest"
def TX9 : u_T := fun k => match k with
  | 0 => ("ElectionHouse$Contest", "nominated", "I", false)
  | 1 => ("ElectionHouse$Contest", "people", "[I", true)
  | 2 => ("ElectionHouse$Contest", "persons", "[I", true)
  | 3 => ("ElectionHouse$Contest", "parties", "[I", true)
  | 4 => ("ElectionHouse$Contest", "nominations", "[I", true)
  | 5 => ("ElectionHouse$Contest", "isStruck", "[Z", true)
  | 6 => ("ElectionHouse$Contest", "candidates", "I", false)
  | 7 => ("ElectionHouse$Contest", "lot", "[I", true)
  | 8 => ("ElectionHouse$Contest", "places", "[I", true)
  | _ => ("ElectionHouse$Contest", "isDrawn", "Z", false)
def tyX9 : Nat → FieldType := fun k => match k with
  | 0 => .int
  | 1 => .array .int
  | 2 => .array .int
  | 3 => .array .int
  | 4 => .array .int
  | 5 => .array .boolean
  | 6 => .int
  | 7 => .array .int
  | 8 => .array .int
  | _ => .boolean
abbrev wsX90 : List Cond := u_ws RX9 TX9 10
theorem nmX9 : ∀ a, a < 10 → ∀ b, b < 10 → a ≠ b → (TX9 a).2.1 ≠ (TX9 b).2.1 := by decide +kernel
theorem tyX9_ok : ∀ k, k < 10 → parseFieldDescriptor (TX9 k).2.2.1 = some (tyX9 k) := by decide +kernel
def RX10 : String := "ElectionHouse$Box"
def TX10 : u_T := fun k => match k with
  | 0 => ("ElectionHouse$Box", "sheets", "[I", true)
  | 1 => ("ElectionHouse$Box", "papers", "[[B", true)
  | 2 => ("ElectionHouse$Box", "records", "[[B", true)
  | 3 => ("ElectionHouse$Box", "many", "I", false)
  | 4 => ("ElectionHouse$Box", "isClosed", "Z", false)
  | _ => ("ElectionHouse$Box", "isStruck", "Z", false)
def tyX10 : Nat → FieldType := fun k => match k with
  | 0 => .array .int
  | 1 => .array (.array .byte)
  | 2 => .array (.array .byte)
  | 3 => .int
  | 4 => .boolean
  | _ => .boolean
abbrev wsX100 : List Cond := u_ws RX10 TX10 6
theorem nmX10 : ∀ a, a < 6 → ∀ b, b < 6 → a ≠ b → (TX10 a).2.1 ≠ (TX10 b).2.1 := by decide +kernel
theorem tyX10_ok : ∀ k, k < 6 → parseFieldDescriptor (TX10 k).2.2.1 = some (tyX10 k) := by decide +kernel
def RX11 : String := "ElectionHouseModel"
def TX11 : u_T := fun k => match k with
  | 0 => ("ElectionHouseModel", "tape", "[B", true)
  | 1 => ("ElectionHouseModel", "taped", "I", false)
  | 2 => ("ElectionHouseModel", "now", "I", false)
  | 3 => ("ElectionHouseModel", "areas", "I", false)
  | 4 => ("ElectionHouseModel", "areaKind", "[I", true)
  | 5 => ("ElectionHouseModel", "borders", "I", false)
  | 6 => ("ElectionHouseModel", "borderArea", "[I", true)
  | 7 => ("ElectionHouseModel", "borderFrom", "[I", true)
  | 8 => ("ElectionHouseModel", "borderTo", "[I", true)
  | 9 => ("ElectionHouseModel", "borderDay", "[I", true)
  | 10 => ("ElectionHouseModel", "persons", "I", false)
  | 11 => ("ElectionHouseModel", "birth", "[I", true)
  | 12 => ("ElectionHouseModel", "birthYear", "[I", true)
  | 13 => ("ElectionHouseModel", "birthMonth", "[I", true)
  | 14 => ("ElectionHouseModel", "birthDate", "[I", true)
  | 15 => ("ElectionHouseModel", "death", "[I", true)
  | 16 => ("ElectionHouseModel", "moves", "[I", true)
  | 17 => ("ElectionHouseModel", "moveDay", "[I", true)
  | 18 => ("ElectionHouseModel", "moveTo", "[I", true)
  | 19 => ("ElectionHouseModel", "facts", "[I", true)
  | 20 => ("ElectionHouseModel", "factKind", "[I", true)
  | 21 => ("ElectionHouseModel", "factYes", "[I", true)
  | 22 => ("ElectionHouseModel", "factFrom", "[I", true)
  | 23 => ("ElectionHouseModel", "factTo", "[I", true)
  | 24 => ("ElectionHouseModel", "signSort", "[I", true)
  | 25 => ("ElectionHouseModel", "signFrom", "[I", true)
  | 26 => ("ElectionHouseModel", "signTo", "[I", true)
  | 27 => ("ElectionHouseModel", "signValue", "[I", true)
  | 28 => ("ElectionHouseModel", "textSize", "I", false)
  | 29 => ("ElectionHouseModel", "at", "I", false)
  | 30 => ("ElectionHouseModel", "wrongAt", "I", false)
  | 31 => ("ElectionHouseModel", "least", "I", false)
  | 32 => ("ElectionHouseModel", "number", "I", false)
  | 33 => ("ElectionHouseModel", "numberAt", "I", false)
  | 34 => ("ElectionHouseModel", "timeDay", "I", false)
  | 35 => ("ElectionHouseModel", "timeAt", "I", false)
  | 36 => ("ElectionHouseModel", "step", "[I", true)
  | 37 => ("ElectionHouseModel", "steps", "[I", true)
  | 38 => ("ElectionHouseModel", "tests", "[I", true)
  | 39 => ("ElectionHouseModel", "testSort", "[I", true)
  | 40 => ("ElectionHouseModel", "testNumber", "[I", true)
  | 41 => ("ElectionHouseModel", "testDay", "[I", true)
  | 42 => ("ElectionHouseModel", "testAt", "[I", true)
  | 43 => ("ElectionHouseModel", "lawNumber", "[I", true)
  | 44 => ("ElectionHouseModel", "contestNumber", "[I", true)
  | 45 => ("ElectionHouseModel", "hasLaw", "Z", false)
  | 46 => ("ElectionHouseModel", "eve", "Z", false)
  | 47 => ("ElectionHouseModel", "contests", "I", false)
  | 48 => ("ElectionHouseModel", "failedAt", "I", false)
  | 49 => ("ElectionHouseModel", "hasLevel", "Z", false)
  | 50 => ("ElectionHouseModel", "told", "I", false)
  | 51 => ("ElectionHouseModel", "anyOf", "[Z", true)
  | 52 => ("ElectionHouseModel", "allOf", "[Z", true)
  | 53 => ("ElectionHouseModel", "turned", "[Z", true)
  | 54 => ("ElectionHouseModel", "around", "[Z", true)
  | 55 => ("ElectionHouseModel", "firstFailed", "I", false)
  | 56 => ("ElectionHouseModel", "nominations", "I", false)
  | 57 => ("ElectionHouseModel", "nomContest", "[I", true)
  | 58 => ("ElectionHouseModel", "nomPerson", "[I", true)
  | 59 => ("ElectionHouseModel", "nomParty", "[I", true)
  | 60 => ("ElectionHouseModel", "nomSigned", "[I", true)
  | 61 => ("ElectionHouseModel", "nomState", "[I", true)
  | 62 => ("ElectionHouseModel", "nomCandidate", "[I", true)
  | 63 => ("ElectionHouseModel", "hasSigned", "[Z", true)
  | 64 => ("ElectionHouseModel", "frozen", "Z", false)
  | 65 => ("ElectionHouseModel", "candidates", "[I", true)
  | 66 => ("ElectionHouseModel", "candidateNom", "[I", true)
  | 67 => ("ElectionHouseModel", "isStruck", "[Z", true)
  | 68 => ("ElectionHouseModel", "lotAt", "[I", true)
  | 69 => ("ElectionHouseModel", "lotPlace", "[I", true)
  | 70 => ("ElectionHouseModel", "isDrawn", "[Z", true)
  | 71 => ("ElectionHouseModel", "rows", "I", false)
  | 72 => ("ElectionHouseModel", "rowPerson", "[I", true)
  | 73 => ("ElectionHouseModel", "rowSheet", "[I", true)
  | 74 => ("ElectionHouseModel", "rowOn", "[Z", true)
  | 75 => ("ElectionHouseModel", "appeals", "I", false)
  | 76 => ("ElectionHouseModel", "appealPerson", "[I", true)
  | 77 => ("ElectionHouseModel", "appealKind", "[I", true)
  | 78 => ("ElectionHouseModel", "isDecided", "[Z", true)
  | 79 => ("ElectionHouseModel", "stations", "I", false)
  | 80 => ("ElectionHouseModel", "clockIs", "[I", true)
  | 81 => ("ElectionHouseModel", "isCut", "[Z", true)
  | 82 => ("ElectionHouseModel", "issues", "I", false)
  | 83 => ("ElectionHouseModel", "issuePerson", "[I", true)
  | 84 => ("ElectionHouseModel", "issueStation", "[I", true)
  | 85 => ("ElectionHouseModel", "issueState", "[I", true)
  | 86 => ("ElectionHouseModel", "issueTime", "[I", true)
  | 87 => ("ElectionHouseModel", "isJoined", "[Z", true)
  | 88 => ("ElectionHouseModel", "issueSheet", "[I", true)
  | 89 => ("ElectionHouseModel", "knew", "[I", true)
  | 90 => ("ElectionHouseModel", "mark", "[B", true)
  | 91 => ("ElectionHouseModel", "read", "[B", true)
  | 92 => ("ElectionHouseModel", "wentBy", "[Z", true)
  | 93 => ("ElectionHouseModel", "papers", "[I", true)
  | 94 => ("ElectionHouseModel", "paperOf", "[I", true)
  | 95 => ("ElectionHouseModel", "isClosed", "[Z", true)
  | 96 => ("ElectionHouseModel", "isOut", "[Z", true)
  | 97 => ("ElectionHouseModel", "who", "I", false)
  | 98 => ("ElectionHouseModel", "all", "I", false)
  | 99 => ("ElectionHouseModel", "running", "I", false)
  | 100 => ("ElectionHouseModel", "seats", "I", false)
  | 101 => ("ElectionHouseModel", "runs", "[Z", true)
  | 102 => ("ElectionHouseModel", "valid", "I", false)
  | 103 => ("ElectionHouseModel", "blank", "I", false)
  | 104 => ("ElectionHouseModel", "bad", "I", false)
  | 105 => ("ElectionHouseModel", "ballot", "[I", true)
  | 106 => ("ElectionHouseModel", "ranking", "[I", true)
  | 107 => ("ElectionHouseModel", "ranked", "[I", true)
  | 108 => ("ElectionHouseModel", "vote", "[J", true)
  | 109 => ("ElectionHouseModel", "order", "[I", true)
  | 110 => ("ElectionHouseModel", "ordered", "I", false)
  | 111 => ("ElectionHouseModel", "hasCount", "Z", false)
  | 112 => ("ElectionHouseModel", "counted", "I", false)
  | 113 => ("ElectionHouseModel", "countValid", "I", false)
  | 114 => ("ElectionHouseModel", "countBlank", "I", false)
  | 115 => ("ElectionHouseModel", "countBad", "I", false)
  | 116 => ("ElectionHouseModel", "rounds", "I", false)
  | 117 => ("ElectionHouseModel", "roundVote", "[J", true)
  | 118 => ("ElectionHouseModel", "roundAct", "[I", true)
  | 119 => ("ElectionHouseModel", "roundWho", "[I", true)
  | 120 => ("ElectionHouseModel", "wins", "I", false)
  | 121 => ("ElectionHouseModel", "winner", "[I", true)
  | 122 => ("ElectionHouseModel", "house", "I", false)
  | 123 => ("ElectionHouseModel", "marksHad", "[I", true)
  | 124 => ("ElectionHouseModel", "oneHad", "[I", true)
  | 125 => ("ElectionHouseModel", "otherHad", "[I", true)
  | 126 => ("ElectionHouseModel", "standing", "[I", true)
  | 127 => ("ElectionHouseModel", "holder", "[I", true)
  | 128 => ("ElectionHouseModel", "worth", "[J", true)
  | 129 => ("ElectionHouseModel", "isGiven", "[Z", true)
  | 130 => ("ElectionHouseModel", "sorted", "[I", true)
  | 131 => ("ElectionHouseModel", "keep", "[J", true)
  | 132 => ("ElectionHouseModel", "pair", "[I", true)
  | 133 => ("ElectionHouseModel", "way", "[I", true)
  | 134 => ("ElectionHouseModel", "isKept", "[Z", true)
  | 135 => ("ElectionHouseModel", "comes", "[Z", true)
  | 136 => ("ElectionHouseModel", "duel", "[I", true)
  | 137 => ("ElectionHouseModel", "lists", "I", false)
  | 138 => ("ElectionHouseModel", "listOf", "[I", true)
  | 139 => ("ElectionHouseModel", "listParty", "[I", true)
  | 140 => ("ElectionHouseModel", "listVotes", "[I", true)
  | 141 => ("ElectionHouseModel", "listSize", "[I", true)
  | 142 => ("ElectionHouseModel", "takesPart", "[Z", true)
  | 143 => ("ElectionHouseModel", "listSeats", "[I", true)
  | 144 => ("ElectionHouseModel", "listRest", "[I", true)
  | 145 => ("ElectionHouseModel", "listFirst", "[I", true)
  | 146 => ("ElectionHouseModel", "listWins", "[I", true)
  | 147 => ("ElectionHouseModel", "listOrder", "[I", true)
  | 148 => ("ElectionHouseModel", "firstWins", "I", false)
  | 149 => ("ElectionHouseModel", "firstOf", "[I", true)
  | 150 => ("ElectionHouseModel", "isFirstWinner", "[Z", true)
  | 151 => ("ElectionHouseModel", "choose", "[J", true)
  | 152 => ("ElectionHouseModel", "hasSample", "Z", false)
  | 153 => ("ElectionHouseModel", "drawn", "I", false)
  | 154 => ("ElectionHouseModel", "drawnBox", "[I", true)
  | 155 => ("ElectionHouseModel", "drawnPlace", "[I", true)
  | 156 => ("ElectionHouseModel", "drawnOther", "[Z", true)
  | 157 => ("ElectionHouseModel", "sampleOf", "I", false)
  | 158 => ("ElectionHouseModel", "sampleBy", "I", false)
  | 159 => ("ElectionHouseModel", "sampleHalf", "I", false)
  | 160 => ("ElectionHouseModel", "riskAbove", "J", false)
  | 161 => ("ElectionHouseModel", "riskBelow", "J", false)
  | 162 => ("ElectionHouseModel", "heapBox", "[I", true)
  | 163 => ("ElectionHouseModel", "heapPlace", "[I", true)
  | 164 => ("ElectionHouseModel", "topOf", "[B", true)
  | 165 => ("ElectionHouseModel", "written", "I", false)
  | 166 => ("ElectionHouseModel", "piece", "[B", true)
  | 167 => ("ElectionHouseModel", "spread", "[I", true)
  | 168 => ("ElectionHouseModel", "sum", "[I", true)
  | 169 => ("ElectionHouseModel", "state", "[I", true)
  | 170 => ("ElectionHouseModel", "roundNumber", "[I", true)
  | _ => ("ElectionHouseModel", "firstState", "[I", true)
def tyX11 : Nat → FieldType := fun k => match k with
  | 0 => .array .byte
  | 1 => .int
  | 2 => .int
  | 3 => .int
  | 4 => .array .int
  | 5 => .int
  | 6 => .array .int
  | 7 => .array .int
  | 8 => .array .int
  | 9 => .array .int
  | 10 => .int
  | 11 => .array .int
  | 12 => .array .int
  | 13 => .array .int
  | 14 => .array .int
  | 15 => .array .int
  | 16 => .array .int
  | 17 => .array .int
  | 18 => .array .int
  | 19 => .array .int
  | 20 => .array .int
  | 21 => .array .int
  | 22 => .array .int
  | 23 => .array .int
  | 24 => .array .int
  | 25 => .array .int
  | 26 => .array .int
  | 27 => .array .int
  | 28 => .int
  | 29 => .int
  | 30 => .int
  | 31 => .int
  | 32 => .int
  | 33 => .int
  | 34 => .int
  | 35 => .int
  | 36 => .array .int
  | 37 => .array .int
  | 38 => .array .int
  | 39 => .array .int
  | 40 => .array .int
  | 41 => .array .int
  | 42 => .array .int
  | 43 => .array .int
  | 44 => .array .int
  | 45 => .boolean
  | 46 => .boolean
  | 47 => .int
  | 48 => .int
  | 49 => .boolean
  | 50 => .int
  | 51 => .array .boolean
  | 52 => .array .boolean
  | 53 => .array .boolean
  | 54 => .array .boolean
  | 55 => .int
  | 56 => .int
  | 57 => .array .int
  | 58 => .array .int
  | 59 => .array .int
  | 60 => .array .int
  | 61 => .array .int
  | 62 => .array .int
  | 63 => .array .boolean
  | 64 => .boolean
  | 65 => .array .int
  | 66 => .array .int
  | 67 => .array .boolean
  | 68 => .array .int
  | 69 => .array .int
  | 70 => .array .boolean
  | 71 => .int
  | 72 => .array .int
  | 73 => .array .int
  | 74 => .array .boolean
  | 75 => .int
  | 76 => .array .int
  | 77 => .array .int
  | 78 => .array .boolean
  | 79 => .int
  | 80 => .array .int
  | 81 => .array .boolean
  | 82 => .int
  | 83 => .array .int
  | 84 => .array .int
  | 85 => .array .int
  | 86 => .array .int
  | 87 => .array .boolean
  | 88 => .array .int
  | 89 => .array .int
  | 90 => .array .byte
  | 91 => .array .byte
  | 92 => .array .boolean
  | 93 => .array .int
  | 94 => .array .int
  | 95 => .array .boolean
  | 96 => .array .boolean
  | 97 => .int
  | 98 => .int
  | 99 => .int
  | 100 => .int
  | 101 => .array .boolean
  | 102 => .int
  | 103 => .int
  | 104 => .int
  | 105 => .array .int
  | 106 => .array .int
  | 107 => .array .int
  | 108 => .array .long
  | 109 => .array .int
  | 110 => .int
  | 111 => .boolean
  | 112 => .int
  | 113 => .int
  | 114 => .int
  | 115 => .int
  | 116 => .int
  | 117 => .array .long
  | 118 => .array .int
  | 119 => .array .int
  | 120 => .int
  | 121 => .array .int
  | 122 => .int
  | 123 => .array .int
  | 124 => .array .int
  | 125 => .array .int
  | 126 => .array .int
  | 127 => .array .int
  | 128 => .array .long
  | 129 => .array .boolean
  | 130 => .array .int
  | 131 => .array .long
  | 132 => .array .int
  | 133 => .array .int
  | 134 => .array .boolean
  | 135 => .array .boolean
  | 136 => .array .int
  | 137 => .int
  | 138 => .array .int
  | 139 => .array .int
  | 140 => .array .int
  | 141 => .array .int
  | 142 => .array .boolean
  | 143 => .array .int
  | 144 => .array .int
  | 145 => .array .int
  | 146 => .array .int
  | 147 => .array .int
  | 148 => .int
  | 149 => .array .int
  | 150 => .array .boolean
  | 151 => .array .long
  | 152 => .boolean
  | 153 => .int
  | 154 => .array .int
  | 155 => .array .int
  | 156 => .array .boolean
  | 157 => .int
  | 158 => .int
  | 159 => .int
  | 160 => .long
  | 161 => .long
  | 162 => .array .int
  | 163 => .array .int
  | 164 => .array .byte
  | 165 => .int
  | 166 => .array .byte
  | 167 => .array .int
  | 168 => .array .int
  | 169 => .array .int
  | 170 => .array .int
  | _ => .array .int
abbrev wsX110 : List Cond := u_ws RX11 TX11 172
set_option maxRecDepth 100000 in
theorem nmX11 : ∀ a, a < 172 → ∀ b, b < 172 → a ≠ b → (TX11 a).2.1 ≠ (TX11 b).2.1 := by decide +kernel
set_option maxRecDepth 100000 in
theorem tyX11_ok : ∀ k, k < 172 → parseFieldDescriptor (TX11 k).2.2.1 = some (tyX11 k) := by decide +kernel
def RX13 : String := "ElectionHouse$Person"
def TX13 : u_T := fun k => match k with
  | 0 => ("ElectionHouse$Person", "year", "I", true)
  | 1 => ("ElectionHouse$Person", "month", "I", true)
  | 2 => ("ElectionHouse$Person", "date", "I", true)
  | 3 => ("ElectionHouse$Person", "born", "I", true)
  | 4 => ("ElectionHouse$Person", "death", "I", false)
  | 5 => ("ElectionHouse$Person", "isDead", "Z", false)
  | 6 => ("ElectionHouse$Person", "movedOn", "[I", true)
  | 7 => ("ElectionHouse$Person", "movedTo", "[I", true)
  | 8 => ("ElectionHouse$Person", "moves", "I", false)
  | 9 => ("ElectionHouse$Person", "kinds", "[I", true)
  | 10 => ("ElectionHouse$Person", "yes", "[I", true)
  | 11 => ("ElectionHouse$Person", "from", "[I", true)
  | 12 => ("ElectionHouse$Person", "to", "[I", true)
  | _ => ("ElectionHouse$Person", "facts", "I", false)
def tyX13 : Nat → FieldType := fun k => match k with
  | 0 => .int
  | 1 => .int
  | 2 => .int
  | 3 => .int
  | 4 => .int
  | 5 => .boolean
  | 6 => .array .int
  | 7 => .array .int
  | 8 => .int
  | 9 => .array .int
  | 10 => .array .int
  | 11 => .array .int
  | 12 => .array .int
  | _ => .int
abbrev wsX130 : List Cond := u_ws RX13 TX13 14
set_option maxRecDepth 100000 in
theorem nmX13 : ∀ a, a < 14 → ∀ b, b < 14 → a ≠ b → (TX13 a).2.1 ≠ (TX13 b).2.1 := by decide +kernel
set_option maxRecDepth 100000 in
theorem tyX13_ok : ∀ k, k < 14 → parseFieldDescriptor (TX13 k).2.2.1 = some (tyX13 k) := by decide +kernel
def RX14 : String := "ElectionHouse$Nomination"
def TX14 : u_T := fun k => match k with
  | 0 => ("ElectionHouse$Nomination", "contest", "I", true)
  | 1 => ("ElectionHouse$Nomination", "person", "I", true)
  | 2 => ("ElectionHouse$Nomination", "party", "I", true)
  | 3 => ("ElectionHouse$Nomination", "signers", "J", false)
  | 4 => ("ElectionHouse$Nomination", "signatures", "I", false)
  | 5 => ("ElectionHouse$Nomination", "isWithdrawn", "Z", false)
  | 6 => ("ElectionHouse$Nomination", "state", "I", false)
  | _ => ("ElectionHouse$Nomination", "candidate", "I", false)
def tyX14 : Nat → FieldType := fun k => match k with
  | 0 => .int
  | 1 => .int
  | 2 => .int
  | 3 => .long
  | 4 => .int
  | 5 => .boolean
  | 6 => .int
  | _ => .int
abbrev wsX140 : List Cond := u_ws RX14 TX14 8
theorem nmX14 : ∀ a, a < 8 → ∀ b, b < 8 → a ≠ b → (TX14 a).2.1 ≠ (TX14 b).2.1 := by decide +kernel
theorem tyX14_ok : ∀ k, k < 8 → parseFieldDescriptor (TX14 k).2.2.1 = some (tyX14 k) := by decide +kernel
def RX15 : String := "ElectionHouse$Issue"
def TX15 : u_T := fun k => match k with
  | 0 => ("ElectionHouse$Issue", "number", "I", true)
  | 1 => ("ElectionHouse$Issue", "person", "I", true)
  | 2 => ("ElectionHouse$Issue", "station", "I", true)
  | 3 => ("ElectionHouse$Issue", "time", "I", true)
  | 4 => ("ElectionHouse$Issue", "sheet", "I", true)
  | 5 => ("ElectionHouse$Issue", "isJoined", "Z", false)
  | 6 => ("ElectionHouse$Issue", "state", "I", false)
  | _ => ("ElectionHouse$Issue", "marks", "[B", true)
def tyX15 : Nat → FieldType := fun k => match k with
  | 0 => .int
  | 1 => .int
  | 2 => .int
  | 3 => .int
  | 4 => .int
  | 5 => .boolean
  | 6 => .int
  | _ => .array .byte
abbrev wsX150 : List Cond := u_ws RX15 TX15 8
theorem nmX15 : ∀ a, a < 8 → ∀ b, b < 8 → a ≠ b → (TX15 a).2.1 ≠ (TX15 b).2.1 := by decide +kernel
theorem tyX15_ok : ∀ k, k < 8 → parseFieldDescriptor (TX15 k).2.2.1 = some (tyX15 k) := by decide +kernel
def k_cl : List vw_C := [(RX0, TX0, 49), (RX1, TX1, 7), (RX2, TX2, 17), (RX3, TX3, 7), (RX4, TX4, 16), (RX5, TX5, 4), (RX6, TX6, 8), (RX7, TX7, 3), (RX8, TX8, 54), (RX9, TX9, 10), (RX10, TX10, 6), (RX11, TX11, 172), (RX13, TX13, 14), (RX14, TX14, 8), (RX15, TX15, 8)]
def k_N (c : Nat) : Nat := match c with | 0 => 49 | 1 => 7 | 2 => 17 | 3 => 7 | 4 => 16 | 5 => 4 | 6 => 8 | 7 => 3 | 8 => 54 | 9 => 10 | 10 => 6 | 11 => 172 | 12 => 14 | 13 => 8 | 14 => 8 | _ => 0
def k_ty (c k : Nat) : FieldType := match c with
  | 0 => tyX0 k
  | 1 => tyX1 k
  | 2 => tyX2 k
  | 3 => tyX3 k
  | 4 => tyX4 k
  | 5 => tyX5 k
  | 6 => tyX6 k
  | 7 => tyX7 k
  | 8 => tyX8 k
  | 9 => tyX9 k
  | 10 => tyX10 k
  | 11 => tyX11 k
  | 12 => tyX13 k
  | 13 => tyX14 k
  | 14 => tyX15 k
  | _ => .int
def k_of (c k : Nat) : Int := match c with
  | 0 => (match k with | 0 => 1 | 3 => 2 | 4 => 8 | 6 => 9 | 11 => 52 | 13 => 56 | 14 => 57 | 16 => 58 | 18 => 59 | 19 => 60 | 20 => 61 | 22 => 62 | 23 => 63 | 24 => 64 | 25 => 65 | 27 => 66 | 28 => 67 | 29 => 68 | 31 => 75 | 33 => 76 | 34 => 77 | 35 => 78 | 36 => 320 | 38 => 562 | 39 => 563 | 40 => 564 | 41 => 565 | 48 => 566 | _ => 0)
  | 1 => (match k with | 0 => 1 | 2 => 2 | 3 => 3 | 4 => 4 | 5 => 5 | _ => 0)
  | 2 => (match k with | 0 => 4 | 1 => 1 | 2 => (-7) | 3 => (-8) | 11 => 2 | 14 => 3 | _ => 0)
  | 4 => (match k with | 0 => 1 | 6 => 2 | 7 => 4 | 8 => 6 | 9 => 7 | 10 => 8 | 11 => 9 | 12 => 10 | 13 => 11 | 15 => 12 | _ => 0)
  | 5 => (match k with | 0 => 1 | _ => 0)
  | 7 => (match k with | 0 => 1 | 1 => 2 | 2 => 3 | _ => 0)
  | 8 => (match k with | 4 => 1 | 6 => 2 | 7 => 63 | 11 => 64 | 12 => 125 | 13 => 126 | 14 => 127 | 15 => 168 | 16 => 169 | 18 => 170 | 20 => 171 | 21 => 172 | 23 => 173 | 24 => 183 | 25 => 184 | 26 => 185 | 27 => 186 | 28 => 187 | 31 => 188 | 33 => 189 | 34 => 199 | 35 => 209 | 36 => 219 | 37 => 229 | 38 => 230 | 39 => 231 | 41 => 232 | 43 => 233 | 44 => 234 | 45 => 235 | 46 => 236 | 47 => 237 | 48 => 238 | 50 => 239 | 52 => 240 | 53 => 241 | _ => 0)
  | 9 => (match k with | 1 => 1 | 2 => 2 | 3 => 3 | 4 => 4 | 5 => 5 | 7 => 6 | 8 => 7 | _ => 0)
  | 10 => (match k with | 0 => 1 | 1 => 2 | 2 => 63 | _ => 0)
  | 11 => (match k with | 0 => 1 | 4 => 2 | 6 => 3 | 7 => 4 | 8 => 5 | 9 => 6 | 11 => 7 | 12 => 8 | 13 => 9 | 14 => 10 | 15 => 11 | 16 => 12 | 17 => 13 | 18 => 14 | 19 => 15 | 20 => 16 | 21 => 17 | 22 => 18 | 23 => 19 | 24 => 20 | 25 => 21 | 26 => 22 | 27 => 23 | 36 => 24 | 37 => 25 | 38 => 26 | 39 => 27 | 40 => 28 | 41 => 29 | 42 => 30 | 43 => 31 | 44 => 32 | 51 => 33 | 52 => 34 | 53 => 35 | 54 => 36 | 57 => 37 | 58 => 38 | 59 => 39 | 60 => 40 | 61 => 41 | 62 => 42 | 63 => 43 | 65 => 44 | 66 => 45 | 67 => 46 | 68 => 47 | 69 => 48 | 70 => 49 | 72 => 50 | 73 => 51 | 74 => 52 | 76 => 53 | 77 => 54 | 78 => 55 | 80 => 56 | 81 => 57 | 83 => 58 | 84 => 59 | 85 => 60 | 86 => 61 | 87 => 62 | 88 => 63 | 89 => 64 | 90 => 65 | 91 => 66 | 92 => 67 | 93 => 68 | 94 => 69 | 95 => 70 | 96 => 71 | 101 => 72 | 105 => 73 | 106 => 74 | 107 => 75 | 108 => 76 | 109 => 77 | 117 => 78 | 118 => 79 | 119 => 80 | 121 => 81 | 123 => 82 | 124 => 83 | 125 => 84 | 126 => 85 | 127 => 86 | 128 => 87 | 129 => 88 | 130 => 89 | 131 => 90 | 132 => 91 | 133 => 92 | 134 => 93 | 135 => 94 | 136 => 95 | 138 => 96 | 139 => 97 | 140 => 98 | 141 => 99 | 142 => 100 | 143 => 101 | 144 => 102 | 145 => 103 | 146 => 104 | 147 => 105 | 149 => 106 | 150 => 107 | 151 => 108 | 154 => 109 | 155 => 110 | 156 => 111 | 162 => 112 | 163 => 113 | 164 => 114 | 166 => 115 | 167 => 116 | 168 => 117 | 169 => 118 | 170 => 119 | 171 => 120 | _ => 0)
  | 12 => (match k with | 6 => 1 | 7 => 2 | 9 => 3 | 10 => 4 | 11 => 5 | 12 => 6 | _ => 0)
  | 14 => (match k with | 7 => 1 | _ => 0)
  | _ => 0
def k_ln (c k : Nat) : Int := match c with
  | 0 => (match k with | 0 => 4000 | 4 => 60 | 13 => 6 | 14 => 54 | 16 => 60 | 18 => 60 | 19 => 60 | 20 => 60 | 22 => 60 | 23 => 60 | 24 => 60 | 25 => 60 | 27 => 6 | 28 => 6 | 29 => 6 | 31 => 200 | 33 => 200 | 34 => 7 | 38 => 60 | 39 => 60 | 40 => 60 | 41 => 60 | 48 => 61 | _ => 0)
  | 1 => (match k with | 0 => 24 | 2 => 60 | 3 => 60 | 4 => 60 | 5 => 60 | _ => 0)
  | 2 => (match k with | 0 => 55 | 3 => 4000 | 11 => 7 | 14 => 4000 | _ => 0)
  | 4 => (match k with | 0 => 4 | 8 => 40 | 9 => 40 | 10 => 40 | 11 => 40 | 12 => 40 | 13 => 6 | 15 => 41 | _ => 0)
  | 5 => (match k with | 0 => 4000 | _ => 0)
  | 7 => (match k with | 0 => 8 | 1 => 64 | 2 => 8 | _ => 0)
  | 8 => (match k with | 4 => 9 | 6 => 60 | 7 => 9 | 11 => 60 | 12 => 60 | 13 => 9 | 14 => 40 | 15 => 40 | 16 => 40 | 18 => 9 | 20 => 9 | 21 => 9 | 23 => 9 | 24 => 60 | 25 => 60 | 26 => 60 | 27 => 60 | 28 => 9 | 31 => 9 | 33 => 9 | 34 => 9 | 35 => 9 | 36 => 9 | 37 => 9 | 38 => 81 | 39 => 81 | 41 => 9 | 43 => 9 | 44 => 9 | 45 => 9 | 46 => 9 | 47 => 9 | 48 => 9 | 50 => 8 | 52 => 60 | 53 => 9 | _ => 0)
  | 9 => (match k with | 1 => 9 | 2 => 9 | 3 => 9 | 4 => 9 | 5 => 9 | 7 => 9 | 8 => 9 | _ => 0)
  | 10 => (match k with | 0 => 60 | 1 => 60 | 2 => 60 | _ => 0)
  | 11 => (match k with | 0 => 4000 | 4 => 24 | 6 => 60 | 7 => 60 | 8 => 60 | 9 => 60 | 11 => 60 | 12 => 60 | 13 => 60 | 14 => 60 | 15 => 60 | 16 => 60 | 17 => 600 | 18 => 600 | 19 => 60 | 20 => 720 | 21 => 720 | 22 => 720 | 23 => 720 | 24 => 4002 | 25 => 4002 | 26 => 4002 | 27 => 4002 | 36 => 16008 | 37 => 4 | 38 => 2 | 39 => 82 | 40 => 82 | 41 => 82 | 42 => 82 | 43 => 20 | 44 => 96 | 51 => 32 | 52 => 32 | 53 => 32 | 54 => 32 | 57 => 54 | 58 => 54 | 59 => 54 | 60 => 54 | 61 => 54 | 62 => 54 | 63 => 3240 | 65 => 6 | 66 => 54 | 67 => 54 | 68 => 54 | 69 => 54 | 70 => 6 | 72 => 60 | 73 => 60 | 74 => 60 | 76 => 60 | 77 => 60 | 78 => 60 | 80 => 6 | 81 => 6 | 83 => 200 | 84 => 200 | 85 => 200 | 86 => 200 | 87 => 200 | 88 => 200 | 89 => 1200 | 90 => 10800 | 91 => 10800 | 92 => 200 | 93 => 7 | 94 => 1400 | 95 => 7 | 96 => 7 | 101 => 9 | 105 => 1800 | 106 => 1800 | 107 => 200 | 108 => 9 | 109 => 9 | 117 => 360 | 118 => 40 | 119 => 40 | 121 => 9 | 123 => 90 | 124 => 10 | 125 => 10 | 126 => 9 | 127 => 200 | 128 => 200 | 129 => 9 | 130 => 200 | 131 => 9 | 132 => 81 | 133 => 81 | 134 => 81 | 135 => 81 | 136 => 81 | 138 => 9 | 139 => 9 | 140 => 9 | 141 => 9 | 142 => 9 | 143 => 9 | 144 => 9 | 145 => 9 | 146 => 9 | 147 => 9 | 149 => 8 | 150 => 60 | 151 => 3721 | 154 => 200 | 155 => 200 | 156 => 200 | 162 => 200 | 163 => 200 | 164 => 32 | 166 => 64 | 167 => 64 | 168 => 8 | 169 => 8 | 170 => 64 | 171 => 8 | _ => 0)
  | 12 => (match k with | 6 => 10 | 7 => 10 | 9 => 12 | 10 => 12 | 11 => 12 | 12 => 12 | _ => 0)
  | 14 => (match k with | 7 => 54 | _ => 0)
  | _ => 0
def k_eb (c k : Nat) : Int := match c with
  | 0 => (match k with | 13 => 628 | 29 => 69 | 34 => 676 | 48 => 567 | _ => 0)
  | 4 => (match k with | 13 => 13 | _ => 0)
  | 8 => (match k with | 6 => 3 | 11 => 65 | 14 => 128 | 23 => 174 | 33 => 190 | 34 => 200 | 35 => 210 | 36 => 220 | _ => 0)
  | 10 => (match k with | 1 => 3 | 2 => 64 | _ => 0)
  | _ => 0
def k_es (c k : Nat) : Int := match c with
  | 0 => (match k with | 13 => 8 | 29 => 1 | 34 => 124 | 48 => 1 | _ => 0)
  | 4 => (match k with | 13 => 1 | _ => 0)
  | 8 => (match k with | 6 => 1 | 11 => 1 | 14 => 1 | 23 => 1 | 33 => 1 | 34 => 1 | 35 => 1 | 36 => 1 | _ => 0)
  | 10 => (match k with | 1 => 1 | 2 => 1 | _ => 0)
  | _ => 0
def k_et (c k : Nat) : Int := match c with
  | 0 => (match k with | 13 => 10 | 29 => 102 | 34 => 11 | 48 => 104 | _ => 0)
  | 4 => (match k with | 13 => 7 | _ => 0)
  | 8 => (match k with | 6 => 102 | 11 => 101 | 14 => 104 | 23 => 102 | 33 => 101 | 34 => 103 | 35 => 103 | 36 => 101 | _ => 0)
  | 10 => (match k with | 1 => 102 | 2 => 102 | _ => 0)
  | _ => 0
def k_e2 (c k : Nat) : Int := match c with
  | 0 => (match k with | 13 => 0 | 29 => 200 | 34 => 0 | 48 => 61 | _ => 0)
  | 4 => (match k with | 13 => 0 | _ => 0)
  | 8 => (match k with | 6 => 9 | 11 => 9 | 14 => 9 | 23 => 60 | 33 => 9 | 34 => 9 | 35 => 9 | 36 => 9 | _ => 0)
  | 10 => (match k with | 1 => 54 | 2 => 54 | _ => 0)
  | _ => 0
def k_el (t : Int) : FieldType := if t = 101 then .int else if t = 102 then .byte else if t = 103 then .boolean else if t = 104 then .long else if t = 105 then .array (.int) else if t = 106 then .array (.byte) else if t = 107 then .array (.boolean) else if t = 108 then .array (.long) else if t = 109 then .object "ElectionHouse$Person" else if t = 110 then .object "ElectionHouse$Contest" else if t = 111 then .object "ElectionHouse$Nomination" else if t = 112 then .object "ElectionHouse$Issue" else if t = 113 then .object "ElectionHouse$Box" else if t = 114 then .object "ElectionHouse$Way" else if t = 115 then .object "java/lang/String" else if t = 121 then .int else .byte
def k_tgn (n : String) : Int := if n = RX0 then 1 else if n = RX1 then 2 else if n = RX2 then 3 else if n = RX3 then 4 else if n = RX4 then 5 else if n = RX5 then 6 else if n = RX6 then 7 else if n = RX7 then 8 else if n = RX8 then 9 else if n = RX9 then 10 else if n = RX10 then 11 else if n = RX11 then 12 else if n = RX13 then 13 else if n = RX14 then 14 else if n = RX15 then 15 else if n = "java/lang/String" then 120 else 0
def k_tg : FieldType → Int
  | .object n => k_tgn n
  | .array (.int) => 101
  | .array (.byte) => 102
  | .array (.boolean) => 103
  | .array (.long) => 104
  | .array (.array (.int)) => 105
  | .array (.array (.byte)) => 106
  | .array (.array (.boolean)) => 107
  | .array (.array (.long)) => 108
  | .array (.object n) => if n = "ElectionHouse$Person" then 109 else if n = "ElectionHouse$Contest" then 110 else if n = "ElectionHouse$Nomination" then 111 else if n = "ElectionHouse$Issue" then 112 else if n = "ElectionHouse$Box" then 113 else if n = "ElectionHouse$Way" then 114 else if n = "java/lang/String" then 115 else 0
  | _ => 0
