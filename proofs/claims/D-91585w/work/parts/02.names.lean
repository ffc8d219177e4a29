set_option maxRecDepth 100000
def RX0 : String := "AshCity"
def TX0 : u_T := fun k => match k with
  | 0 => ("AshCity", "w", "I", false)
  | 1 => ("AshCity", "h", "I", false)
  | 2 => ("AshCity", "now", "I", false)
  | 3 => ("AshCity", "placeMany", "I", false)
  | 4 => ("AshCity", "digMany", "I", false)
  | 5 => ("AshCity", "taped", "I", false)
  | 6 => ("AshCity", "places", "[LAshCity$Place;", true)
  | 7 => ("AshCity", "digs", "[LAshCity$Dig;", true)
  | 8 => ("AshCity", "ordered", "[LAshCity$Dig;", true)
  | 9 => ("AshCity", "heights", "[I", true)
  | 10 => ("AshCity", "tape", "[B", true)
  | 11 => ("AshCity", "firstDig", "LAshCity$Dig;", false)
  | 12 => ("AshCity", "meaningMany", "I", false)
  | 13 => ("AshCity", "meanings", "[LAshCity$Meaning;", true)
  | 14 => ("AshCity", "ruleMany", "I", false)
  | 15 => ("AshCity", "rules", "[LAshCity$Rules;", true)
  | 16 => ("AshCity", "findMany", "I", false)
  | 17 => ("AshCity", "finds", "[LAshCity$Find;", true)
  | 18 => ("AshCity", "thingMany", "I", false)
  | 19 => ("AshCity", "things", "[LAshCity$Thing;", true)
  | 20 => ("AshCity", "asked", "[I", true)
  | 21 => ("AshCity", "askedMany", "I", false)
  | 22 => ("AshCity", "rowMany", "I", false)
  | 23 => ("AshCity", "pairs", "[[I", true)
  | 24 => ("AshCity", "row", "[I", true)
  | 25 => ("AshCity", "best", "[I", true)
  | 26 => ("AshCity", "wallMany", "I", false)
  | 27 => ("AshCity", "drawingMany", "I", false)
  | 28 => ("AshCity", "walls", "[LAshCity$Wall;", true)
  | 29 => ("AshCity", "drawings", "[LAshCity$Drawing;", true)
  | 30 => ("AshCity", "hourFrom", "[I", true)
  | 31 => ("AshCity", "hourTo", "[I", true)
  | 32 => ("AshCity", "earliest", "[I", true)
  | 33 => ("AshCity", "latest", "[I", true)
  | 34 => ("AshCity", "cutMany", "I", false)
  | 35 => ("AshCity", "hollowMany", "I", false)
  | 36 => ("AshCity", "upper", "[I", true)
  | 37 => ("AshCity", "lower", "[I", true)
  | 38 => ("AshCity", "hollowCell", "[I", true)
  | 39 => ("AshCity", "hollowLayer", "[I", true)
  | 40 => ("AshCity", "steps", "[I", true)
  | 41 => ("AshCity", "queue", "[I", true)
  | 42 => ("AshCity", "signMany", "I", false)
  | 43 => ("AshCity", "signs", "[LAshCity$Sign;", true)
  | 44 => ("AshCity", "workMany", "I", false)
  | _ => ("AshCity", "works", "[LAshCity$Work;", true)
def tyX0 : Nat → FieldType := fun k => match k with
  | 0 => .int
  | 1 => .int
  | 2 => .int
  | 3 => .int
  | 4 => .int
  | 5 => .int
  | 6 => .array (.object "AshCity$Place")
  | 7 => .array (.object "AshCity$Dig")
  | 8 => .array (.object "AshCity$Dig")
  | 9 => .array .int
  | 10 => .array .byte
  | 11 => .object "AshCity$Dig"
  | 12 => .int
  | 13 => .array (.object "AshCity$Meaning")
  | 14 => .int
  | 15 => .array (.object "AshCity$Rules")
  | 16 => .int
  | 17 => .array (.object "AshCity$Find")
  | 18 => .int
  | 19 => .array (.object "AshCity$Thing")
  | 20 => .array .int
  | 21 => .int
  | 22 => .int
  | 23 => .array (.array .int)
  | 24 => .array .int
  | 25 => .array .int
  | 26 => .int
  | 27 => .int
  | 28 => .array (.object "AshCity$Wall")
  | 29 => .array (.object "AshCity$Drawing")
  | 30 => .array .int
  | 31 => .array .int
  | 32 => .array .int
  | 33 => .array .int
  | 34 => .int
  | 35 => .int
  | 36 => .array .int
  | 37 => .array .int
  | 38 => .array .int
  | 39 => .array .int
  | 40 => .array .int
  | 41 => .array .int
  | 42 => .int
  | 43 => .array (.object "AshCity$Sign")
  | 44 => .int
  | _ => .array (.object "AshCity$Work")
abbrev wsX00 : List Cond := u_ws RX0 TX0 46
theorem nmX0 : ∀ a, a < 46 → ∀ b, b < 46 → a ≠ b → (TX0 a).2.1 ≠ (TX0 b).2.1 := by decide +kernel
theorem tyX0_ok : ∀ k, k < 46 → parseFieldDescriptor (TX0 k).2.2.1 = some (tyX0 k) := by decide +kernel
def RX1 : String := "AshCityModel"
def TX1 : u_T := fun k => match k with
  | 0 => ("AshCityModel", "wide", "I", false)
  | 1 => ("AshCityModel", "high", "I", false)
  | 2 => ("AshCityModel", "now", "I", false)
  | 3 => ("AshCityModel", "places", "I", false)
  | 4 => ("AshCityModel", "digs", "I", false)
  | 5 => ("AshCityModel", "heightOf", "[I", true)
  | 6 => ("AshCityModel", "placeAt", "[I", true)
  | 7 => ("AshCityModel", "placeKind", "[I", true)
  | 8 => ("AshCityModel", "placeA", "[I", true)
  | 9 => ("AshCityModel", "placeB", "[I", true)
  | 10 => ("AshCityModel", "digHand", "[I", true)
  | 11 => ("AshCityModel", "digKind", "[I", true)
  | 12 => ("AshCityModel", "digA", "[I", true)
  | 13 => ("AshCityModel", "digB", "[I", true)
  | 14 => ("AshCityModel", "digTop", "[I", true)
  | 15 => ("AshCityModel", "digBottom", "[I", true)
  | 16 => ("AshCityModel", "digFrom", "[I", true)
  | 17 => ("AshCityModel", "digTo", "[I", true)
  | 18 => ("AshCityModel", "digTold", "[I", true)
  | 19 => ("AshCityModel", "digStruck", "[I", true)
  | 20 => ("AshCityModel", "firstDig", "I", false)
  | 21 => ("AshCityModel", "meanings", "I", false)
  | 22 => ("AshCityModel", "meansBy", "[I", true)
  | 23 => ("AshCityModel", "meansNumber", "[I", true)
  | 24 => ("AshCityModel", "meansPlace", "[I", true)
  | 25 => ("AshCityModel", "meansFrom", "[I", true)
  | 26 => ("AshCityModel", "meansTo", "[I", true)
  | 27 => ("AshCityModel", "tape", "[B", true)
  | 28 => ("AshCityModel", "taped", "I", false)
  | 29 => ("AshCityModel", "place0", "I", false)
  | 30 => ("AshCityModel", "length0", "I", false)
  | 31 => ("AshCityModel", "fault", "I", false)
  | 32 => ("AshCityModel", "number0", "I", false)
  | 33 => ("AshCityModel", "open", "I", false)
  | 34 => ("AshCityModel", "codeMany", "I", false)
  | 35 => ("AshCityModel", "waiting", "I", false)
  | 36 => ("AshCityModel", "saidClauses", "I", false)
  | 37 => ("AshCityModel", "said", "[I", true)
  | 38 => ("AshCityModel", "waits", "[I", true)
  | 39 => ("AshCityModel", "saidLetter", "[I", true)
  | 40 => ("AshCityModel", "saidFrom", "[I", true)
  | 41 => ("AshCityModel", "saidTo", "[I", true)
  | 42 => ("AshCityModel", "saidN", "[I", true)
  | 43 => ("AshCityModel", "saidJ", "[I", true)
  | 44 => ("AshCityModel", "ruleMany0", "I", false)
  | 45 => ("AshCityModel", "codes", "[I", true)
  | 46 => ("AshCityModel", "ruleFrom", "[I", true)
  | 47 => ("AshCityModel", "ruleTo", "[I", true)
  | 48 => ("AshCityModel", "clauseMany", "[I", true)
  | 49 => ("AshCityModel", "letterOf", "[I", true)
  | 50 => ("AshCityModel", "codeFrom", "[I", true)
  | 51 => ("AshCityModel", "codeTo", "[I", true)
  | 52 => ("AshCityModel", "nOf", "[I", true)
  | 53 => ("AshCityModel", "jOf", "[I", true)
  | 54 => ("AshCityModel", "isStruck", "[Z", true)
  | 55 => ("AshCityModel", "stack", "[I", true)
  | 56 => ("AshCityModel", "facts", "[I", true)
  | 57 => ("AshCityModel", "finds", "I", false)
  | 58 => ("AshCityModel", "asHand", "I", false)
  | 59 => ("AshCityModel", "findHand", "[I", true)
  | 60 => ("AshCityModel", "findFrom", "[I", true)
  | 61 => ("AshCityModel", "findTo", "[I", true)
  | 62 => ("AshCityModel", "findNumber", "[I", true)
  | 63 => ("AshCityModel", "findTop", "[I", true)
  | 64 => ("AshCityModel", "findBottom", "[I", true)
  | 65 => ("AshCityModel", "findKind", "[I", true)
  | 66 => ("AshCityModel", "findMarks", "[I", true)
  | 67 => ("AshCityModel", "findTold", "[I", true)
  | 68 => ("AshCityModel", "things", "I", false)
  | 69 => ("AshCityModel", "joinMany", "I", false)
  | 70 => ("AshCityModel", "museumOf", "[I", true)
  | 71 => ("AshCityModel", "thingKind", "[I", true)
  | 72 => ("AshCityModel", "thingMarks", "[I", true)
  | 73 => ("AshCityModel", "told", "[I", true)
  | 74 => ("AshCityModel", "rowOf", "[I", true)
  | 75 => ("AshCityModel", "mostBy", "[I", true)
  | 76 => ("AshCityModel", "isGone", "[Z", true)
  | 77 => ("AshCityModel", "isUsed", "[Z", true)
  | 78 => ("AshCityModel", "agree", "[I", true)
  | 79 => ("AshCityModel", "walls", "I", false)
  | 80 => ("AshCityModel", "drawings", "I", false)
  | 81 => ("AshCityModel", "wallPlace", "[I", true)
  | 82 => ("AshCityModel", "wallWorth", "[I", true)
  | 83 => ("AshCityModel", "drawWall", "[I", true)
  | 84 => ("AshCityModel", "drawWeek", "[I", true)
  | 85 => ("AshCityModel", "drawFeatures", "[I", true)
  | 86 => ("AshCityModel", "drawTold", "[I", true)
  | 87 => ("AshCityModel", "lookOf", "[I", true)
  | 88 => ("AshCityModel", "isCopy", "[Z", true)
  | 89 => ("AshCityModel", "cuts", "I", false)
  | 90 => ("AshCityModel", "hollows", "I", false)
  | 91 => ("AshCityModel", "hourFrom", "[I", true)
  | 92 => ("AshCityModel", "hourTo", "[I", true)
  | 93 => ("AshCityModel", "cutA", "[I", true)
  | 94 => ("AshCityModel", "cutB", "[I", true)
  | 95 => ("AshCityModel", "early", "[I", true)
  | 96 => ("AshCityModel", "late", "[I", true)
  | 97 => ("AshCityModel", "hollowCell", "[I", true)
  | 98 => ("AshCityModel", "hollowLayer", "[I", true)
  | 99 => ("AshCityModel", "steps", "[I", true)
  | 100 => ("AshCityModel", "signs", "I", false)
  | 101 => ("AshCityModel", "works", "I", false)
  | 102 => ("AshCityModel", "signName", "[I", true)
  | 103 => ("AshCityModel", "signKind", "[I", true)
  | 104 => ("AshCityModel", "signPlace", "[I", true)
  | 105 => ("AshCityModel", "signWeek", "[I", true)
  | 106 => ("AshCityModel", "workWall", "[I", true)
  | 107 => ("AshCityModel", "workCost", "[I", true)
  | 108 => ("AshCityModel", "workPart", "[I", true)
  | 109 => ("AshCityModel", "nameMany", "[I", true)
  | _ => ("AshCityModel", "nameWorth", "[I", true)
def tyX1 : Nat → FieldType := fun k => match k with
  | 0 => .int
  | 1 => .int
  | 2 => .int
  | 3 => .int
  | 4 => .int
  | 5 => .array .int
  | 6 => .array .int
  | 7 => .array .int
  | 8 => .array .int
  | 9 => .array .int
  | 10 => .array .int
  | 11 => .array .int
  | 12 => .array .int
  | 13 => .array .int
  | 14 => .array .int
  | 15 => .array .int
  | 16 => .array .int
  | 17 => .array .int
  | 18 => .array .int
  | 19 => .array .int
  | 20 => .int
  | 21 => .int
  | 22 => .array .int
  | 23 => .array .int
  | 24 => .array .int
  | 25 => .array .int
  | 26 => .array .int
  | 27 => .array .byte
  | 28 => .int
  | 29 => .int
  | 30 => .int
  | 31 => .int
  | 32 => .int
  | 33 => .int
  | 34 => .int
  | 35 => .int
  | 36 => .int
  | 37 => .array .int
  | 38 => .array .int
  | 39 => .array .int
  | 40 => .array .int
  | 41 => .array .int
  | 42 => .array .int
  | 43 => .array .int
  | 44 => .int
  | 45 => .array .int
  | 46 => .array .int
  | 47 => .array .int
  | 48 => .array .int
  | 49 => .array .int
  | 50 => .array .int
  | 51 => .array .int
  | 52 => .array .int
  | 53 => .array .int
  | 54 => .array .boolean
  | 55 => .array .int
  | 56 => .array .int
  | 57 => .int
  | 58 => .int
  | 59 => .array .int
  | 60 => .array .int
  | 61 => .array .int
  | 62 => .array .int
  | 63 => .array .int
  | 64 => .array .int
  | 65 => .array .int
  | 66 => .array .int
  | 67 => .array .int
  | 68 => .int
  | 69 => .int
  | 70 => .array .int
  | 71 => .array .int
  | 72 => .array .int
  | 73 => .array .int
  | 74 => .array .int
  | 75 => .array .int
  | 76 => .array .boolean
  | 77 => .array .boolean
  | 78 => .array .int
  | 79 => .int
  | 80 => .int
  | 81 => .array .int
  | 82 => .array .int
  | 83 => .array .int
  | 84 => .array .int
  | 85 => .array .int
  | 86 => .array .int
  | 87 => .array .int
  | 88 => .array .boolean
  | 89 => .int
  | 90 => .int
  | 91 => .array .int
  | 92 => .array .int
  | 93 => .array .int
  | 94 => .array .int
  | 95 => .array .int
  | 96 => .array .int
  | 97 => .array .int
  | 98 => .array .int
  | 99 => .array .int
  | 100 => .int
  | 101 => .int
  | 102 => .array .int
  | 103 => .array .int
  | 104 => .array .int
  | 105 => .array .int
  | 106 => .array .int
  | 107 => .array .int
  | 108 => .array .int
  | 109 => .array .int
  | _ => .array .int
abbrev wsX10 : List Cond := u_ws RX1 TX1 111
theorem nmX1 : ∀ a, a < 111 → ∀ b, b < 111 → a ≠ b → (TX1 a).2.1 ≠ (TX1 b).2.1 := by decide +kernel
theorem tyX1_ok : ∀ k, k < 111 → parseFieldDescriptor (TX1 k).2.2.1 = some (tyX1 k) := by decide +kernel
def RX2 : String := "AshCity$Rectangle"
def TX2 : u_T := fun k => match k with
  | 0 => ("AshCity$Rectangle", "left", "I", true)
  | 1 => ("AshCity$Rectangle", "top", "I", true)
  | 2 => ("AshCity$Rectangle", "right", "I", true)
  | _ => ("AshCity$Rectangle", "bottom", "I", true)
def tyX2 : Nat → FieldType := fun k => match k with
  | 0 => .int
  | 1 => .int
  | 2 => .int
  | _ => .int
abbrev wsX20 : List Cond := u_ws RX2 TX2 4
theorem nmX2 : ∀ a, a < 4 → ∀ b, b < 4 → a ≠ b → (TX2 a).2.1 ≠ (TX2 b).2.1 := by decide +kernel
theorem tyX2_ok : ∀ k, k < 4 → parseFieldDescriptor (TX2 k).2.2.1 = some (tyX2 k) := by decide +kernel
def RX3 : String := "AshCity$Place"
def TX3 : u_T := fun k => match k with
  | 0 => ("AshCity$Place", "number", "I", true)
  | 1 => ("AshCity$Place", "kind", "I", true)
  | _ => ("AshCity$Place", "where", "LAshCity$Rectangle;", true)
def tyX3 : Nat → FieldType := fun k => match k with
  | 0 => .int
  | 1 => .int
  | _ => .object "AshCity$Rectangle"
abbrev wsX30 : List Cond := u_ws RX3 TX3 3
theorem nmX3 : ∀ a, a < 3 → ∀ b, b < 3 → a ≠ b → (TX3 a).2.1 ≠ (TX3 b).2.1 := by decide +kernel
theorem tyX3_ok : ∀ k, k < 3 → parseFieldDescriptor (TX3 k).2.2.1 = some (tyX3 k) := by decide +kernel
def RX4 : String := "AshCity$Dig"
def RX5 : String := "AshCity$Opening"
def TX5 : u_T := fun k => match k with
  | 0 => ("AshCity$Dig", "number", "I", true)
  | 1 => ("AshCity$Dig", "hand", "I", true)
  | 2 => ("AshCity$Dig", "top", "I", true)
  | 3 => ("AshCity$Dig", "bottom", "I", true)
  | 4 => ("AshCity$Dig", "from", "I", true)
  | 5 => ("AshCity$Dig", "to", "I", true)
  | 6 => ("AshCity$Dig", "told", "I", true)
  | 7 => ("AshCity$Dig", "where", "LAshCity$Rectangle;", true)
  | _ => ("AshCity$Dig", "struck", "I", false)
def tyX5 : Nat → FieldType := fun k => match k with
  | 0 => .int
  | 1 => .int
  | 2 => .int
  | 3 => .int
  | 4 => .int
  | 5 => .int
  | 6 => .int
  | 7 => .object "AshCity$Rectangle"
  | _ => .int
abbrev wsX50 : List Cond := u_ws RX5 TX5 9
theorem nmX5 : ∀ a, a < 9 → ∀ b, b < 9 → a ≠ b → (TX5 a).2.1 ≠ (TX5 b).2.1 := by decide +kernel
theorem tyX5_ok : ∀ k, k < 9 → parseFieldDescriptor (TX5 k).2.2.1 = some (tyX5 k) := by decide +kernel
def RX6 : String := "AshCity$Tunnel"
def TX6 : u_T := fun k => match k with
  | 0 => ("AshCity$Dig", "number", "I", true)
  | 1 => ("AshCity$Dig", "hand", "I", true)
  | 2 => ("AshCity$Dig", "top", "I", true)
  | 3 => ("AshCity$Dig", "bottom", "I", true)
  | 4 => ("AshCity$Dig", "from", "I", true)
  | 5 => ("AshCity$Dig", "to", "I", true)
  | 6 => ("AshCity$Dig", "told", "I", true)
  | 7 => ("AshCity$Dig", "where", "LAshCity$Rectangle;", true)
  | _ => ("AshCity$Dig", "struck", "I", false)
def tyX6 : Nat → FieldType := fun k => match k with
  | 0 => .int
  | 1 => .int
  | 2 => .int
  | 3 => .int
  | 4 => .int
  | 5 => .int
  | 6 => .int
  | 7 => .object "AshCity$Rectangle"
  | _ => .int
abbrev wsX60 : List Cond := u_ws RX6 TX6 9
theorem nmX6 : ∀ a, a < 9 → ∀ b, b < 9 → a ≠ b → (TX6 a).2.1 ≠ (TX6 b).2.1 := by decide +kernel
theorem tyX6_ok : ∀ k, k < 9 → parseFieldDescriptor (TX6 k).2.2.1 = some (tyX6 k) := by decide +kernel
def RX7 : String := "AshCity$Refilling"
def TX7 : u_T := fun k => match k with
  | 0 => ("AshCity$Dig", "number", "I", true)
  | 1 => ("AshCity$Dig", "hand", "I", true)
  | 2 => ("AshCity$Dig", "top", "I", true)
  | 3 => ("AshCity$Dig", "bottom", "I", true)
  | 4 => ("AshCity$Dig", "from", "I", true)
  | 5 => ("AshCity$Dig", "to", "I", true)
  | 6 => ("AshCity$Dig", "told", "I", true)
  | 7 => ("AshCity$Dig", "where", "LAshCity$Rectangle;", true)
  | _ => ("AshCity$Dig", "struck", "I", false)
def tyX7 : Nat → FieldType := fun k => match k with
  | 0 => .int
  | 1 => .int
  | 2 => .int
  | 3 => .int
  | 4 => .int
  | 5 => .int
  | 6 => .int
  | 7 => .object "AshCity$Rectangle"
  | _ => .int
abbrev wsX70 : List Cond := u_ws RX7 TX7 9
theorem nmX7 : ∀ a, a < 9 → ∀ b, b < 9 → a ≠ b → (TX7 a).2.1 ≠ (TX7 b).2.1 := by decide +kernel
theorem tyX7_ok : ∀ k, k < 9 → parseFieldDescriptor (TX7 k).2.2.1 = some (tyX7 k) := by decide +kernel
def RX8 : String := "AshCity$Meaning"
def TX8 : u_T := fun k => match k with
  | 0 => ("AshCity$Meaning", "numbering", "I", true)
  | 1 => ("AshCity$Meaning", "number", "I", true)
  | 2 => ("AshCity$Meaning", "place", "I", true)
  | 3 => ("AshCity$Meaning", "from", "I", true)
  | _ => ("AshCity$Meaning", "to", "I", true)
def tyX8 : Nat → FieldType := fun k => match k with
  | 0 => .int
  | 1 => .int
  | 2 => .int
  | 3 => .int
  | _ => .int
abbrev wsX80 : List Cond := u_ws RX8 TX8 5
theorem nmX8 : ∀ a, a < 5 → ∀ b, b < 5 → a ≠ b → (TX8 a).2.1 ≠ (TX8 b).2.1 := by decide +kernel
theorem tyX8_ok : ∀ k, k < 5 → parseFieldDescriptor (TX8 k).2.2.1 = some (tyX8 k) := by decide +kernel
def RX9 : String := "AshCity$Rules"
def TX9 : u_T := fun k => match k with
  | 0 => ("AshCity$Rules", "clauses", "[LAshCity$Clause;", true)
  | 1 => ("AshCity$Rules", "isStruck", "[Z", true)
  | 2 => ("AshCity$Rules", "many", "I", false)
  | 3 => ("AshCity$Rules", "from", "I", true)
  | 4 => ("AshCity$Rules", "to", "I", true)
  | 5 => ("AshCity$Rules", "t", "[B", true)
  | 6 => ("AshCity$Rules", "at", "I", false)
  | 7 => ("AshCity$Rules", "open", "I", false)
  | 8 => ("AshCity$Rules", "fault", "I", false)
  | _ => ("AshCity$Rules", "place", "I", false)
def tyX9 : Nat → FieldType := fun k => match k with
  | 0 => .array (.object "AshCity$Clause")
  | 1 => .array .boolean
  | 2 => .int
  | 3 => .int
  | 4 => .int
  | 5 => .array .byte
  | 6 => .int
  | 7 => .int
  | 8 => .int
  | _ => .int
abbrev wsX90 : List Cond := u_ws RX9 TX9 10
theorem nmX9 : ∀ a, a < 10 → ∀ b, b < 10 → a ≠ b → (TX9 a).2.1 ≠ (TX9 b).2.1 := by decide +kernel
theorem tyX9_ok : ∀ k, k < 10 → parseFieldDescriptor (TX9 k).2.2.1 = some (tyX9 k) := by decide +kernel
def RJ0 : String := "java/lang/String"
def RJ1 : String := "java/lang/StringLatin1"
def RJ2 : String := "java/lang/Math"
def RJ3 : String := "java/lang/StringUTF16"
def RJ4 : String := "jdk/internal/util/Preconditions"
def RJ5 : String := "java/lang/Character"
def RX10 : String := "AshCity$Clause"
def TX10 : u_T := fun k => match k with
  | 0 => ("AshCity$Clause", "letter", "I", true)
  | 1 => ("AshCity$Clause", "number", "I", false)
  | 2 => ("AshCity$Clause", "other", "I", false)
  | _ => ("AshCity$Clause", "condition", "LAshCity$Condition;", false)
def tyX10 : Nat → FieldType := fun k => match k with
  | 0 => .int
  | 1 => .int
  | 2 => .int
  | _ => .object "AshCity$Condition"
abbrev wsX100 : List Cond := u_ws RX10 TX10 4
theorem nmX10 : ∀ a, a < 4 → ∀ b, b < 4 → a ≠ b → (TX10 a).2.1 ≠ (TX10 b).2.1 := by decide +kernel
theorem tyX10_ok : ∀ k, k < 4 → parseFieldDescriptor (TX10 k).2.2.1 = some (tyX10 k) := by decide +kernel
def RX11 : String := "AshCity$Condition"
def RX12 : String := "AshCity$Some"
def TX12 : u_T := fun k => match k with
  | 0 => ("AshCity$Some", "part", "LAshCity$Condition;", true)
  | 1 => ("AshCity$Some", "decides", "I", true)
  | _ => ("AshCity$Some", "next", "LAshCity$Some;", false)
def tyX12 : Nat → FieldType := fun k => match k with
  | 0 => .object "AshCity$Condition"
  | 1 => .int
  | _ => .object "AshCity$Some"
abbrev wsX120 : List Cond := u_ws RX12 TX12 3
theorem nmX12 : ∀ a, a < 3 → ∀ b, b < 3 → a ≠ b → (TX12 a).2.1 ≠ (TX12 b).2.1 := by decide +kernel
theorem tyX12_ok : ∀ k, k < 3 → parseFieldDescriptor (TX12 k).2.2.1 = some (tyX12 k) := by decide +kernel
def RX13 : String := "AshCity$Not"
def TX13 : u_T := fun k => match k with
  | _ => ("AshCity$Not", "x", "LAshCity$Condition;", true)
def tyX13 : Nat → FieldType := fun k => match k with
  | _ => .object "AshCity$Condition"
abbrev wsX130 : List Cond := u_ws RX13 TX13 1
theorem nmX13 : ∀ a, a < 1 → ∀ b, b < 1 → a ≠ b → (TX13 a).2.1 ≠ (TX13 b).2.1 := by decide +kernel
theorem tyX13_ok : ∀ k, k < 1 → parseFieldDescriptor (TX13 k).2.2.1 = some (tyX13 k) := by decide +kernel
def RX14 : String := "AshCity$Sum"
def RX15 : String := "AshCity$Row"
def TX15 : u_T := fun k => match k with
  | 0 => ("AshCity$Row", "sign", "I", true)
  | 1 => ("AshCity$Row", "part", "LAshCity$Sum;", true)
  | _ => ("AshCity$Row", "next", "LAshCity$Row;", false)
def tyX15 : Nat → FieldType := fun k => match k with
  | 0 => .int
  | 1 => .object "AshCity$Sum"
  | _ => .object "AshCity$Row"
abbrev wsX150 : List Cond := u_ws RX15 TX15 3
theorem nmX15 : ∀ a, a < 3 → ∀ b, b < 3 → a ≠ b → (TX15 a).2.1 ≠ (TX15 b).2.1 := by decide +kernel
theorem tyX15_ok : ∀ k, k < 3 → parseFieldDescriptor (TX15 k).2.2.1 = some (tyX15 k) := by decide +kernel
def RX16 : String := "AshCity$Number"
def TX16 : u_T := fun k => match k with
  | _ => ("AshCity$Number", "n", "I", true)
def tyX16 : Nat → FieldType := fun k => match k with
  | _ => .int
abbrev wsX160 : List Cond := u_ws RX16 TX16 1
theorem nmX16 : ∀ a, a < 1 → ∀ b, b < 1 → a ≠ b → (TX16 a).2.1 ≠ (TX16 b).2.1 := by decide +kernel
theorem tyX16_ok : ∀ k, k < 1 → parseFieldDescriptor (TX16 k).2.2.1 = some (tyX16 k) := by decide +kernel
def RX17 : String := "AshCity$Letter"
def TX17 : u_T := fun k => match k with
  | _ => ("AshCity$Letter", "letter", "I", true)
def tyX17 : Nat → FieldType := fun k => match k with
  | _ => .int
abbrev wsX170 : List Cond := u_ws RX17 TX17 1
theorem nmX17 : ∀ a, a < 1 → ∀ b, b < 1 → a ≠ b → (TX17 a).2.1 ≠ (TX17 b).2.1 := by decide +kernel
theorem tyX17_ok : ∀ k, k < 1 → parseFieldDescriptor (TX17 k).2.2.1 = some (tyX17 k) := by decide +kernel
def RX18 : String := "AshCity$Compared"
def TX18 : u_T := fun k => match k with
  | 0 => ("AshCity$Compared", "x", "LAshCity$Sum;", true)
  | 1 => ("AshCity$Compared", "y", "LAshCity$Sum;", true)
  | _ => ("AshCity$Compared", "sign", "I", true)
def tyX18 : Nat → FieldType := fun k => match k with
  | 0 => .object "AshCity$Sum"
  | 1 => .object "AshCity$Sum"
  | _ => .int
abbrev wsX180 : List Cond := u_ws RX18 TX18 3
theorem nmX18 : ∀ a, a < 3 → ∀ b, b < 3 → a ≠ b → (TX18 a).2.1 ≠ (TX18 b).2.1 := by decide +kernel
theorem tyX18_ok : ∀ k, k < 3 → parseFieldDescriptor (TX18 k).2.2.1 = some (tyX18 k) := by decide +kernel
def RX19 : String := "AshCity$Asked"
def TX19 : u_T := fun k => match k with
  | 0 => ("AshCity$Asked", "week", "I", true)
  | 1 => ("AshCity$Asked", "hand", "I", true)
  | 2 => ("AshCity$Asked", "kind", "I", true)
  | 3 => ("AshCity$Asked", "marks", "I", true)
  | 4 => ("AshCity$Asked", "placeKind", "I", true)
  | _ => ("AshCity$Asked", "isRefused", "Z", false)
def tyX19 : Nat → FieldType := fun k => match k with
  | 0 => .int
  | 1 => .int
  | 2 => .int
  | 3 => .int
  | 4 => .int
  | _ => .boolean
abbrev wsX190 : List Cond := u_ws RX19 TX19 6
theorem nmX19 : ∀ a, a < 6 → ∀ b, b < 6 → a ≠ b → (TX19 a).2.1 ≠ (TX19 b).2.1 := by decide +kernel
theorem tyX19_ok : ∀ k, k < 6 → parseFieldDescriptor (TX19 k).2.2.1 = some (tyX19 k) := by decide +kernel
def RX20 : String := "AshCity$Find"
def TX20 : u_T := fun k => match k with
  | 0 => ("AshCity$Find", "hand", "I", true)
  | 1 => ("AshCity$Find", "from", "I", true)
  | 2 => ("AshCity$Find", "to", "I", true)
  | 3 => ("AshCity$Find", "number", "I", true)
  | 4 => ("AshCity$Find", "top", "I", true)
  | 5 => ("AshCity$Find", "bottom", "I", true)
  | 6 => ("AshCity$Find", "kind", "I", true)
  | 7 => ("AshCity$Find", "marks", "I", true)
  | _ => ("AshCity$Find", "told", "I", true)
def tyX20 : Nat → FieldType := fun k => match k with
  | 0 => .int
  | 1 => .int
  | 2 => .int
  | 3 => .int
  | 4 => .int
  | 5 => .int
  | 6 => .int
  | 7 => .int
  | _ => .int
abbrev wsX200 : List Cond := u_ws RX20 TX20 9
theorem nmX20 : ∀ a, a < 9 → ∀ b, b < 9 → a ≠ b → (TX20 a).2.1 ≠ (TX20 b).2.1 := by decide +kernel
theorem tyX20_ok : ∀ k, k < 9 → parseFieldDescriptor (TX20 k).2.2.1 = some (tyX20 k) := by decide +kernel
def RJ6 : String := "java/lang/Integer"
def RX21 : String := "AshCity$Thing"
def TX21 : u_T := fun k => match k with
  | 0 => ("AshCity$Thing", "museum", "I", true)
  | 1 => ("AshCity$Thing", "kind", "I", true)
  | 2 => ("AshCity$Thing", "marks", "I", true)
  | _ => ("AshCity$Thing", "isGone", "Z", false)
def tyX21 : Nat → FieldType := fun k => match k with
  | 0 => .int
  | 1 => .int
  | 2 => .int
  | _ => .boolean
abbrev wsX210 : List Cond := u_ws RX21 TX21 4
theorem nmX21 : ∀ a, a < 4 → ∀ b, b < 4 → a ≠ b → (TX21 a).2.1 ≠ (TX21 b).2.1 := by decide +kernel
theorem tyX21_ok : ∀ k, k < 4 → parseFieldDescriptor (TX21 k).2.2.1 = some (tyX21 k) := by decide +kernel
def RX22 : String := "AshCity$Wall"
def TX22 : u_T := fun k => match k with
  | 0 => ("AshCity$Wall", "place", "I", true)
  | _ => ("AshCity$Wall", "worth", "I", true)
def tyX22 : Nat → FieldType := fun k => match k with
  | 0 => .int
  | _ => .int
abbrev wsX220 : List Cond := u_ws RX22 TX22 2
theorem nmX22 : ∀ a, a < 2 → ∀ b, b < 2 → a ≠ b → (TX22 a).2.1 ≠ (TX22 b).2.1 := by decide +kernel
theorem tyX22_ok : ∀ k, k < 2 → parseFieldDescriptor (TX22 k).2.2.1 = some (tyX22 k) := by decide +kernel
def RX23 : String := "AshCity$Drawing"
def TX23 : u_T := fun k => match k with
  | 0 => ("AshCity$Drawing", "number", "I", true)
  | 1 => ("AshCity$Drawing", "wall", "I", true)
  | 2 => ("AshCity$Drawing", "week", "I", true)
  | 3 => ("AshCity$Drawing", "features", "I", true)
  | 4 => ("AshCity$Drawing", "told", "I", true)
  | _ => ("AshCity$Drawing", "isCopy", "Z", true)
def tyX23 : Nat → FieldType := fun k => match k with
  | 0 => .int
  | 1 => .int
  | 2 => .int
  | 3 => .int
  | 4 => .int
  | _ => .boolean
abbrev wsX230 : List Cond := u_ws RX23 TX23 6
theorem nmX23 : ∀ a, a < 6 → ∀ b, b < 6 → a ≠ b → (TX23 a).2.1 ≠ (TX23 b).2.1 := by decide +kernel
theorem tyX23_ok : ∀ k, k < 6 → parseFieldDescriptor (TX23 k).2.2.1 = some (tyX23 k) := by decide +kernel
def RX24 : String := "AshCity$Sign"
def TX24 : u_T := fun k => match k with
  | 0 => ("AshCity$Sign", "name", "I", true)
  | 1 => ("AshCity$Sign", "kind", "I", true)
  | 2 => ("AshCity$Sign", "place", "I", true)
  | _ => ("AshCity$Sign", "week", "I", true)
def tyX24 : Nat → FieldType := fun k => match k with
  | 0 => .int
  | 1 => .int
  | 2 => .int
  | _ => .int
abbrev wsX240 : List Cond := u_ws RX24 TX24 4
theorem nmX24 : ∀ a, a < 4 → ∀ b, b < 4 → a ≠ b → (TX24 a).2.1 ≠ (TX24 b).2.1 := by decide +kernel
theorem tyX24_ok : ∀ k, k < 4 → parseFieldDescriptor (TX24 k).2.2.1 = some (tyX24 k) := by decide +kernel
def RX25 : String := "AshCity$Work"
def TX25 : u_T := fun k => match k with
  | 0 => ("AshCity$Work", "wall", "I", true)
  | 1 => ("AshCity$Work", "cost", "I", true)
  | _ => ("AshCity$Work", "hundredths", "I", true)
def tyX25 : Nat → FieldType := fun k => match k with
  | 0 => .int
  | 1 => .int
  | _ => .int
abbrev wsX250 : List Cond := u_ws RX25 TX25 3
theorem nmX25 : ∀ a, a < 3 → ∀ b, b < 3 → a ≠ b → (TX25 a).2.1 ≠ (TX25 b).2.1 := by decide +kernel
theorem tyX25_ok : ∀ k, k < 3 → parseFieldDescriptor (TX25 k).2.2.1 = some (tyX25 k) := by decide +kernel
def RJ7 : String := "java/lang/Object"
abbrev cX0_init : ByteArray := prog_1_method_4_code
def yX0_init : MethodName := ⟨RX0, "<init>", "()V"⟩
abbrev cX0_city : ByteArray := prog_1_method_9_code
def yX0_city : MethodName := ⟨RX0, "city", "(II)Z"⟩
abbrev cX0_within : ByteArray := prog_1_method_2_code
def yX0_within : MethodName := ⟨RX0, "within", "(III)Z"⟩
abbrev cX0_now : ByteArray := prog_1_method_10_code
def yX0_now : MethodName := ⟨RX0, "now", "(I)Z"⟩
abbrev cX0_isWeek : ByteArray := prog_1_method_6_code
def yX0_isWeek : MethodName := ⟨RX0, "isWeek", "(I)Z"⟩
abbrev cX0_in : ByteArray := prog_1_method_1_code
def yX0_in : MethodName := ⟨RX0, "in", "(II)Z"⟩
abbrev cX0_place : ByteArray := prog_1_method_12_code
def yX0_place : MethodName := ⟨RX0, "place", "(III)I"⟩
abbrev cX0_between : ByteArray := prog_1_method_11_code
def yX0_between : MethodName := ⟨RX0, "between", "(II)LAshCity$Rectangle;"⟩
abbrev cX0_isCell : ByteArray := prog_1_method_5_code
def yX0_isCell : MethodName := ⟨RX0, "isCell", "(I)Z"⟩
abbrev cX0_placeOf : ByteArray := prog_1_method_13_code
def yX0_placeOf : MethodName := ⟨RX0, "placeOf", "(I)I"⟩
abbrev cX0_dig : ByteArray := prog_1_method_15_code
def yX0_dig : MethodName := ⟨RX0, "dig", "(IIIIIIII)I"⟩
abbrev cX0_isLayer : ByteArray := prog_1_method_7_code
def yX0_isLayer : MethodName := ⟨RX0, "isLayer", "(I)Z"⟩
abbrev cX0_isSpan : ByteArray := prog_1_method_14_code
def yX0_isSpan : MethodName := ⟨RX0, "isSpan", "(II)Z"⟩
abbrev cX0_strike : ByteArray := prog_1_method_16_code
def yX0_strike : MethodName := ⟨RX0, "strike", "(I)Z"⟩
abbrev cX0_ground : ByteArray := prog_1_method_19_code
def yX0_ground : MethodName := ⟨RX0, "ground", "(IIII)I"⟩
abbrev cX0_isGround : ByteArray := prog_1_method_18_code
def yX0_isGround : MethodName := ⟨RX0, "isGround", "(IIII)Z"⟩
abbrev cX0_groundOf : ByteArray := prog_1_method_17_code
def yX0_groundOf : MethodName := ⟨RX0, "groundOf", "(IIII)I"⟩
abbrev cX0_first : ByteArray := prog_1_method_20_code
def yX0_first : MethodName := ⟨RX0, "first", "(IIII)I"⟩
abbrev cX0_means : ByteArray := prog_1_method_21_code
def yX0_means : MethodName := ⟨RX0, "means", "(IIIII)Z"⟩
abbrev cX0_isPlace : ByteArray := prog_1_method_8_code
def yX0_isPlace : MethodName := ⟨RX0, "isPlace", "(I)Z"⟩
abbrev cX0_meaning : ByteArray := prog_1_method_23_code
def yX0_meaning : MethodName := ⟨RX0, "meaning", "(III)I"⟩
abbrev cX0_meaningOf : ByteArray := prog_1_method_22_code
def yX0_meaningOf : MethodName := ⟨RX0, "meaningOf", "(III)I"⟩
abbrev cX0_feed : ByteArray := prog_1_method_25_code
def yX0_feed : MethodName := ⟨RX0, "feed", "(IIIII)I"⟩
abbrev cX0_push : ByteArray := prog_1_method_24_code
def yX0_push : MethodName := ⟨RX0, "push", "(I)V"⟩
abbrev cX0_rules : ByteArray := prog_1_method_26_code
def yX0_rules : MethodName := ⟨RX0, "rules", "(III)I"⟩
abbrev cX0_number : ByteArray := prog_1_method_30_code
def yX0_number : MethodName := ⟨RX0, "number", "(IIIIII)I"⟩
abbrev cX0_numberOf : ByteArray := prog_1_method_28_code
def yX0_numberOf : MethodName := ⟨RX0, "numberOf", "(ILAshCity$Asked;I)I"⟩
abbrev cX0_strikes : ByteArray := prog_1_method_27_code
def yX0_strikes : MethodName := ⟨RX0, "strikes", "(I)V"⟩
abbrev cX0_numberings : ByteArray := prog_1_method_29_code
def yX0_numberings : MethodName := ⟨RX0, "numberings", "(LAshCity$Asked;)I"⟩
abbrev cX0_find : ByteArray := prog_1_method_31_code
def yX0_find : MethodName := ⟨RX0, "find", "(IIIIIIII)I"⟩
abbrev cX0_may : ByteArray := prog_1_method_35_code
def yX0_may : MethodName := ⟨RX0, "may", "(II)I"⟩
abbrev cX0_mayOf : ByteArray := prog_1_method_34_code
def yX0_mayOf : MethodName := ⟨RX0, "mayOf", "(LAshCity$Find;II)I"⟩
abbrev cX0_isOpen : ByteArray := prog_1_method_32_code
def yX0_isOpen : MethodName := ⟨RX0, "isOpen", "(LAshCity$Find;LAshCity$Place;II)Z"⟩
abbrev cX0_isMeant : ByteArray := prog_1_method_33_code
def yX0_isMeant : MethodName := ⟨RX0, "isMeant", "(LAshCity$Find;LAshCity$Place;II)Z"⟩
abbrev cX0_sure : ByteArray := prog_1_method_36_code
def yX0_sure : MethodName := ⟨RX0, "sure", "(I)I"⟩
abbrev cX0_sizeOf : ByteArray := prog_1_method_3_code
def yX0_sizeOf : MethodName := ⟨RX0, "sizeOf", "(I)I"⟩
abbrev cX0_nowhere : ByteArray := prog_1_method_37_code
def yX0_nowhere : MethodName := ⟨RX0, "nowhere", "(II)I"⟩
abbrev cX0_beside : ByteArray := prog_1_method_38_code
def yX0_beside : MethodName := ⟨RX0, "beside", "(I)I"⟩
abbrev cX0_barred : ByteArray := prog_1_method_39_code
def yX0_barred : MethodName := ⟨RX0, "barred", "(I)I"⟩
abbrev cX0_thing : ByteArray := prog_1_method_40_code
def yX0_thing : MethodName := ⟨RX0, "thing", "(III)I"⟩
abbrev cX0_gone : ByteArray := prog_1_method_41_code
def yX0_gone : MethodName := ⟨RX0, "gone", "(IZ)Z"⟩
abbrev cX0_like : ByteArray := prog_1_method_44_code
def yX0_like : MethodName := ⟨RX0, "like", "(II)I"⟩
abbrev cX0_wanted : ByteArray := prog_1_method_42_code
def yX0_wanted : MethodName := ⟨RX0, "wanted", "(LAshCity$Find;)I"⟩
abbrev cX0_fits : ByteArray := prog_1_method_43_code
def yX0_fits : MethodName := ⟨RX0, "fits", "(LAshCity$Find;LAshCity$Thing;I)Z"⟩
abbrev cX0_join : ByteArray := prog_1_method_47_code
def yX0_join : MethodName := ⟨RX0, "join", "(I)I"⟩
abbrev cX0_asks : ByteArray := prog_1_method_45_code
def yX0_asks : MethodName := ⟨RX0, "asks", "(I)Z"⟩
abbrev cX0_most : ByteArray := prog_1_method_46_code
def yX0_most : MethodName := ⟨RX0, "most", "(IJ)I"⟩
abbrev cX0_joined : ByteArray := prog_1_method_48_code
def yX0_joined : MethodName := ⟨RX0, "joined", "(I)I"⟩
abbrev cX0_lost : ByteArray := prog_1_method_51_code
def yX0_lost : MethodName := ⟨RX0, "lost", "(II)I"⟩
abbrev cX0_isLost : ByteArray := prog_1_method_49_code
def yX0_isLost : MethodName := ⟨RX0, "isLost", "(LAshCity$Find;)Z"⟩
abbrev cX0_wouldBe : ByteArray := prog_1_method_50_code
def yX0_wouldBe : MethodName := ⟨RX0, "wouldBe", "(LAshCity$Find;I)Z"⟩
abbrev cX0_wall : ByteArray := prog_1_method_52_code
def yX0_wall : MethodName := ⟨RX0, "wall", "(II)I"⟩
abbrev cX0_draw : ByteArray := prog_1_method_54_code
def yX0_draw : MethodName := ⟨RX0, "draw", "(III)I"⟩
abbrev cX0_draws : ByteArray := prog_1_method_53_code
def yX0_draws : MethodName := ⟨RX0, "draws", "(IIIZ)I"⟩
abbrev cX0_copy : ByteArray := prog_1_method_55_code
def yX0_copy : MethodName := ⟨RX0, "copy", "(II)I"⟩
abbrev cX0_stood : ByteArray := prog_1_method_56_code
def yX0_stood : MethodName := ⟨RX0, "stood", "(IIII)I"⟩
abbrev cX0_ash : ByteArray := prog_1_method_57_code
def yX0_ash : MethodName := ⟨RX0, "ash", "(III)Z"⟩
abbrev cX0_above : ByteArray := prog_1_method_58_code
def yX0_above : MethodName := ⟨RX0, "above", "(II)Z"⟩
abbrev cX0_hour : ByteArray := prog_1_method_60_code
def yX0_hour : MethodName := ⟨RX0, "hour", "(II)I"⟩
abbrev cX0_settles : ByteArray := prog_1_method_59_code
def yX0_settles : MethodName := ⟨RX0, "settles", "()Z"⟩
abbrev cX0_height : ByteArray := prog_1_method_61_code
def yX0_height : MethodName := ⟨RX0, "height", "(II)Z"⟩
abbrev cX0_hollow : ByteArray := prog_1_method_62_code
def yX0_hollow : MethodName := ⟨RX0, "hollow", "(II)I"⟩
abbrev cX0_way : ByteArray := prog_1_method_65_code
def yX0_way : MethodName := ⟨RX0, "way", "(I)I"⟩
abbrev cX0_laidBy : ByteArray := prog_1_method_63_code
def yX0_laidBy : MethodName := ⟨RX0, "laidBy", "(I)I"⟩
abbrev cX0_isBorder : ByteArray := prog_1_method_64_code
def yX0_isBorder : MethodName := ⟨RX0, "isBorder", "(I)Z"⟩
abbrev cX0_sign : ByteArray := prog_1_method_66_code
def yX0_sign : MethodName := ⟨RX0, "sign", "(IIII)Z"⟩
abbrev cX0_who : ByteArray := prog_1_method_67_code
def yX0_who : MethodName := ⟨RX0, "who", "(II)I"⟩
abbrev cX0_work : ByteArray := prog_1_method_68_code
def yX0_work : MethodName := ⟨RX0, "work", "(III)I"⟩
abbrev cX0_best : ByteArray := prog_1_method_72_code
def yX0_best : MethodName := ⟨RX0, "best", "(I)I"⟩
abbrev cX0_costOf : ByteArray := prog_1_method_69_code
def yX0_costOf : MethodName := ⟨RX0, "costOf", "(I)I"⟩
abbrev cX0_savedBy : ByteArray := prog_1_method_71_code
def yX0_savedBy : MethodName := ⟨RX0, "savedBy", "(I)I"⟩
abbrev cX0_savedOn : ByteArray := prog_1_method_70_code
def yX0_savedOn : MethodName := ⟨RX0, "savedOn", "(II)I"⟩
abbrev cX0_saves : ByteArray := prog_1_method_73_code
def yX0_saves : MethodName := ⟨RX0, "saves", "(I)I"⟩
abbrev cX0_check : ByteArray := prog_1_method_75_code
def yX0_check : MethodName := ⟨RX0, "check", "(I)I"⟩
abbrev cX0_numberAt : ByteArray := prog_1_method_74_code
def yX0_numberAt : MethodName := ⟨RX0, "numberAt", "(I)I"⟩
abbrev cX0_count : ByteArray := prog_1_method_76_code
def yX0_count : MethodName := ⟨RX0, "count", "(I)I"⟩
abbrev cX1_init : ByteArray := prog_27_method_1_code
def yX1_init : MethodName := ⟨RX1, "<init>", "()V"⟩
abbrev cX1_begins : ByteArray := prog_27_method_4_code
def yX1_begins : MethodName := ⟨RX1, "begins", "(II)V"⟩
abbrev cX1_city : ByteArray := prog_27_method_5_code
def yX1_city : MethodName := ⟨RX1, "city", "(II)Z"⟩
abbrev cX1_in : ByteArray := prog_27_method_2_code
def yX1_in : MethodName := ⟨RX1, "in", "(III)Z"⟩
abbrev cX1_now : ByteArray := prog_27_method_6_code
def yX1_now : MethodName := ⟨RX1, "now", "(I)Z"⟩
abbrev cX1_place : ByteArray := prog_27_method_12_code
def yX1_place : MethodName := ⟨RX1, "place", "(III)I"⟩
abbrev cX1_isRectangle : ByteArray := prog_27_method_9_code
def yX1_isRectangle : MethodName := ⟨RX1, "isRectangle", "(II)Z"⟩
abbrev cX1_isCell : ByteArray := prog_27_method_7_code
def yX1_isCell : MethodName := ⟨RX1, "isCell", "(I)Z"⟩
abbrev cX1_isIn : ByteArray := prog_27_method_10_code
def yX1_isIn : MethodName := ⟨RX1, "isIn", "(III)Z"⟩
abbrev cX1_placeOf : ByteArray := prog_27_method_13_code
def yX1_placeOf : MethodName := ⟨RX1, "placeOf", "(I)I"⟩
abbrev cX1_dig : ByteArray := prog_27_method_14_code
def yX1_dig : MethodName := ⟨RX1, "dig", "(IIIIIIII)I"⟩
abbrev cX1_isLayer : ByteArray := prog_27_method_8_code
def yX1_isLayer : MethodName := ⟨RX1, "isLayer", "(I)Z"⟩
abbrev cX1_strike : ByteArray := prog_27_method_16_code
def yX1_strike : MethodName := ⟨RX1, "strike", "(I)Z"⟩
abbrev cX1_isDig : ByteArray := prog_27_method_15_code
def yX1_isDig : MethodName := ⟨RX1, "isDig", "(I)Z"⟩
abbrev cX1_ground : ByteArray := prog_27_method_21_code
def yX1_ground : MethodName := ⟨RX1, "ground", "(IIII)I"⟩
abbrev cX1_isGround : ByteArray := prog_27_method_20_code
def yX1_isGround : MethodName := ⟨RX1, "isGround", "(IIII)Z"⟩
abbrev cX1_isWeek : ByteArray := prog_27_method_3_code
def yX1_isWeek : MethodName := ⟨RX1, "isWeek", "(I)Z"⟩
abbrev cX1_groundOf : ByteArray := prog_27_method_19_code
def yX1_groundOf : MethodName := ⟨RX1, "groundOf", "(IIII)I"⟩
abbrev cX1_isKnown : ByteArray := prog_27_method_17_code
def yX1_isKnown : MethodName := ⟨RX1, "isKnown", "(II)Z"⟩
abbrev cX1_has : ByteArray := prog_27_method_18_code
def yX1_has : MethodName := ⟨RX1, "has", "(III)Z"⟩
abbrev cX1_first : ByteArray := prog_27_method_22_code
def yX1_first : MethodName := ⟨RX1, "first", "(IIII)I"⟩
abbrev cX1_means : ByteArray := prog_27_method_23_code
def yX1_means : MethodName := ⟨RX1, "means", "(IIIII)Z"⟩
abbrev cX1_isPlace : ByteArray := prog_27_method_11_code
def yX1_isPlace : MethodName := ⟨RX1, "isPlace", "(I)Z"⟩
abbrev cX1_meaning : ByteArray := prog_27_method_25_code
def yX1_meaning : MethodName := ⟨RX1, "meaning", "(III)I"⟩
abbrev cX1_meaningOf : ByteArray := prog_27_method_24_code
def yX1_meaningOf : MethodName := ⟨RX1, "meaningOf", "(III)I"⟩
abbrev cX1_feed : ByteArray := prog_27_method_27_code
def yX1_feed : MethodName := ⟨RX1, "feed", "(IIIII)I"⟩
abbrev cX1_types : ByteArray := prog_27_method_26_code
def yX1_types : MethodName := ⟨RX1, "types", "(I)V"⟩
abbrev cX1_rules : ByteArray := prog_27_method_50_code
def yX1_rules : MethodName := ⟨RX1, "rules", "(III)I"⟩
abbrev cX1_readsClause : ByteArray := prog_27_method_49_code
def yX1_readsClause : MethodName := ⟨RX1, "readsClause", "()Z"⟩
abbrev cX1_byteHere : ByteArray := prog_27_method_28_code
def yX1_byteHere : MethodName := ⟨RX1, "byteHere", "()I"⟩
abbrev cX1_isLetter : ByteArray := prog_27_method_47_code
def yX1_isLetter : MethodName := ⟨RX1, "isLetter", "(I)Z"⟩
abbrev cX1_wrong : ByteArray := prog_27_method_30_code
def yX1_wrong : MethodName := ⟨RX1, "wrong", "(II)Z"⟩
abbrev cX1_mostOf : ByteArray := prog_27_method_48_code
def yX1_mostOf : MethodName := ⟨RX1, "mostOf", "(I)I"⟩
abbrev cX1_readsNumber : ByteArray := prog_27_method_32_code
def yX1_readsNumber : MethodName := ⟨RX1, "readsNumber", "(I)Z"⟩
abbrev cX1_isDigit : ByteArray := prog_27_method_29_code
def yX1_isDigit : MethodName := ⟨RX1, "isDigit", "()Z"⟩
abbrev cX1_takes : ByteArray := prog_27_method_31_code
def yX1_takes : MethodName := ⟨RX1, "takes", "(I)Z"⟩
abbrev cX1_readsCondition : ByteArray := prog_27_method_46_code
def yX1_readsCondition : MethodName := ⟨RX1, "readsCondition", "()Z"⟩
abbrev cX1_opens : ByteArray := prog_27_method_34_code
def yX1_opens : MethodName := ⟨RX1, "opens", "(I)Z"⟩
abbrev cX1_readsCompared : ByteArray := prog_27_method_45_code
def yX1_readsCompared : MethodName := ⟨RX1, "readsCompared", "()Z"⟩
abbrev cX1_readsSum : ByteArray := prog_27_method_41_code
def yX1_readsSum : MethodName := ⟨RX1, "readsSum", "()Z"⟩
abbrev cX1_readsFactor : ByteArray := prog_27_method_39_code
def yX1_readsFactor : MethodName := ⟨RX1, "readsFactor", "()Z"⟩
abbrev cX1_says : ByteArray := prog_27_method_33_code
def yX1_says : MethodName := ⟨RX1, "says", "(II)V"⟩
abbrev cX1_factOf : ByteArray := prog_27_method_36_code
def yX1_factOf : MethodName := ⟨RX1, "factOf", "(I)I"⟩
abbrev cX1_sumSign : ByteArray := prog_27_method_37_code
def yX1_sumSign : MethodName := ⟨RX1, "sumSign", "(I)I"⟩
abbrev cX1_closesSums : ByteArray := prog_27_method_38_code
def yX1_closesSums : MethodName := ⟨RX1, "closesSums", "(Z)V"⟩
abbrev cX1_top : ByteArray := prog_27_method_35_code
def yX1_top : MethodName := ⟨RX1, "top", "()I"⟩
abbrev cX1_hasOpenSum : ByteArray := prog_27_method_40_code
def yX1_hasOpenSum : MethodName := ⟨RX1, "hasOpenSum", "(I)Z"⟩
abbrev cX1_endsPiece : ByteArray := prog_27_method_42_code
def yX1_endsPiece : MethodName := ⟨RX1, "endsPiece", "()V"⟩
abbrev cX1_lands : ByteArray := prog_27_method_43_code
def yX1_lands : MethodName := ⟨RX1, "lands", "(Z)V"⟩
abbrev cX1_jumps : ByteArray := prog_27_method_44_code
def yX1_jumps : MethodName := ⟨RX1, "jumps", "(I)V"⟩
abbrev cX1_number : ByteArray := prog_27_method_58_code
def yX1_number : MethodName := ⟨RX1, "number", "(IIIIII)I"⟩
abbrev cX1_setsFacts : ByteArray := prog_27_method_55_code
def yX1_setsFacts : MethodName := ⟨RX1, "setsFacts", "(IIIII)V"⟩
abbrev cX1_numberBy : ByteArray := prog_27_method_56_code
def yX1_numberBy : MethodName := ⟨RX1, "numberBy", "(II)I"⟩
abbrev cX1_strikes : ByteArray := prog_27_method_52_code
def yX1_strikes : MethodName := ⟨RX1, "strikes", "(I)V"⟩
abbrev cX1_isForce : ByteArray := prog_27_method_51_code
def yX1_isForce : MethodName := ⟨RX1, "isForce", "(II)Z"⟩
abbrev cX1_isTrue : ByteArray := prog_27_method_54_code
def yX1_isTrue : MethodName := ⟨RX1, "isTrue", "(I)Z"⟩
abbrev cX1_reckon : ByteArray := prog_27_method_53_code
def yX1_reckon : MethodName := ⟨RX1, "reckon", "(III)I"⟩
abbrev cX1_numberings : ByteArray := prog_27_method_57_code
def yX1_numberings : MethodName := ⟨RX1, "numberings", "()I"⟩
abbrev cX1_find : ByteArray := prog_27_method_59_code
def yX1_find : MethodName := ⟨RX1, "find", "(IIIIIIII)I"⟩
abbrev cX1_may : ByteArray := prog_27_method_65_code
def yX1_may : MethodName := ⟨RX1, "may", "(II)I"⟩
abbrev cX1_isFind : ByteArray := prog_27_method_64_code
def yX1_isFind : MethodName := ⟨RX1, "isFind", "(I)Z"⟩
abbrev cX1_mayBe : ByteArray := prog_27_method_63_code
def yX1_mayBe : MethodName := ⟨RX1, "mayBe", "(II)I"⟩
abbrev cX1_isDug : ByteArray := prog_27_method_61_code
def yX1_isDug : MethodName := ⟨RX1, "isDug", "(IIII)Z"⟩
abbrev cX1_meets : ByteArray := prog_27_method_60_code
def yX1_meets : MethodName := ⟨RX1, "meets", "(II)Z"⟩
abbrev cX1_isMeant : ByteArray := prog_27_method_62_code
def yX1_isMeant : MethodName := ⟨RX1, "isMeant", "(III)Z"⟩
abbrev cX1_sure : ByteArray := prog_27_method_67_code
def yX1_sure : MethodName := ⟨RX1, "sure", "(I)I"⟩
abbrev cX1_sureOf : ByteArray := prog_27_method_66_code
def yX1_sureOf : MethodName := ⟨RX1, "sureOf", "(I)I"⟩
abbrev cX1_nowhere : ByteArray := prog_27_method_68_code
def yX1_nowhere : MethodName := ⟨RX1, "nowhere", "(II)I"⟩
abbrev cX1_beside : ByteArray := prog_27_method_69_code
def yX1_beside : MethodName := ⟨RX1, "beside", "(I)I"⟩
abbrev cX1_barred : ByteArray := prog_27_method_70_code
def yX1_barred : MethodName := ⟨RX1, "barred", "(I)I"⟩
abbrev cX1_thing : ByteArray := prog_27_method_71_code
def yX1_thing : MethodName := ⟨RX1, "thing", "(III)I"⟩
abbrev cX1_gone : ByteArray := prog_27_method_73_code
def yX1_gone : MethodName := ⟨RX1, "gone", "(IZ)Z"⟩
abbrev cX1_isThing : ByteArray := prog_27_method_72_code
def yX1_isThing : MethodName := ⟨RX1, "isThing", "(I)Z"⟩
abbrev cX1_like : ByteArray := prog_27_method_77_code
def yX1_like : MethodName := ⟨RX1, "like", "(II)I"⟩
abbrev cX1_isLike : ByteArray := prog_27_method_76_code
def yX1_isLike : MethodName := ⟨RX1, "isLike", "(II)Z"⟩
abbrev cX1_couldBe : ByteArray := prog_27_method_75_code
def yX1_couldBe : MethodName := ⟨RX1, "couldBe", "(II)Z"⟩
abbrev cX1_agreeing : ByteArray := prog_27_method_74_code
def yX1_agreeing : MethodName := ⟨RX1, "agreeing", "(II)I"⟩
abbrev cX1_join : ByteArray := prog_27_method_80_code
def yX1_join : MethodName := ⟨RX1, "join", "(I)I"⟩
abbrev cX1_hearsFinds : ByteArray := prog_27_method_78_code
def yX1_hearsFinds : MethodName := ⟨RX1, "hearsFinds", "(I)Z"⟩
abbrev cX1_bestFrom : ByteArray := prog_27_method_79_code
def yX1_bestFrom : MethodName := ⟨RX1, "bestFrom", "(II)I"⟩
abbrev cX1_joined : ByteArray := prog_27_method_81_code
def yX1_joined : MethodName := ⟨RX1, "joined", "(I)I"⟩
abbrev cX1_lost : ByteArray := prog_27_method_84_code
def yX1_lost : MethodName := ⟨RX1, "lost", "(II)I"⟩
abbrev cX1_isLost : ByteArray := prog_27_method_82_code
def yX1_isLost : MethodName := ⟨RX1, "isLost", "(I)Z"⟩
abbrev cX1_wouldHave : ByteArray := prog_27_method_83_code
def yX1_wouldHave : MethodName := ⟨RX1, "wouldHave", "(II)Z"⟩
abbrev cX1_wall : ByteArray := prog_27_method_85_code
def yX1_wall : MethodName := ⟨RX1, "wall", "(II)I"⟩
abbrev cX1_draw : ByteArray := prog_27_method_88_code
def yX1_draw : MethodName := ⟨RX1, "draw", "(III)I"⟩
abbrev cX1_isWall : ByteArray := prog_27_method_86_code
def yX1_isWall : MethodName := ⟨RX1, "isWall", "(I)Z"⟩
abbrev cX1_draws : ByteArray := prog_27_method_87_code
def yX1_draws : MethodName := ⟨RX1, "draws", "(IIIZ)I"⟩
abbrev cX1_copy : ByteArray := prog_27_method_89_code
def yX1_copy : MethodName := ⟨RX1, "copy", "(II)I"⟩
abbrev cX1_stood : ByteArray := prog_27_method_92_code
def yX1_stood : MethodName := ⟨RX1, "stood", "(IIII)I"⟩
abbrev cX1_looksAt : ByteArray := prog_27_method_90_code
def yX1_looksAt : MethodName := ⟨RX1, "looksAt", "(II)I"⟩
abbrev cX1_shows : ByteArray := prog_27_method_91_code
def yX1_shows : MethodName := ⟨RX1, "shows", "(II)Z"⟩
abbrev cX1_ash : ByteArray := prog_27_method_93_code
def yX1_ash : MethodName := ⟨RX1, "ash", "(III)Z"⟩
abbrev cX1_above : ByteArray := prog_27_method_94_code
def yX1_above : MethodName := ⟨RX1, "above", "(II)Z"⟩
abbrev cX1_hour : ByteArray := prog_27_method_96_code
def yX1_hour : MethodName := ⟨RX1, "hour", "(II)I"⟩
abbrev cX1_hours : ByteArray := prog_27_method_95_code
def yX1_hours : MethodName := ⟨RX1, "hours", "()Z"⟩
abbrev cX1_height : ByteArray := prog_27_method_97_code
def yX1_height : MethodName := ⟨RX1, "height", "(II)Z"⟩
abbrev cX1_hollow : ByteArray := prog_27_method_98_code
def yX1_hollow : MethodName := ⟨RX1, "hollow", "(II)I"⟩
abbrev cX1_way : ByteArray := prog_27_method_101_code
def yX1_way : MethodName := ⟨RX1, "way", "(I)I"⟩
abbrev cX1_isBorder : ByteArray := prog_27_method_99_code
def yX1_isBorder : MethodName := ⟨RX1, "isBorder", "(I)Z"⟩
abbrev cX1_areBeside : ByteArray := prog_27_method_100_code
def yX1_areBeside : MethodName := ⟨RX1, "areBeside", "(II)Z"⟩
abbrev cX1_sign : ByteArray := prog_27_method_102_code
def yX1_sign : MethodName := ⟨RX1, "sign", "(IIII)Z"⟩
abbrev cX1_who : ByteArray := prog_27_method_103_code
def yX1_who : MethodName := ⟨RX1, "who", "(II)I"⟩
abbrev cX1_work : ByteArray := prog_27_method_104_code
def yX1_work : MethodName := ⟨RX1, "work", "(III)I"⟩
abbrev cX1_best : ByteArray := prog_27_method_107_code
def yX1_best : MethodName := ⟨RX1, "best", "(I)I"⟩
abbrev cX1_costs : ByteArray := prog_27_method_106_code
def yX1_costs : MethodName := ⟨RX1, "costs", "(I)I"⟩
abbrev cX1_saved : ByteArray := prog_27_method_105_code
def yX1_saved : MethodName := ⟨RX1, "saved", "(I)I"⟩
abbrev cX1_saves : ByteArray := prog_27_method_108_code
def yX1_saves : MethodName := ⟨RX1, "saves", "(I)I"⟩
abbrev cX1_check : ByteArray := prog_27_method_110_code
def yX1_check : MethodName := ⟨RX1, "check", "(I)I"⟩
abbrev cX1_tapeNumber : ByteArray := prog_27_method_109_code
def yX1_tapeNumber : MethodName := ⟨RX1, "tapeNumber", "(I)I"⟩
abbrev cX1_count : ByteArray := prog_27_method_111_code
def yX1_count : MethodName := ⟨RX1, "count", "(I)I"⟩
abbrev cX2_init : ByteArray := prog_15_method_1_code
def yX2_init : MethodName := ⟨RX2, "<init>", "(IIII)V"⟩
abbrev cX2_meets : ByteArray := prog_15_method_3_code
def yX2_meets : MethodName := ⟨RX2, "meets", "(LAshCity$Rectangle;)Z"⟩
abbrev cX2_has : ByteArray := prog_15_method_2_code
def yX2_has : MethodName := ⟨RX2, "has", "(II)Z"⟩
abbrev cX3_init : ByteArray := prog_14_method_1_code
def yX3_init : MethodName := ⟨RX3, "<init>", "(IILAshCity$Rectangle;)V"⟩
abbrev cX4_init : ByteArray := prog_6_method_1_code
def yX4_init : MethodName := ⟨RX4, "<init>", "(IILAshCity$Rectangle;IIIII)V"⟩
abbrev cX4_isAhead : ByteArray := prog_6_method_4_code
def yX4_isAhead : MethodName := ⟨RX4, "isAhead", "(LAshCity$Dig;)Z"⟩
abbrev cX4_isKnown : ByteArray := prog_6_method_2_code
def yX4_isKnown : MethodName := ⟨RX4, "isKnown", "(I)Z"⟩
abbrev cX4_reaches : ByteArray := prog_6_method_3_code
def yX4_reaches : MethodName := ⟨RX4, "reaches", "(III)Z"⟩
abbrev cX4_finds : ByteArray := prog_6_method_7_code
def yX4_finds : MethodName := ⟨RX4, "finds", "()Z"⟩
abbrev cX5_init : ByteArray := prog_13_method_1_code
def yX5_init : MethodName := ⟨RX5, "<init>", "(IILAshCity$Rectangle;IIII)V"⟩
abbrev cX5_makes : ByteArray := prog_13_method_2_code
def yX5_makes : MethodName := ⟨RX5, "makes", "(I)I"⟩
abbrev cX5_kind : ByteArray := prog_13_method_3_code
def yX5_kind : MethodName := ⟨RX5, "kind", "()I"⟩
abbrev cX6_init : ByteArray := prog_23_method_1_code
def yX6_init : MethodName := ⟨RX6, "<init>", "(IILAshCity$Rectangle;IIIII)V"⟩
abbrev cX6_makes : ByteArray := prog_23_method_2_code
def yX6_makes : MethodName := ⟨RX6, "makes", "(I)I"⟩
abbrev cX6_kind : ByteArray := prog_23_method_3_code
def yX6_kind : MethodName := ⟨RX6, "kind", "()I"⟩
abbrev cX7_init : ByteArray := prog_16_method_1_code
def yX7_init : MethodName := ⟨RX7, "<init>", "(IILAshCity$Rectangle;IIIII)V"⟩
abbrev cX7_makes : ByteArray := prog_16_method_2_code
def yX7_makes : MethodName := ⟨RX7, "makes", "(I)I"⟩
abbrev cX7_finds : ByteArray := prog_16_method_4_code
def yX7_finds : MethodName := ⟨RX7, "finds", "()Z"⟩
abbrev cX7_kind : ByteArray := prog_16_method_3_code
def yX7_kind : MethodName := ⟨RX7, "kind", "()I"⟩
abbrev cX8_init : ByteArray := prog_10_method_1_code
def yX8_init : MethodName := ⟨RX8, "<init>", "(IIIII)V"⟩
abbrev cX9_init : ByteArray := prog_18_method_1_code
def yX9_init : MethodName := ⟨RX9, "<init>", "(II[BI)V"⟩
abbrev cX9_read : ByteArray := prog_18_method_17_code
def yX9_read : MethodName := ⟨RX9, "read", "()I"⟩
abbrev cX9_isGood : ByteArray := prog_18_method_3_code
def yX9_isGood : MethodName := ⟨RX9, "isGood", "()Z"⟩
abbrev cX9_clause : ByteArray := prog_18_method_16_code
def yX9_clause : MethodName := ⟨RX9, "clause", "()V"⟩
abbrev cX9_here : ByteArray := prog_18_method_2_code
def yX9_here : MethodName := ⟨RX9, "here", "()I"⟩
abbrev cX9_bad : ByteArray := prog_18_method_4_code
def yX9_bad : MethodName := ⟨RX9, "bad", "(II)V"⟩
abbrev cX9_most : ByteArray := prog_18_method_15_code
def yX9_most : MethodName := ⟨RX9, "most", "(I)I"⟩
abbrev cX9_number : ByteArray := prog_18_method_6_code
def yX9_number : MethodName := ⟨RX9, "number", "(I)I"⟩
abbrev cX9_seesDigit : ByteArray := prog_18_method_5_code
def yX9_seesDigit : MethodName := ⟨RX9, "seesDigit", "()Z"⟩
abbrev cX9_must : ByteArray := prog_18_method_7_code
def yX9_must : MethodName := ⟨RX9, "must", "(I)V"⟩
abbrev cX9_condition : ByteArray := prog_18_method_14_code
def yX9_condition : MethodName := ⟨RX9, "condition", "()LAshCity$Condition;"⟩
abbrev cX9_opens : ByteArray := prog_18_method_8_code
def yX9_opens : MethodName := ⟨RX9, "opens", "()V"⟩
abbrev cX9_pieces : ByteArray := prog_18_method_13_code
def yX9_pieces : MethodName := ⟨RX9, "pieces", "()LAshCity$Condition;"⟩
abbrev cX9_piece : ByteArray := prog_18_method_12_code
def yX9_piece : MethodName := ⟨RX9, "piece", "()LAshCity$Condition;"⟩
abbrev cX9_sum : ByteArray := prog_18_method_11_code
def yX9_sum : MethodName := ⟨RX9, "sum", "()LAshCity$Sum;"⟩
abbrev cX9_product : ByteArray := prog_18_method_10_code
def yX9_product : MethodName := ⟨RX9, "product", "()LAshCity$Sum;"⟩
abbrev cX9_factor : ByteArray := prog_18_method_9_code
def yX9_factor : MethodName := ⟨RX9, "factor", "()LAshCity$Sum;"⟩
abbrev cX9_isInForce : ByteArray := prog_18_method_18_code
def yX9_isInForce : MethodName := ⟨RX9, "isInForce", "(I)Z"⟩
abbrev cJ0_indexOf : ByteArray := prog_31_method_79_code
def yJ0_indexOf : MethodName := ⟨RJ0, "indexOf", "(I)I"⟩
abbrev cJ0_indexOf_2 : ByteArray := prog_31_method_80_code
def yJ0_indexOf_2 : MethodName := ⟨RJ0, "indexOf", "(II)I"⟩
abbrev cJ0_isLatin1 : ByteArray := prog_31_method_154_code
def yJ0_isLatin1 : MethodName := ⟨RJ0, "isLatin1", "()Z"⟩
abbrev cJ0_length : ByteArray := prog_31_method_54_code
def yJ0_length : MethodName := ⟨RJ0, "length", "()I"⟩
abbrev cJ0_coder : ByteArray := prog_31_method_152_code
def yJ0_coder : MethodName := ⟨RJ0, "coder", "()B"⟩
abbrev cJ0_checkBoundsBeginEnd : ByteArray := prog_31_method_158_code
def yJ0_checkBoundsBeginEnd : MethodName := ⟨RJ0, "checkBoundsBeginEnd", "(III)V"⟩
abbrev cJ1_indexOf : ByteArray := prog_32_method_22_code
def yJ1_indexOf : MethodName := ⟨RJ1, "indexOf", "([BIII)I"⟩
abbrev cJ1_canEncode : ByteArray := prog_32_method_4_code
def yJ1_canEncode : MethodName := ⟨RJ1, "canEncode", "(I)Z"⟩
abbrev cJ1_indexOfChar : ByteArray := prog_32_method_23_code
def yJ1_indexOfChar : MethodName := ⟨RJ1, "indexOfChar", "([BIII)I"⟩
abbrev cJ2_max : ByteArray := prog_30_method_65_code
def yJ2_max : MethodName := ⟨RJ2, "max", "(II)I"⟩
abbrev cJ2_min : ByteArray := prog_30_method_69_code
def yJ2_min : MethodName := ⟨RJ2, "min", "(II)I"⟩
abbrev cJ3_indexOf : ByteArray := prog_33_method_40_code
def yJ3_indexOf : MethodName := ⟨RJ3, "indexOf", "([BIII)I"⟩
abbrev cJ3_indexOfChar : ByteArray := prog_33_method_47_code
def yJ3_indexOfChar : MethodName := ⟨RJ3, "indexOfChar", "([BIII)I"⟩
abbrev cJ3_checkBoundsBeginEnd : ByteArray := prog_33_method_93_code
def yJ3_checkBoundsBeginEnd : MethodName := ⟨RJ3, "checkBoundsBeginEnd", "(II[B)V"⟩
abbrev cJ3_length : ByteArray := prog_33_method_6_code
def yJ3_length : MethodName := ⟨RJ3, "length", "([B)I"⟩
abbrev cJ3_indexOfCharUnsafe : ByteArray := prog_33_method_48_code
def yJ3_indexOfCharUnsafe : MethodName := ⟨RJ3, "indexOfCharUnsafe", "([BIII)I"⟩
abbrev cJ3_getChar : ByteArray := prog_33_method_5_code
def yJ3_getChar : MethodName := ⟨RJ3, "getChar", "([BI)C"⟩
abbrev cJ3_indexOfSupplementary : ByteArray := prog_33_method_49_code
def yJ3_indexOfSupplementary : MethodName := ⟨RJ3, "indexOfSupplementary", "([BIII)I"⟩
abbrev cJ4_checkFromToIndex : ByteArray := prog_34_method_12_code
def yJ4_checkFromToIndex : MethodName := ⟨RJ4, "checkFromToIndex", "(IIILjava/util/function/BiFunction;)I"⟩
abbrev cJ5_isValidCodePoint : ByteArray := prog_28_method_11_code
def yJ5_isValidCodePoint : MethodName := ⟨RJ5, "isValidCodePoint", "(I)Z"⟩
abbrev cJ5_highSurrogate : ByteArray := prog_28_method_28_code
def yJ5_highSurrogate : MethodName := ⟨RJ5, "highSurrogate", "(I)C"⟩
abbrev cJ5_lowSurrogate : ByteArray := prog_28_method_29_code
def yJ5_lowSurrogate : MethodName := ⟨RJ5, "lowSurrogate", "(I)C"⟩
abbrev cX10_init : ByteArray := prog_3_method_1_code
def yX10_init : MethodName := ⟨RX10, "<init>", "(I)V"⟩
abbrev cX10_holds : ByteArray := prog_3_method_2_code
def yX10_holds : MethodName := ⟨RX10, "holds", "(LAshCity$Asked;)Z"⟩
abbrev cX11_init : ByteArray := prog_5_method_1_code
def yX11_init : MethodName := ⟨RX11, "<init>", "()V"⟩
abbrev cX12_init : ByteArray := prog_20_method_1_code
def yX12_init : MethodName := ⟨RX12, "<init>", "(LAshCity$Condition;I)V"⟩
abbrev cX12_holds : ByteArray := prog_20_method_2_code
def yX12_holds : MethodName := ⟨RX12, "holds", "(LAshCity$Asked;)I"⟩
abbrev cX13_init : ByteArray := prog_11_method_1_code
def yX13_init : MethodName := ⟨RX13, "<init>", "(LAshCity$Condition;)V"⟩
abbrev cX13_holds : ByteArray := prog_11_method_2_code
def yX13_holds : MethodName := ⟨RX13, "holds", "(LAshCity$Asked;)I"⟩
abbrev cX14_init : ByteArray := prog_21_method_1_code
def yX14_init : MethodName := ⟨RX14, "<init>", "()V"⟩
abbrev cX15_init : ByteArray := prog_17_method_1_code
def yX15_init : MethodName := ⟨RX15, "<init>", "(ILAshCity$Sum;)V"⟩
abbrev cX15_worth : ByteArray := prog_17_method_3_code
def yX15_worth : MethodName := ⟨RX15, "worth", "(LAshCity$Asked;)I"⟩
abbrev cX15_worked : ByteArray := prog_17_method_2_code
def yX15_worked : MethodName := ⟨RX15, "worked", "(IIILAshCity$Asked;)I"⟩
abbrev cX16_init : ByteArray := prog_12_method_1_code
def yX16_init : MethodName := ⟨RX16, "<init>", "(I)V"⟩
abbrev cX16_worth : ByteArray := prog_12_method_2_code
def yX16_worth : MethodName := ⟨RX16, "worth", "(LAshCity$Asked;)I"⟩
abbrev cX17_init : ByteArray := prog_9_method_1_code
def yX17_init : MethodName := ⟨RX17, "<init>", "(I)V"⟩
abbrev cX17_worth : ByteArray := prog_9_method_2_code
def yX17_worth : MethodName := ⟨RX17, "worth", "(LAshCity$Asked;)I"⟩
abbrev cX18_init : ByteArray := prog_4_method_1_code
def yX18_init : MethodName := ⟨RX18, "<init>", "(LAshCity$Sum;ILAshCity$Sum;)V"⟩
abbrev cX18_holds : ByteArray := prog_4_method_2_code
def yX18_holds : MethodName := ⟨RX18, "holds", "(LAshCity$Asked;)I"⟩
abbrev cX19_init : ByteArray := prog_2_method_1_code
def yX19_init : MethodName := ⟨RX19, "<init>", "(IIIII)V"⟩
abbrev cX19_value : ByteArray := prog_2_method_2_code
def yX19_value : MethodName := ⟨RX19, "value", "(I)I"⟩
abbrev cX20_init : ByteArray := prog_8_method_1_code
def yX20_init : MethodName := ⟨RX20, "<init>", "(IIIIIIIII)V"⟩
abbrev cJ6_bitCount : ByteArray := prog_29_method_49_code
def yJ6_bitCount : MethodName := ⟨RJ6, "bitCount", "(I)I"⟩
abbrev cX21_init : ByteArray := prog_22_method_1_code
def yX21_init : MethodName := ⟨RX21, "<init>", "(III)V"⟩
abbrev cX21_agrees : ByteArray := prog_22_method_2_code
def yX21_agrees : MethodName := ⟨RX21, "agrees", "(LAshCity$Find;)I"⟩
abbrev cX22_init : ByteArray := prog_24_method_1_code
def yX22_init : MethodName := ⟨RX22, "<init>", "(II)V"⟩
abbrev cX23_init : ByteArray := prog_7_method_1_code
def yX23_init : MethodName := ⟨RX23, "<init>", "(IIIIZI)V"⟩
abbrev cX23_shows : ByteArray := prog_7_method_2_code
def yX23_shows : MethodName := ⟨RX23, "shows", "(I)Z"⟩
abbrev cX24_init : ByteArray := prog_19_method_1_code
def yX24_init : MethodName := ⟨RX24, "<init>", "(IIII)V"⟩
abbrev cX25_init : ByteArray := prog_25_method_1_code
def yX25_init : MethodName := ⟨RX25, "<init>", "(III)V"⟩
abbrev cJ7_init : ByteArray := object_method_1_code
def yJ7_init : MethodName := ⟨RJ7, "<init>", "()V"⟩
abbrev cL_law : ByteArray := code
theorem q102 : (Jvm.Cond.initialized "AshCity") ∈ lw_all := lw_g (lw_at lw_m1 1 rfl) rfl
theorem q136 : (Jvm.Cond.instantiable "AshCity" (46 : Nat)) ∈ lw_all := lw_g (lw_at lw_m1 35 rfl) rfl
theorem q138 : (Jvm.Cond.instanceMethod ({ cls := "AshCity", name := "<init>", desc := "()V" } : Jvm.MethodName)) ∈ lw_all := lw_g (lw_at lw_m1 37 rfl) rfl
theorem q139 : (Jvm.Cond.code ({ cls := "AshCity", name := "<init>", desc := "()V" } : Jvm.MethodName) prog_1_method_4_code (2 : Nat) (Option.none : Option Jvm.ClassFile.FieldType)) ∈ lw_all := lw_g (lw_at lw_m1 38 rfl) rfl
theorem q140 : (Jvm.Cond.methodLink "AshCity" (7 : Nat) ({ cls := "java/lang/Object", name := "<init>", desc := "()V" } : Jvm.MethodName)) ∈ lw_all := lw_g (lw_at lw_m1 39 rfl) rfl
theorem q143 : (Jvm.Cond.classLink "AshCity" (22 : Nat) "AshCity$Place") ∈ lw_all := lw_g (lw_at lw_m1 42 rfl) rfl
theorem q145 : (Jvm.Cond.classLink "AshCity" (28 : Nat) "AshCity$Dig") ∈ lw_all := lw_g (lw_at lw_m1 44 rfl) rfl
theorem q147 : (Jvm.Cond.classLink "AshCity" (45 : Nat) "AshCity$Meaning") ∈ lw_all := lw_g (lw_at lw_m1 46 rfl) rfl
theorem q149 : (Jvm.Cond.classLink "AshCity" (51 : Nat) "AshCity$Rules") ∈ lw_all := lw_g (lw_at lw_m1 48 rfl) rfl
theorem q151 : (Jvm.Cond.classLink "AshCity" (57 : Nat) "AshCity$Find") ∈ lw_all := lw_g (lw_at lw_m1 50 rfl) rfl
theorem q153 : (Jvm.Cond.classLink "AshCity" (63 : Nat) "AshCity$Thing") ∈ lw_all := lw_g (lw_at lw_m1 52 rfl) rfl
theorem q155 : (Jvm.Cond.classLink "AshCity" (72 : Nat) "[[I") ∈ lw_all := lw_g (lw_at lw_m1 54 rfl) rfl
theorem q157 : (Jvm.Cond.classLink "AshCity" (83 : Nat) "AshCity$Wall") ∈ lw_all := lw_g (lw_at lw_m1 56 rfl) rfl
theorem q159 : (Jvm.Cond.classLink "AshCity" (89 : Nat) "AshCity$Drawing") ∈ lw_all := lw_g (lw_at lw_m1 58 rfl) rfl
theorem q161 : (Jvm.Cond.classLink "AshCity" (125 : Nat) "AshCity$Sign") ∈ lw_all := lw_g (lw_at lw_m1 60 rfl) rfl
theorem q163 : (Jvm.Cond.classLink "AshCity" (131 : Nat) "AshCity$Work") ∈ lw_all := lw_g (lw_at lw_m1 62 rfl) rfl
theorem q165 : (Jvm.Cond.fieldLink "AshCity" (13 : Nat) "AshCity" "w" "I") ∈ lw_all := lw_g (lw_at lw_m1 64 rfl) rfl
theorem q166 : (Jvm.Cond.fieldLink "AshCity" (19 : Nat) "AshCity" "h" "I") ∈ lw_all := lw_g (lw_at lw_m1 65 rfl) rfl
theorem q167 : (Jvm.Cond.fieldLink "AshCity" (158 : Nat) "AshCity" "now" "I") ∈ lw_all := lw_g (lw_at lw_m1 66 rfl) rfl
theorem q168 : (Jvm.Cond.fieldLink "AshCity" (141 : Nat) "AshCity" "placeMany" "I") ∈ lw_all := lw_g (lw_at lw_m1 67 rfl) rfl
theorem q169 : (Jvm.Cond.fieldLink "AshCity" (148 : Nat) "AshCity" "digMany" "I") ∈ lw_all := lw_g (lw_at lw_m1 68 rfl) rfl
theorem q170 : (Jvm.Cond.fieldLink "AshCity" (264 : Nat) "AshCity" "taped" "I") ∈ lw_all := lw_g (lw_at lw_m1 69 rfl) rfl
theorem q171 : (Jvm.Cond.fieldLink "AshCity" (24 : Nat) "AshCity" "places" "[LAshCity$Place;") ∈ lw_all := lw_g (lw_at lw_m1 70 rfl) rfl
theorem q172 : (Jvm.Cond.fieldLink "AshCity" (30 : Nat) "AshCity" "digs" "[LAshCity$Dig;") ∈ lw_all := lw_g (lw_at lw_m1 71 rfl) rfl
theorem q173 : (Jvm.Cond.fieldLink "AshCity" (34 : Nat) "AshCity" "ordered" "[LAshCity$Dig;") ∈ lw_all := lw_g (lw_at lw_m1 72 rfl) rfl
theorem q174 : (Jvm.Cond.fieldLink "AshCity" (37 : Nat) "AshCity" "heights" "[I") ∈ lw_all := lw_g (lw_at lw_m1 73 rfl) rfl
theorem q175 : (Jvm.Cond.fieldLink "AshCity" (41 : Nat) "AshCity" "tape" "[B") ∈ lw_all := lw_g (lw_at lw_m1 74 rfl) rfl
theorem q176 : (Jvm.Cond.fieldLink "AshCity" (213 : Nat) "AshCity" "firstDig" "LAshCity$Dig;") ∈ lw_all := lw_g (lw_at lw_m1 75 rfl) rfl
theorem q177 : (Jvm.Cond.fieldLink "AshCity" (243 : Nat) "AshCity" "meaningMany" "I") ∈ lw_all := lw_g (lw_at lw_m1 76 rfl) rfl
theorem q178 : (Jvm.Cond.fieldLink "AshCity" (47 : Nat) "AshCity" "meanings" "[LAshCity$Meaning;") ∈ lw_all := lw_g (lw_at lw_m1 77 rfl) rfl
theorem q179 : (Jvm.Cond.fieldLink "AshCity" (271 : Nat) "AshCity" "ruleMany" "I") ∈ lw_all := lw_g (lw_at lw_m1 78 rfl) rfl
theorem q180 : (Jvm.Cond.fieldLink "AshCity" (53 : Nat) "AshCity" "rules" "[LAshCity$Rules;") ∈ lw_all := lw_g (lw_at lw_m1 79 rfl) rfl
theorem q181 : (Jvm.Cond.fieldLink "AshCity" (328 : Nat) "AshCity" "findMany" "I") ∈ lw_all := lw_g (lw_at lw_m1 80 rfl) rfl
theorem q182 : (Jvm.Cond.fieldLink "AshCity" (59 : Nat) "AshCity" "finds" "[LAshCity$Find;") ∈ lw_all := lw_g (lw_at lw_m1 81 rfl) rfl
theorem q183 : (Jvm.Cond.fieldLink "AshCity" (378 : Nat) "AshCity" "thingMany" "I") ∈ lw_all := lw_g (lw_at lw_m1 82 rfl) rfl
theorem q184 : (Jvm.Cond.fieldLink "AshCity" (65 : Nat) "AshCity" "things" "[LAshCity$Thing;") ∈ lw_all := lw_g (lw_at lw_m1 83 rfl) rfl
theorem q185 : (Jvm.Cond.fieldLink "AshCity" (69 : Nat) "AshCity" "asked" "[I") ∈ lw_all := lw_g (lw_at lw_m1 84 rfl) rfl
theorem q186 : (Jvm.Cond.fieldLink "AshCity" (400 : Nat) "AshCity" "askedMany" "I") ∈ lw_all := lw_g (lw_at lw_m1 85 rfl) rfl
theorem q187 : (Jvm.Cond.fieldLink "AshCity" (416 : Nat) "AshCity" "rowMany" "I") ∈ lw_all := lw_g (lw_at lw_m1 86 rfl) rfl
theorem q188 : (Jvm.Cond.fieldLink "AshCity" (74 : Nat) "AshCity" "pairs" "[[I") ∈ lw_all := lw_g (lw_at lw_m1 87 rfl) rfl
theorem q189 : (Jvm.Cond.fieldLink "AshCity" (77 : Nat) "AshCity" "row" "[I") ∈ lw_all := lw_g (lw_at lw_m1 88 rfl) rfl
theorem q190 : (Jvm.Cond.fieldLink "AshCity" (80 : Nat) "AshCity" "best" "[I") ∈ lw_all := lw_g (lw_at lw_m1 89 rfl) rfl
theorem q191 : (Jvm.Cond.fieldLink "AshCity" (430 : Nat) "AshCity" "wallMany" "I") ∈ lw_all := lw_g (lw_at lw_m1 90 rfl) rfl
theorem q192 : (Jvm.Cond.fieldLink "AshCity" (436 : Nat) "AshCity" "drawingMany" "I") ∈ lw_all := lw_g (lw_at lw_m1 91 rfl) rfl
theorem q193 : (Jvm.Cond.fieldLink "AshCity" (85 : Nat) "AshCity" "walls" "[LAshCity$Wall;") ∈ lw_all := lw_g (lw_at lw_m1 92 rfl) rfl
theorem q194 : (Jvm.Cond.fieldLink "AshCity" (91 : Nat) "AshCity" "drawings" "[LAshCity$Drawing;") ∈ lw_all := lw_g (lw_at lw_m1 93 rfl) rfl
theorem q195 : (Jvm.Cond.fieldLink "AshCity" (95 : Nat) "AshCity" "hourFrom" "[I") ∈ lw_all := lw_g (lw_at lw_m1 94 rfl) rfl
theorem q196 : (Jvm.Cond.fieldLink "AshCity" (98 : Nat) "AshCity" "hourTo" "[I") ∈ lw_all := lw_g (lw_at lw_m1 95 rfl) rfl
theorem q197 : (Jvm.Cond.fieldLink "AshCity" (101 : Nat) "AshCity" "earliest" "[I") ∈ lw_all := lw_g (lw_at lw_m1 96 rfl) rfl
theorem q198 : (Jvm.Cond.fieldLink "AshCity" (104 : Nat) "AshCity" "latest" "[I") ∈ lw_all := lw_g (lw_at lw_m1 97 rfl) rfl
theorem q199 : (Jvm.Cond.fieldLink "AshCity" (461 : Nat) "AshCity" "cutMany" "I") ∈ lw_all := lw_g (lw_at lw_m1 98 rfl) rfl
theorem q200 : (Jvm.Cond.fieldLink "AshCity" (151 : Nat) "AshCity" "hollowMany" "I") ∈ lw_all := lw_g (lw_at lw_m1 99 rfl) rfl
theorem q201 : (Jvm.Cond.fieldLink "AshCity" (107 : Nat) "AshCity" "upper" "[I") ∈ lw_all := lw_g (lw_at lw_m1 100 rfl) rfl
theorem q202 : (Jvm.Cond.fieldLink "AshCity" (110 : Nat) "AshCity" "lower" "[I") ∈ lw_all := lw_g (lw_at lw_m1 101 rfl) rfl
theorem q203 : (Jvm.Cond.fieldLink "AshCity" (113 : Nat) "AshCity" "hollowCell" "[I") ∈ lw_all := lw_g (lw_at lw_m1 102 rfl) rfl
theorem q204 : (Jvm.Cond.fieldLink "AshCity" (116 : Nat) "AshCity" "hollowLayer" "[I") ∈ lw_all := lw_g (lw_at lw_m1 103 rfl) rfl
theorem q205 : (Jvm.Cond.fieldLink "AshCity" (119 : Nat) "AshCity" "steps" "[I") ∈ lw_all := lw_g (lw_at lw_m1 104 rfl) rfl
theorem q206 : (Jvm.Cond.fieldLink "AshCity" (122 : Nat) "AshCity" "queue" "[I") ∈ lw_all := lw_g (lw_at lw_m1 105 rfl) rfl
theorem q207 : (Jvm.Cond.fieldLink "AshCity" (473 : Nat) "AshCity" "signMany" "I") ∈ lw_all := lw_g (lw_at lw_m1 106 rfl) rfl
theorem q208 : (Jvm.Cond.fieldLink "AshCity" (127 : Nat) "AshCity" "signs" "[LAshCity$Sign;") ∈ lw_all := lw_g (lw_at lw_m1 107 rfl) rfl
theorem q209 : (Jvm.Cond.fieldLink "AshCity" (483 : Nat) "AshCity" "workMany" "I") ∈ lw_all := lw_g (lw_at lw_m1 108 rfl) rfl
theorem q210 : (Jvm.Cond.fieldLink "AshCity" (133 : Nat) "AshCity" "works" "[LAshCity$Work;") ∈ lw_all := lw_g (lw_at lw_m1 109 rfl) rfl
theorem q211 : (Jvm.Cond.lays "AshCity" "AshCity" "w" "I") ∈ lw_all := lw_g (lw_at lw_m1 110 rfl) rfl
theorem q212 : (Jvm.Cond.soleField "AshCity" "w") ∈ lw_all := lw_g (lw_at lw_m1 111 rfl) rfl
theorem q213 : (Jvm.Cond.lays "AshCity" "AshCity" "h" "I") ∈ lw_all := lw_g (lw_at lw_m1 112 rfl) rfl
theorem q214 : (Jvm.Cond.soleField "AshCity" "h") ∈ lw_all := lw_g (lw_at lw_m1 113 rfl) rfl
theorem q215 : (Jvm.Cond.lays "AshCity" "AshCity" "now" "I") ∈ lw_all := lw_g (lw_at lw_m1 114 rfl) rfl
theorem q216 : (Jvm.Cond.soleField "AshCity" "now") ∈ lw_all := lw_g (lw_at lw_m1 115 rfl) rfl
theorem q217 : (Jvm.Cond.lays "AshCity" "AshCity" "placeMany" "I") ∈ lw_all := lw_g (lw_at lw_m1 116 rfl) rfl
theorem q218 : (Jvm.Cond.soleField "AshCity" "placeMany") ∈ lw_all := lw_g (lw_at lw_m1 117 rfl) rfl
theorem q219 : (Jvm.Cond.lays "AshCity" "AshCity" "digMany" "I") ∈ lw_all := lw_g (lw_at lw_m1 118 rfl) rfl
theorem q220 : (Jvm.Cond.soleField "AshCity" "digMany") ∈ lw_all := lw_g (lw_at lw_m1 119 rfl) rfl
theorem q221 : (Jvm.Cond.lays "AshCity" "AshCity" "taped" "I") ∈ lw_all := lw_g (lw_at lw_m1 120 rfl) rfl
theorem q222 : (Jvm.Cond.soleField "AshCity" "taped") ∈ lw_all := lw_g (lw_at lw_m1 121 rfl) rfl
theorem q223 : (Jvm.Cond.laysFinal "AshCity" "AshCity" "places" "[LAshCity$Place;") ∈ lw_all := lw_g (lw_at lw_m1 122 rfl) rfl
theorem q224 : (Jvm.Cond.soleField "AshCity" "places") ∈ lw_all := lw_g (lw_at lw_m1 123 rfl) rfl
theorem q225 : (Jvm.Cond.laysFinal "AshCity" "AshCity" "digs" "[LAshCity$Dig;") ∈ lw_all := lw_g (lw_at lw_m1 124 rfl) rfl
theorem q226 : (Jvm.Cond.soleField "AshCity" "digs") ∈ lw_all := lw_g (lw_at lw_m1 125 rfl) rfl
theorem q227 : (Jvm.Cond.laysFinal "AshCity" "AshCity" "ordered" "[LAshCity$Dig;") ∈ lw_all := lw_g (lw_at lw_m1 126 rfl) rfl
theorem q228 : (Jvm.Cond.soleField "AshCity" "ordered") ∈ lw_all := lw_g (lw_at lw_m1 127 rfl) rfl
theorem q229 : (Jvm.Cond.laysFinal "AshCity" "AshCity" "heights" "[I") ∈ lw_all := lw_g (lw_at lw_m1 128 rfl) rfl
theorem q230 : (Jvm.Cond.soleField "AshCity" "heights") ∈ lw_all := lw_g (lw_at lw_m1 129 rfl) rfl
theorem q231 : (Jvm.Cond.laysFinal "AshCity" "AshCity" "tape" "[B") ∈ lw_all := lw_g (lw_at lw_m1 130 rfl) rfl
theorem q232 : (Jvm.Cond.soleField "AshCity" "tape") ∈ lw_all := lw_g (lw_at lw_m1 131 rfl) rfl
theorem q233 : (Jvm.Cond.lays "AshCity" "AshCity" "firstDig" "LAshCity$Dig;") ∈ lw_all := lw_g (lw_at lw_m1 132 rfl) rfl
theorem q234 : (Jvm.Cond.soleField "AshCity" "firstDig") ∈ lw_all := lw_g (lw_at lw_m1 133 rfl) rfl
theorem q235 : (Jvm.Cond.lays "AshCity" "AshCity" "meaningMany" "I") ∈ lw_all := lw_g (lw_at lw_m1 134 rfl) rfl
theorem q236 : (Jvm.Cond.soleField "AshCity" "meaningMany") ∈ lw_all := lw_g (lw_at lw_m1 135 rfl) rfl
theorem q237 : (Jvm.Cond.laysFinal "AshCity" "AshCity" "meanings" "[LAshCity$Meaning;") ∈ lw_all := lw_g (lw_at lw_m1 136 rfl) rfl
theorem q238 : (Jvm.Cond.soleField "AshCity" "meanings") ∈ lw_all := lw_g (lw_at lw_m1 137 rfl) rfl
theorem q239 : (Jvm.Cond.lays "AshCity" "AshCity" "ruleMany" "I") ∈ lw_all := lw_g (lw_at lw_m1 138 rfl) rfl
theorem q240 : (Jvm.Cond.soleField "AshCity" "ruleMany") ∈ lw_all := lw_g (lw_at lw_m1 139 rfl) rfl
theorem q241 : (Jvm.Cond.laysFinal "AshCity" "AshCity" "rules" "[LAshCity$Rules;") ∈ lw_all := lw_g (lw_at lw_m1 140 rfl) rfl
theorem q242 : (Jvm.Cond.soleField "AshCity" "rules") ∈ lw_all := lw_g (lw_at lw_m1 141 rfl) rfl
theorem q243 : (Jvm.Cond.lays "AshCity" "AshCity" "findMany" "I") ∈ lw_all := lw_g (lw_at lw_m1 142 rfl) rfl
theorem q244 : (Jvm.Cond.soleField "AshCity" "findMany") ∈ lw_all := lw_g (lw_at lw_m1 143 rfl) rfl
theorem q245 : (Jvm.Cond.laysFinal "AshCity" "AshCity" "finds" "[LAshCity$Find;") ∈ lw_all := lw_g (lw_at lw_m1 144 rfl) rfl
theorem q246 : (Jvm.Cond.soleField "AshCity" "finds") ∈ lw_all := lw_g (lw_at lw_m1 145 rfl) rfl
theorem q247 : (Jvm.Cond.lays "AshCity" "AshCity" "thingMany" "I") ∈ lw_all := lw_g (lw_at lw_m1 146 rfl) rfl
theorem q248 : (Jvm.Cond.soleField "AshCity" "thingMany") ∈ lw_all := lw_g (lw_at lw_m1 147 rfl) rfl
theorem q249 : (Jvm.Cond.laysFinal "AshCity" "AshCity" "things" "[LAshCity$Thing;") ∈ lw_all := lw_g (lw_at lw_m1 148 rfl) rfl
theorem q250 : (Jvm.Cond.soleField "AshCity" "things") ∈ lw_all := lw_g (lw_at lw_m1 149 rfl) rfl
theorem q251 : (Jvm.Cond.laysFinal "AshCity" "AshCity" "asked" "[I") ∈ lw_all := lw_g (lw_at lw_m1 150 rfl) rfl
theorem q252 : (Jvm.Cond.soleField "AshCity" "asked") ∈ lw_all := lw_g (lw_at lw_m1 151 rfl) rfl
theorem q253 : (Jvm.Cond.lays "AshCity" "AshCity" "askedMany" "I") ∈ lw_all := lw_g (lw_at lw_m1 152 rfl) rfl
theorem q254 : (Jvm.Cond.soleField "AshCity" "askedMany") ∈ lw_all := lw_g (lw_at lw_m1 153 rfl) rfl
theorem q255 : (Jvm.Cond.lays "AshCity" "AshCity" "rowMany" "I") ∈ lw_all := lw_g (lw_at lw_m1 154 rfl) rfl
theorem q256 : (Jvm.Cond.soleField "AshCity" "rowMany") ∈ lw_all := lw_g (lw_at lw_m1 155 rfl) rfl
theorem q257 : (Jvm.Cond.laysFinal "AshCity" "AshCity" "pairs" "[[I") ∈ lw_all := lw_g (lw_at lw_m1 156 rfl) rfl
theorem q258 : (Jvm.Cond.soleField "AshCity" "pairs") ∈ lw_all := lw_g (lw_at lw_m1 157 rfl) rfl
theorem q259 : (Jvm.Cond.laysFinal "AshCity" "AshCity" "row" "[I") ∈ lw_all := lw_g (lw_at lw_m1 158 rfl) rfl
theorem q260 : (Jvm.Cond.soleField "AshCity" "row") ∈ lw_all := lw_g (lw_at lw_m1 159 rfl) rfl
theorem q261 : (Jvm.Cond.laysFinal "AshCity" "AshCity" "best" "[I") ∈ lw_all := lw_g (lw_at lw_m1 160 rfl) rfl
theorem q262 : (Jvm.Cond.soleField "AshCity" "best") ∈ lw_all := lw_g (lw_at lw_m1 161 rfl) rfl
theorem q263 : (Jvm.Cond.lays "AshCity" "AshCity" "wallMany" "I") ∈ lw_all := lw_g (lw_at lw_m1 162 rfl) rfl
theorem q264 : (Jvm.Cond.soleField "AshCity" "wallMany") ∈ lw_all := lw_g (lw_at lw_m1 163 rfl) rfl
theorem q265 : (Jvm.Cond.lays "AshCity" "AshCity" "drawingMany" "I") ∈ lw_all := lw_g (lw_at lw_m1 164 rfl) rfl
theorem q266 : (Jvm.Cond.soleField "AshCity" "drawingMany") ∈ lw_all := lw_g (lw_at lw_m1 165 rfl) rfl
theorem q267 : (Jvm.Cond.laysFinal "AshCity" "AshCity" "walls" "[LAshCity$Wall;") ∈ lw_all := lw_g (lw_at lw_m1 166 rfl) rfl
theorem q268 : (Jvm.Cond.soleField "AshCity" "walls") ∈ lw_all := lw_g (lw_at lw_m1 167 rfl) rfl
theorem q269 : (Jvm.Cond.laysFinal "AshCity" "AshCity" "drawings" "[LAshCity$Drawing;") ∈ lw_all := lw_g (lw_at lw_m1 168 rfl) rfl
theorem q270 : (Jvm.Cond.soleField "AshCity" "drawings") ∈ lw_all := lw_g (lw_at lw_m1 169 rfl) rfl
theorem q271 : (Jvm.Cond.laysFinal "AshCity" "AshCity" "hourFrom" "[I") ∈ lw_all := lw_g (lw_at lw_m1 170 rfl) rfl
theorem q272 : (Jvm.Cond.soleField "AshCity" "hourFrom") ∈ lw_all := lw_g (lw_at lw_m1 171 rfl) rfl
theorem q273 : (Jvm.Cond.laysFinal "AshCity" "AshCity" "hourTo" "[I") ∈ lw_all := lw_g (lw_at lw_m1 172 rfl) rfl
theorem q274 : (Jvm.Cond.soleField "AshCity" "hourTo") ∈ lw_all := lw_g (lw_at lw_m1 173 rfl) rfl
theorem q275 : (Jvm.Cond.laysFinal "AshCity" "AshCity" "earliest" "[I") ∈ lw_all := lw_g (lw_at lw_m1 174 rfl) rfl
theorem q276 : (Jvm.Cond.soleField "AshCity" "earliest") ∈ lw_all := lw_g (lw_at lw_m1 175 rfl) rfl
theorem q277 : (Jvm.Cond.laysFinal "AshCity" "AshCity" "latest" "[I") ∈ lw_all := lw_g (lw_at lw_m1 176 rfl) rfl
theorem q278 : (Jvm.Cond.soleField "AshCity" "latest") ∈ lw_all := lw_g (lw_at lw_m1 177 rfl) rfl
theorem q279 : (Jvm.Cond.lays "AshCity" "AshCity" "cutMany" "I") ∈ lw_all := lw_g (lw_at lw_m1 178 rfl) rfl
theorem q280 : (Jvm.Cond.soleField "AshCity" "cutMany") ∈ lw_all := lw_g (lw_at lw_m1 179 rfl) rfl
theorem q281 : (Jvm.Cond.lays "AshCity" "AshCity" "hollowMany" "I") ∈ lw_all := lw_g (lw_at lw_m1 180 rfl) rfl
theorem q282 : (Jvm.Cond.soleField "AshCity" "hollowMany") ∈ lw_all := lw_g (lw_at lw_m1 181 rfl) rfl
theorem q283 : (Jvm.Cond.laysFinal "AshCity" "AshCity" "upper" "[I") ∈ lw_all := lw_g (lw_at lw_m1 182 rfl) rfl
theorem q284 : (Jvm.Cond.soleField "AshCity" "upper") ∈ lw_all := lw_g (lw_at lw_m1 183 rfl) rfl
theorem q285 : (Jvm.Cond.laysFinal "AshCity" "AshCity" "lower" "[I") ∈ lw_all := lw_g (lw_at lw_m1 184 rfl) rfl
theorem q286 : (Jvm.Cond.soleField "AshCity" "lower") ∈ lw_all := lw_g (lw_at lw_m1 185 rfl) rfl
theorem q287 : (Jvm.Cond.laysFinal "AshCity" "AshCity" "hollowCell" "[I") ∈ lw_all := lw_g (lw_at lw_m1 186 rfl) rfl
theorem q288 : (Jvm.Cond.soleField "AshCity" "hollowCell") ∈ lw_all := lw_g (lw_at lw_m1 187 rfl) rfl
theorem q289 : (Jvm.Cond.laysFinal "AshCity" "AshCity" "hollowLayer" "[I") ∈ lw_all := lw_g (lw_at lw_m1 188 rfl) rfl
theorem q290 : (Jvm.Cond.soleField "AshCity" "hollowLayer") ∈ lw_all := lw_g (lw_at lw_m1 189 rfl) rfl
theorem q291 : (Jvm.Cond.laysFinal "AshCity" "AshCity" "steps" "[I") ∈ lw_all := lw_g (lw_at lw_m1 190 rfl) rfl
theorem q292 : (Jvm.Cond.soleField "AshCity" "steps") ∈ lw_all := lw_g (lw_at lw_m1 191 rfl) rfl
theorem q293 : (Jvm.Cond.laysFinal "AshCity" "AshCity" "queue" "[I") ∈ lw_all := lw_g (lw_at lw_m1 192 rfl) rfl
theorem q294 : (Jvm.Cond.soleField "AshCity" "queue") ∈ lw_all := lw_g (lw_at lw_m1 193 rfl) rfl
theorem q295 : (Jvm.Cond.lays "AshCity" "AshCity" "signMany" "I") ∈ lw_all := lw_g (lw_at lw_m1 194 rfl) rfl
theorem q296 : (Jvm.Cond.soleField "AshCity" "signMany") ∈ lw_all := lw_g (lw_at lw_m1 195 rfl) rfl
theorem q297 : (Jvm.Cond.laysFinal "AshCity" "AshCity" "signs" "[LAshCity$Sign;") ∈ lw_all := lw_g (lw_at lw_m1 196 rfl) rfl
theorem q298 : (Jvm.Cond.soleField "AshCity" "signs") ∈ lw_all := lw_g (lw_at lw_m1 197 rfl) rfl
theorem q299 : (Jvm.Cond.lays "AshCity" "AshCity" "workMany" "I") ∈ lw_all := lw_g (lw_at lw_m1 198 rfl) rfl
theorem q300 : (Jvm.Cond.soleField "AshCity" "workMany") ∈ lw_all := lw_g (lw_at lw_m1 199 rfl) rfl
theorem q301 : (Jvm.Cond.laysFinal "AshCity" "AshCity" "works" "[LAshCity$Work;") ∈ lw_all := lw_g (lw_at lw_m1 200 rfl) rfl
theorem q302 : (Jvm.Cond.soleField "AshCity" "works") ∈ lw_all := lw_g (lw_at lw_m1 201 rfl) rfl
theorem q303 : (Jvm.Cond.superclass "AshCity" "java/lang/Object") ∈ lw_all := lw_g (lw_at lw_m1 202 rfl) rfl
theorem q307 : (Jvm.Cond.instanceMethod ({ cls := "AshCity", name := "city", desc := "(II)Z" } : Jvm.MethodName)) ∈ lw_all := lw_g (lw_at lw_m1 206 rfl) rfl
theorem q308 : (Jvm.Cond.selects "AshCity" ({ cls := "AshCity", name := "city", desc := "(II)Z" } : Jvm.MethodName) ({ cls := "AshCity", name := "city", desc := "(II)Z" } : Jvm.MethodName)) ∈ lw_all := lw_g (lw_at lw_m1 207 rfl) rfl
theorem q309 : (Jvm.Cond.code ({ cls := "AshCity", name := "city", desc := "(II)Z" } : Jvm.MethodName) prog_1_method_9_code (4 : Nat) (Option.some Jvm.ClassFile.FieldType.boolean)) ∈ lw_all := lw_g (lw_at lw_m1 208 rfl) rfl
theorem q310 : (Jvm.Cond.methodLink "AshCity" (144 : Nat) ({ cls := "AshCity", name := "within", desc := "(III)Z" } : Jvm.MethodName)) ∈ lw_all := lw_g (lw_at lw_m1 209 rfl) rfl
theorem q311 : (Jvm.Cond.static ({ cls := "AshCity", name := "within", desc := "(III)Z" } : Jvm.MethodName)) ∈ lw_all := lw_g (lw_at lw_m1 210 rfl) rfl
theorem q312 : (Jvm.Cond.code ({ cls := "AshCity", name := "within", desc := "(III)Z" } : Jvm.MethodName) prog_1_method_2_code (3 : Nat) (Option.some Jvm.ClassFile.FieldType.boolean)) ∈ lw_all := lw_g (lw_at lw_m1 211 rfl) rfl
theorem q314 : (Jvm.Cond.instanceMethod ({ cls := "AshCity", name := "now", desc := "(I)Z" } : Jvm.MethodName)) ∈ lw_all := lw_g (lw_at lw_m1 213 rfl) rfl
theorem q315 : (Jvm.Cond.selects "AshCity" ({ cls := "AshCity", name := "now", desc := "(I)Z" } : Jvm.MethodName) ({ cls := "AshCity", name := "now", desc := "(I)Z" } : Jvm.MethodName)) ∈ lw_all := lw_g (lw_at lw_m1 214 rfl) rfl
theorem q316 : (Jvm.Cond.code ({ cls := "AshCity", name := "now", desc := "(I)Z" } : Jvm.MethodName) prog_1_method_10_code (2 : Nat) (Option.some Jvm.ClassFile.FieldType.boolean)) ∈ lw_all := lw_g (lw_at lw_m1 215 rfl) rfl
theorem q317 : (Jvm.Cond.methodLink "AshCity" (154 : Nat) ({ cls := "AshCity", name := "isWeek", desc := "(I)Z" } : Jvm.MethodName)) ∈ lw_all := lw_g (lw_at lw_m1 216 rfl) rfl
theorem q318 : (Jvm.Cond.static ({ cls := "AshCity", name := "isWeek", desc := "(I)Z" } : Jvm.MethodName)) ∈ lw_all := lw_g (lw_at lw_m1 217 rfl) rfl
theorem q319 : (Jvm.Cond.code ({ cls := "AshCity", name := "isWeek", desc := "(I)Z" } : Jvm.MethodName) prog_1_method_6_code (1 : Nat) (Option.some Jvm.ClassFile.FieldType.boolean)) ∈ lw_all := lw_g (lw_at lw_m1 218 rfl) rfl
theorem q320 : (Jvm.Cond.methodLink "AshCity" (137 : Nat) ({ cls := "AshCity", name := "in", desc := "(II)Z" } : Jvm.MethodName)) ∈ lw_all := lw_g (lw_at lw_m1 219 rfl) rfl
theorem q321 : (Jvm.Cond.static ({ cls := "AshCity", name := "in", desc := "(II)Z" } : Jvm.MethodName)) ∈ lw_all := lw_g (lw_at lw_m1 220 rfl) rfl
theorem q322 : (Jvm.Cond.code ({ cls := "AshCity", name := "in", desc := "(II)Z" } : Jvm.MethodName) prog_1_method_1_code (2 : Nat) (Option.some Jvm.ClassFile.FieldType.boolean)) ∈ lw_all := lw_g (lw_at lw_m1 221 rfl) rfl
theorem q324 : (Jvm.Cond.instanceMethod ({ cls := "AshCity", name := "place", desc := "(III)I" } : Jvm.MethodName)) ∈ lw_all := lw_g (lw_at lw_m1 223 rfl) rfl
theorem q325 : (Jvm.Cond.selects "AshCity" ({ cls := "AshCity", name := "place", desc := "(III)I" } : Jvm.MethodName) ({ cls := "AshCity", name := "place", desc := "(III)I" } : Jvm.MethodName)) ∈ lw_all := lw_g (lw_at lw_m1 224 rfl) rfl
theorem q326 : (Jvm.Cond.code ({ cls := "AshCity", name := "place", desc := "(III)I" } : Jvm.MethodName) prog_1_method_12_code (6 : Nat) (Option.some Jvm.ClassFile.FieldType.int)) ∈ lw_all := lw_g (lw_at lw_m1 225 rfl) rfl
theorem q327 : (Jvm.Cond.methodLink "AshCity" (169 : Nat) ({ cls := "AshCity", name := "between", desc := "(II)LAshCity$Rectangle;" } : Jvm.MethodName)) ∈ lw_all := lw_g (lw_at lw_m1 226 rfl) rfl
theorem q328 : (Jvm.Cond.privateMethod ({ cls := "AshCity", name := "between", desc := "(II)LAshCity$Rectangle;" } : Jvm.MethodName)) ∈ lw_tbl := lw_at lw_m1 227 rfl
theorem q329 : (Jvm.Cond.instanceMethod ({ cls := "AshCity", name := "between", desc := "(II)LAshCity$Rectangle;" } : Jvm.MethodName)) ∈ lw_all := lw_g (lw_at lw_m1 228 rfl) rfl
theorem q330 : (Jvm.Cond.code ({ cls := "AshCity", name := "between", desc := "(II)LAshCity$Rectangle;" } : Jvm.MethodName) prog_1_method_11_code (3 : Nat) (Option.some (Jvm.ClassFile.FieldType.object "AshCity$Rectangle"))) ∈ lw_all := lw_g (lw_at lw_m1 229 rfl) rfl
theorem q331 : (Jvm.Cond.methodLink "AshCity" (161 : Nat) ({ cls := "AshCity", name := "isCell", desc := "(I)Z" } : Jvm.MethodName)) ∈ lw_all := lw_g (lw_at lw_m1 230 rfl) rfl
theorem q332 : (Jvm.Cond.privateMethod ({ cls := "AshCity", name := "isCell", desc := "(I)Z" } : Jvm.MethodName)) ∈ lw_tbl := lw_at lw_m1 231 rfl
theorem q333 : (Jvm.Cond.instanceMethod ({ cls := "AshCity", name := "isCell", desc := "(I)Z" } : Jvm.MethodName)) ∈ lw_all := lw_g (lw_at lw_m1 232 rfl) rfl
theorem q334 : (Jvm.Cond.code ({ cls := "AshCity", name := "isCell", desc := "(I)Z" } : Jvm.MethodName) prog_1_method_5_code (2 : Nat) (Option.some Jvm.ClassFile.FieldType.boolean)) ∈ lw_all := lw_g (lw_at lw_m1 233 rfl) rfl
theorem q335 : (Jvm.Cond.classLink "AshCity" (164 : Nat) "AshCity$Rectangle") ∈ lw_all := lw_g (lw_at lw_m1 234 rfl) rfl
theorem q337 : (Jvm.Cond.methodLink "AshCity" (166 : Nat) ({ cls := "AshCity$Rectangle", name := "<init>", desc := "(IIII)V" } : Jvm.MethodName)) ∈ lw_all := lw_g (lw_at lw_m1 236 rfl) rfl
theorem q354 : (Jvm.Cond.methodLink "AshCity" (177 : Nat) ({ cls := "AshCity$Rectangle", name := "meets", desc := "(LAshCity$Rectangle;)Z" } : Jvm.MethodName)) ∈ lw_all := lw_g (lw_at lw_m2 13 rfl) rfl
theorem q359 : (Jvm.Cond.methodLink "AshCity" (181 : Nat) ({ cls := "AshCity$Place", name := "<init>", desc := "(IILAshCity$Rectangle;)V" } : Jvm.MethodName)) ∈ lw_all := lw_g (lw_at lw_m2 18 rfl) rfl
theorem q364 : (Jvm.Cond.fieldLinkNest "AshCity" (356 : Nat) "AshCity$Place" "number" "I" "AshCity") ∈ lw_tbl := lw_at lw_m2 23 rfl
theorem q366 : (Jvm.Cond.fieldLinkNest "AshCity" (316 : Nat) "AshCity$Place" "kind" "I" "AshCity") ∈ lw_tbl := lw_at lw_m2 25 rfl
theorem q368 : (Jvm.Cond.fieldLinkNest "AshCity" (173 : Nat) "AshCity$Place" "where" "LAshCity$Rectangle;" "AshCity") ∈ lw_tbl := lw_at lw_m2 27 rfl
theorem q377 : (Jvm.Cond.instanceMethod ({ cls := "AshCity", name := "placeOf", desc := "(I)I" } : Jvm.MethodName)) ∈ lw_all := lw_g (lw_at lw_m2 36 rfl) rfl
theorem q378 : (Jvm.Cond.selects "AshCity" ({ cls := "AshCity", name := "placeOf", desc := "(I)I" } : Jvm.MethodName) ({ cls := "AshCity", name := "placeOf", desc := "(I)I" } : Jvm.MethodName)) ∈ lw_all := lw_g (lw_at lw_m2 37 rfl) rfl
theorem q379 : (Jvm.Cond.code ({ cls := "AshCity", name := "placeOf", desc := "(I)I" } : Jvm.MethodName) prog_1_method_13_code (3 : Nat) (Option.some Jvm.ClassFile.FieldType.int)) ∈ lw_all := lw_g (lw_at lw_m2 38 rfl) rfl
theorem q380 : (Jvm.Cond.methodLink "AshCity" (184 : Nat) ({ cls := "AshCity$Rectangle", name := "has", desc := "(II)Z" } : Jvm.MethodName)) ∈ lw_all := lw_g (lw_at lw_m2 39 rfl) rfl
theorem q386 : (Jvm.Cond.instanceMethod ({ cls := "AshCity", name := "dig", desc := "(IIIIIIII)I" } : Jvm.MethodName)) ∈ lw_all := lw_g (lw_at lw_m2 45 rfl) rfl
theorem q387 : (Jvm.Cond.selects "AshCity" ({ cls := "AshCity", name := "dig", desc := "(IIIIIIII)I" } : Jvm.MethodName) ({ cls := "AshCity", name := "dig", desc := "(IIIIIIII)I" } : Jvm.MethodName)) ∈ lw_all := lw_g (lw_at lw_m2 46 rfl) rfl
theorem q388 : (Jvm.Cond.code ({ cls := "AshCity", name := "dig", desc := "(IIIIIIII)I" } : Jvm.MethodName) prog_1_method_15_code (12 : Nat) (Option.some Jvm.ClassFile.FieldType.int)) ∈ lw_all := lw_g (lw_at lw_m2 47 rfl) rfl
theorem q389 : (Jvm.Cond.methodLink "AshCity" (187 : Nat) ({ cls := "AshCity", name := "isLayer", desc := "(I)Z" } : Jvm.MethodName)) ∈ lw_all := lw_g (lw_at lw_m2 48 rfl) rfl
theorem q390 : (Jvm.Cond.static ({ cls := "AshCity", name := "isLayer", desc := "(I)Z" } : Jvm.MethodName)) ∈ lw_all := lw_g (lw_at lw_m2 49 rfl) rfl
theorem q391 : (Jvm.Cond.code ({ cls := "AshCity", name := "isLayer", desc := "(I)Z" } : Jvm.MethodName) prog_1_method_7_code (1 : Nat) (Option.some Jvm.ClassFile.FieldType.boolean)) ∈ lw_all := lw_g (lw_at lw_m2 50 rfl) rfl
theorem q392 : (Jvm.Cond.methodLink "AshCity" (190 : Nat) ({ cls := "AshCity", name := "isSpan", desc := "(II)Z" } : Jvm.MethodName)) ∈ lw_all := lw_g (lw_at lw_m2 51 rfl) rfl
theorem q393 : (Jvm.Cond.privateMethod ({ cls := "AshCity", name := "isSpan", desc := "(II)Z" } : Jvm.MethodName)) ∈ lw_tbl := lw_at lw_m2 52 rfl
theorem q394 : (Jvm.Cond.instanceMethod ({ cls := "AshCity", name := "isSpan", desc := "(II)Z" } : Jvm.MethodName)) ∈ lw_all := lw_g (lw_at lw_m2 53 rfl) rfl
theorem q395 : (Jvm.Cond.code ({ cls := "AshCity", name := "isSpan", desc := "(II)Z" } : Jvm.MethodName) prog_1_method_14_code (3 : Nat) (Option.some Jvm.ClassFile.FieldType.boolean)) ∈ lw_all := lw_g (lw_at lw_m2 54 rfl) rfl
theorem q396 : (Jvm.Cond.classLink "AshCity" (193 : Nat) "AshCity$Opening") ∈ lw_all := lw_g (lw_at lw_m2 55 rfl) rfl
theorem q398 : (Jvm.Cond.methodLink "AshCity" (195 : Nat) ({ cls := "AshCity$Opening", name := "<init>", desc := "(IILAshCity$Rectangle;IIII)V" } : Jvm.MethodName)) ∈ lw_all := lw_g (lw_at lw_m2 57 rfl) rfl
theorem q406 : (Jvm.Cond.fieldLinkNest "AshCity" (237 : Nat) "AshCity$Dig" "number" "I" "AshCity") ∈ lw_tbl := lw_at lw_m2 65 rfl
theorem q408 : (Jvm.Cond.fieldLinkNest "AshCity" (337 : Nat) "AshCity$Dig" "hand" "I" "AshCity") ∈ lw_tbl := lw_at lw_m2 67 rfl
theorem q410 : (Jvm.Cond.fieldLinkNest "AshCity" (342 : Nat) "AshCity$Dig" "top" "I" "AshCity") ∈ lw_tbl := lw_at lw_m2 69 rfl
theorem q412 : (Jvm.Cond.fieldLinkNest "AshCity" (349 : Nat) "AshCity$Dig" "bottom" "I" "AshCity") ∈ lw_tbl := lw_at lw_m2 71 rfl
theorem q414 : (Jvm.Cond.fieldLinkNest "AshCity" (217 : Nat) "AshCity$Dig" "from" "I" "AshCity") ∈ lw_tbl := lw_at lw_m2 73 rfl
theorem q416 : (Jvm.Cond.fieldLinkNest "AshCity" (341 : Nat) "AshCity$Dig" "to" "I" "AshCity") ∈ lw_tbl := lw_at lw_m2 75 rfl
theorem q419 : (Jvm.Cond.fieldLinkNest "AshCity" (350 : Nat) "AshCity$Dig" "where" "LAshCity$Rectangle;" "AshCity") ∈ lw_tbl := lw_at lw_m2 78 rfl
theorem q421 : (Jvm.Cond.fieldLinkNest "AshCity" (210 : Nat) "AshCity$Dig" "struck" "I" "AshCity") ∈ lw_tbl := lw_at lw_m2 80 rfl
theorem q441 : (Jvm.Cond.classLink "AshCity" (198 : Nat) "AshCity$Tunnel") ∈ lw_all := lw_g (lw_at lw_m2 100 rfl) rfl
theorem q443 : (Jvm.Cond.methodLink "AshCity" (200 : Nat) ({ cls := "AshCity$Tunnel", name := "<init>", desc := "(IILAshCity$Rectangle;IIIII)V" } : Jvm.MethodName)) ∈ lw_all := lw_g (lw_at lw_m2 102 rfl) rfl
theorem q457 : (Jvm.Cond.classLink "AshCity" (203 : Nat) "AshCity$Refilling") ∈ lw_all := lw_g (lw_at lw_m2 116 rfl) rfl
theorem q459 : (Jvm.Cond.methodLink "AshCity" (205 : Nat) ({ cls := "AshCity$Refilling", name := "<init>", desc := "(IILAshCity$Rectangle;IIIII)V" } : Jvm.MethodName)) ∈ lw_all := lw_g (lw_at lw_m2 118 rfl) rfl
theorem q473 : (Jvm.Cond.methodLink "AshCity" (206 : Nat) ({ cls := "AshCity$Dig", name := "isAhead", desc := "(LAshCity$Dig;)Z" } : Jvm.MethodName)) ∈ lw_all := lw_g (lw_at lw_m2 132 rfl) rfl
theorem q481 : (Jvm.Cond.instanceMethod ({ cls := "AshCity", name := "strike", desc := "(I)Z" } : Jvm.MethodName)) ∈ lw_all := lw_g (lw_at lw_m2 140 rfl) rfl
theorem q482 : (Jvm.Cond.selects "AshCity" ({ cls := "AshCity", name := "strike", desc := "(I)Z" } : Jvm.MethodName) ({ cls := "AshCity", name := "strike", desc := "(I)Z" } : Jvm.MethodName)) ∈ lw_all := lw_g (lw_at lw_m2 141 rfl) rfl
theorem q483 : (Jvm.Cond.code ({ cls := "AshCity", name := "strike", desc := "(I)Z" } : Jvm.MethodName) prog_1_method_16_code (2 : Nat) (Option.some Jvm.ClassFile.FieldType.boolean)) ∈ lw_all := lw_g (lw_at lw_m2 142 rfl) rfl
theorem q485 : (Jvm.Cond.instanceMethod ({ cls := "AshCity", name := "ground", desc := "(IIII)I" } : Jvm.MethodName)) ∈ lw_all := lw_g (lw_at lw_m2 144 rfl) rfl
theorem q486 : (Jvm.Cond.selects "AshCity" ({ cls := "AshCity", name := "ground", desc := "(IIII)I" } : Jvm.MethodName) ({ cls := "AshCity", name := "ground", desc := "(IIII)I" } : Jvm.MethodName)) ∈ lw_all := lw_g (lw_at lw_m2 145 rfl) rfl
theorem q487 : (Jvm.Cond.code ({ cls := "AshCity", name := "ground", desc := "(IIII)I" } : Jvm.MethodName) prog_1_method_19_code (5 : Nat) (Option.some Jvm.ClassFile.FieldType.int)) ∈ lw_all := lw_g (lw_at lw_m2 146 rfl) rfl
theorem q488 : (Jvm.Cond.methodLink "AshCity" (229 : Nat) ({ cls := "AshCity", name := "isGround", desc := "(IIII)Z" } : Jvm.MethodName)) ∈ lw_all := lw_g (lw_at lw_m2 147 rfl) rfl
theorem q489 : (Jvm.Cond.privateMethod ({ cls := "AshCity", name := "isGround", desc := "(IIII)Z" } : Jvm.MethodName)) ∈ lw_tbl := lw_at lw_m2 148 rfl
theorem q490 : (Jvm.Cond.instanceMethod ({ cls := "AshCity", name := "isGround", desc := "(IIII)Z" } : Jvm.MethodName)) ∈ lw_all := lw_g (lw_at lw_m2 149 rfl) rfl
theorem q491 : (Jvm.Cond.code ({ cls := "AshCity", name := "isGround", desc := "(IIII)Z" } : Jvm.MethodName) prog_1_method_18_code (5 : Nat) (Option.some Jvm.ClassFile.FieldType.boolean)) ∈ lw_all := lw_g (lw_at lw_m2 150 rfl) rfl
theorem q492 : (Jvm.Cond.methodLink "AshCity" (233 : Nat) ({ cls := "AshCity", name := "groundOf", desc := "(IIII)I" } : Jvm.MethodName)) ∈ lw_all := lw_g (lw_at lw_m2 151 rfl) rfl
theorem q493 : (Jvm.Cond.privateMethod ({ cls := "AshCity", name := "groundOf", desc := "(IIII)I" } : Jvm.MethodName)) ∈ lw_tbl := lw_at lw_m2 152 rfl
theorem q494 : (Jvm.Cond.instanceMethod ({ cls := "AshCity", name := "groundOf", desc := "(IIII)I" } : Jvm.MethodName)) ∈ lw_all := lw_g (lw_at lw_m2 153 rfl) rfl
theorem q495 : (Jvm.Cond.code ({ cls := "AshCity", name := "groundOf", desc := "(IIII)I" } : Jvm.MethodName) prog_1_method_17_code (8 : Nat) (Option.some Jvm.ClassFile.FieldType.int)) ∈ lw_all := lw_g (lw_at lw_m2 154 rfl) rfl
theorem q496 : (Jvm.Cond.methodLink "AshCity" (220 : Nat) ({ cls := "AshCity$Dig", name := "isKnown", desc := "(I)Z" } : Jvm.MethodName)) ∈ lw_all := lw_g (lw_at lw_m2 155 rfl) rfl
theorem q503 : (Jvm.Cond.methodLink "AshCity" (223 : Nat) ({ cls := "AshCity$Dig", name := "reaches", desc := "(III)Z" } : Jvm.MethodName)) ∈ lw_all := lw_g (lw_at lw_m2 162 rfl) rfl
theorem q512 : (Jvm.Cond.methodLink "AshCity" (226 : Nat) ({ cls := "AshCity$Dig", name := "makes", desc := "(I)I" } : Jvm.MethodName)) ∈ lw_all := lw_g (lw_at lw_m2 171 rfl) rfl
theorem q525 : (Jvm.Cond.instanceMethod ({ cls := "AshCity", name := "first", desc := "(IIII)I" } : Jvm.MethodName)) ∈ lw_all := lw_g (lw_at lw_m2 184 rfl) rfl
theorem q526 : (Jvm.Cond.selects "AshCity" ({ cls := "AshCity", name := "first", desc := "(IIII)I" } : Jvm.MethodName) ({ cls := "AshCity", name := "first", desc := "(IIII)I" } : Jvm.MethodName)) ∈ lw_all := lw_g (lw_at lw_m2 185 rfl) rfl
theorem q527 : (Jvm.Cond.code ({ cls := "AshCity", name := "first", desc := "(IIII)I" } : Jvm.MethodName) prog_1_method_20_code (5 : Nat) (Option.some Jvm.ClassFile.FieldType.int)) ∈ lw_all := lw_g (lw_at lw_m2 186 rfl) rfl
theorem q529 : (Jvm.Cond.instanceMethod ({ cls := "AshCity", name := "means", desc := "(IIIII)Z" } : Jvm.MethodName)) ∈ lw_all := lw_g (lw_at lw_m2 188 rfl) rfl
theorem q530 : (Jvm.Cond.selects "AshCity" ({ cls := "AshCity", name := "means", desc := "(IIIII)Z" } : Jvm.MethodName) ({ cls := "AshCity", name := "means", desc := "(IIIII)Z" } : Jvm.MethodName)) ∈ lw_all := lw_g (lw_at lw_m2 189 rfl) rfl
theorem q531 : (Jvm.Cond.code ({ cls := "AshCity", name := "means", desc := "(IIIII)Z" } : Jvm.MethodName) prog_1_method_21_code (6 : Nat) (Option.some Jvm.ClassFile.FieldType.boolean)) ∈ lw_all := lw_g (lw_at lw_m2 190 rfl) rfl
theorem q532 : (Jvm.Cond.methodLink "AshCity" (240 : Nat) ({ cls := "AshCity", name := "isPlace", desc := "(I)Z" } : Jvm.MethodName)) ∈ lw_all := lw_g (lw_at lw_m2 191 rfl) rfl
theorem q533 : (Jvm.Cond.privateMethod ({ cls := "AshCity", name := "isPlace", desc := "(I)Z" } : Jvm.MethodName)) ∈ lw_tbl := lw_at lw_m2 192 rfl
theorem q534 : (Jvm.Cond.instanceMethod ({ cls := "AshCity", name := "isPlace", desc := "(I)Z" } : Jvm.MethodName)) ∈ lw_all := lw_g (lw_at lw_m2 193 rfl) rfl
theorem q535 : (Jvm.Cond.code ({ cls := "AshCity", name := "isPlace", desc := "(I)Z" } : Jvm.MethodName) prog_1_method_8_code (2 : Nat) (Option.some Jvm.ClassFile.FieldType.boolean)) ∈ lw_all := lw_g (lw_at lw_m2 194 rfl) rfl
theorem q537 : (Jvm.Cond.methodLink "AshCity" (246 : Nat) ({ cls := "AshCity$Meaning", name := "<init>", desc := "(IIIII)V" } : Jvm.MethodName)) ∈ lw_all := lw_g (lw_at lw_m2 196 rfl) rfl
theorem q542 : (Jvm.Cond.fieldLinkNest "AshCity" (249 : Nat) "AshCity$Meaning" "numbering" "I" "AshCity") ∈ lw_tbl := lw_at lw_m2 201 rfl
theorem q544 : (Jvm.Cond.fieldLinkNest "AshCity" (252 : Nat) "AshCity$Meaning" "number" "I" "AshCity") ∈ lw_tbl := lw_at lw_m2 203 rfl
theorem q546 : (Jvm.Cond.fieldLinkNest "AshCity" (257 : Nat) "AshCity$Meaning" "place" "I" "AshCity") ∈ lw_tbl := lw_at lw_m2 205 rfl
theorem q548 : (Jvm.Cond.fieldLinkNest "AshCity" (253 : Nat) "AshCity$Meaning" "from" "I" "AshCity") ∈ lw_tbl := lw_at lw_m2 207 rfl
theorem q550 : (Jvm.Cond.fieldLinkNest "AshCity" (254 : Nat) "AshCity$Meaning" "to" "I" "AshCity") ∈ lw_tbl := lw_at lw_m2 209 rfl
theorem q563 : (Jvm.Cond.instanceMethod ({ cls := "AshCity", name := "meaning", desc := "(III)I" } : Jvm.MethodName)) ∈ lw_all := lw_g (lw_at lw_m2 222 rfl) rfl
theorem q564 : (Jvm.Cond.selects "AshCity" ({ cls := "AshCity", name := "meaning", desc := "(III)I" } : Jvm.MethodName) ({ cls := "AshCity", name := "meaning", desc := "(III)I" } : Jvm.MethodName)) ∈ lw_all := lw_g (lw_at lw_m2 223 rfl) rfl
theorem q565 : (Jvm.Cond.code ({ cls := "AshCity", name := "meaning", desc := "(III)I" } : Jvm.MethodName) prog_1_method_23_code (4 : Nat) (Option.some Jvm.ClassFile.FieldType.int)) ∈ lw_all := lw_g (lw_at lw_m2 224 rfl) rfl
theorem q566 : (Jvm.Cond.methodLink "AshCity" (260 : Nat) ({ cls := "AshCity", name := "meaningOf", desc := "(III)I" } : Jvm.MethodName)) ∈ lw_all := lw_g (lw_at lw_m2 225 rfl) rfl
theorem q567 : (Jvm.Cond.privateMethod ({ cls := "AshCity", name := "meaningOf", desc := "(III)I" } : Jvm.MethodName)) ∈ lw_tbl := lw_at lw_m2 226 rfl
theorem q568 : (Jvm.Cond.instanceMethod ({ cls := "AshCity", name := "meaningOf", desc := "(III)I" } : Jvm.MethodName)) ∈ lw_all := lw_g (lw_at lw_m2 227 rfl) rfl
theorem q569 : (Jvm.Cond.code ({ cls := "AshCity", name := "meaningOf", desc := "(III)I" } : Jvm.MethodName) prog_1_method_22_code (6 : Nat) (Option.some Jvm.ClassFile.FieldType.int)) ∈ lw_all := lw_g (lw_at lw_m2 228 rfl) rfl
theorem q571 : (Jvm.Cond.instanceMethod ({ cls := "AshCity", name := "feed", desc := "(IIIII)I" } : Jvm.MethodName)) ∈ lw_all := lw_g (lw_at lw_m2 230 rfl) rfl
theorem q572 : (Jvm.Cond.selects "AshCity" ({ cls := "AshCity", name := "feed", desc := "(IIIII)I" } : Jvm.MethodName) ({ cls := "AshCity", name := "feed", desc := "(IIIII)I" } : Jvm.MethodName)) ∈ lw_all := lw_g (lw_at lw_m2 231 rfl) rfl
theorem q573 : (Jvm.Cond.code ({ cls := "AshCity", name := "feed", desc := "(IIIII)I" } : Jvm.MethodName) prog_1_method_25_code (6 : Nat) (Option.some Jvm.ClassFile.FieldType.int)) ∈ lw_all := lw_g (lw_at lw_m2 232 rfl) rfl
theorem q574 : (Jvm.Cond.methodLink "AshCity" (267 : Nat) ({ cls := "AshCity", name := "push", desc := "(I)V" } : Jvm.MethodName)) ∈ lw_all := lw_g (lw_at lw_m2 233 rfl) rfl
theorem q575 : (Jvm.Cond.privateMethod ({ cls := "AshCity", name := "push", desc := "(I)V" } : Jvm.MethodName)) ∈ lw_tbl := lw_at lw_m2 234 rfl
theorem q576 : (Jvm.Cond.instanceMethod ({ cls := "AshCity", name := "push", desc := "(I)V" } : Jvm.MethodName)) ∈ lw_all := lw_g (lw_at lw_m2 235 rfl) rfl
theorem q577 : (Jvm.Cond.code ({ cls := "AshCity", name := "push", desc := "(I)V" } : Jvm.MethodName) prog_1_method_24_code (3 : Nat) (Option.none : Option Jvm.ClassFile.FieldType)) ∈ lw_all := lw_g (lw_at lw_m2 236 rfl) rfl
theorem q579 : (Jvm.Cond.instanceMethod ({ cls := "AshCity", name := "rules", desc := "(III)I" } : Jvm.MethodName)) ∈ lw_all := lw_g (lw_at lw_m2 238 rfl) rfl
theorem q580 : (Jvm.Cond.selects "AshCity" ({ cls := "AshCity", name := "rules", desc := "(III)I" } : Jvm.MethodName) ({ cls := "AshCity", name := "rules", desc := "(III)I" } : Jvm.MethodName)) ∈ lw_all := lw_g (lw_at lw_m2 239 rfl) rfl
theorem q581 : (Jvm.Cond.code ({ cls := "AshCity", name := "rules", desc := "(III)I" } : Jvm.MethodName) prog_1_method_26_code (6 : Nat) (Option.some Jvm.ClassFile.FieldType.int)) ∈ lw_all := lw_g (lw_at lw_m3 0 rfl) rfl
theorem q583 : (Jvm.Cond.methodLink "AshCity" (274 : Nat) ({ cls := "AshCity$Rules", name := "<init>", desc := "(II[BI)V" } : Jvm.MethodName)) ∈ lw_all := lw_g (lw_at lw_m3 2 rfl) rfl
theorem q590 : (Jvm.Cond.fieldLinkNest "AshCity" (291 : Nat) "AshCity$Rules" "clauses" "[LAshCity$Clause;" "AshCity") ∈ lw_tbl := lw_at lw_m3 9 rfl
theorem q592 : (Jvm.Cond.fieldLinkNest "AshCity" (281 : Nat) "AshCity$Rules" "isStruck" "[Z" "AshCity") ∈ lw_tbl := lw_at lw_m3 11 rfl
theorem q594 : (Jvm.Cond.fieldLinkNest "AshCity" (288 : Nat) "AshCity$Rules" "many" "I" "AshCity") ∈ lw_tbl := lw_at lw_m3 13 rfl
theorem q624 : (Jvm.Cond.methodLink "AshCity" (277 : Nat) ({ cls := "AshCity$Rules", name := "read", desc := "()I" } : Jvm.MethodName)) ∈ lw_all := lw_g (lw_at lw_m3 43 rfl) rfl
theorem q737 : (Jvm.Cond.fieldLinkNest "AshCity" (295 : Nat) "AshCity$Clause" "letter" "I" "AshCity") ∈ lw_tbl := lw_at lw_m3 156 rfl
theorem q739 : (Jvm.Cond.fieldLinkNest "AshCity" (300 : Nat) "AshCity$Clause" "number" "I" "AshCity") ∈ lw_tbl := lw_at lw_m3 158 rfl
theorem q741 : (Jvm.Cond.fieldLinkNest "AshCity" (301 : Nat) "AshCity$Clause" "other" "I" "AshCity") ∈ lw_tbl := lw_at lw_m3 160 rfl
theorem q885 : (Jvm.Cond.instanceMethod ({ cls := "AshCity", name := "number", desc := "(IIIIII)I" } : Jvm.MethodName)) ∈ lw_all := lw_g (lw_at lw_m4 64 rfl) rfl
theorem q886 : (Jvm.Cond.selects "AshCity" ({ cls := "AshCity", name := "number", desc := "(IIIIII)I" } : Jvm.MethodName) ({ cls := "AshCity", name := "number", desc := "(IIIIII)I" } : Jvm.MethodName)) ∈ lw_all := lw_g (lw_at lw_m4 65 rfl) rfl
theorem q887 : (Jvm.Cond.code ({ cls := "AshCity", name := "number", desc := "(IIIIII)I" } : Jvm.MethodName) prog_1_method_30_code (8 : Nat) (Option.some Jvm.ClassFile.FieldType.int)) ∈ lw_all := lw_g (lw_at lw_m4 66 rfl) rfl
theorem q888 : (Jvm.Cond.classLink "AshCity" (305 : Nat) "AshCity$Asked") ∈ lw_all := lw_g (lw_at lw_m4 67 rfl) rfl
theorem q890 : (Jvm.Cond.methodLink "AshCity" (319 : Nat) ({ cls := "AshCity$Asked", name := "<init>", desc := "(IIIII)V" } : Jvm.MethodName)) ∈ lw_all := lw_g (lw_at lw_m4 69 rfl) rfl
theorem q895 : (Jvm.Cond.fieldLinkNest "AshCity" (304 : Nat) "AshCity$Asked" "week" "I" "AshCity") ∈ lw_tbl := lw_at lw_m4 74 rfl
theorem q915 : (Jvm.Cond.methodLink "AshCity" (320 : Nat) ({ cls := "AshCity", name := "numberOf", desc := "(ILAshCity$Asked;I)I" } : Jvm.MethodName)) ∈ lw_all := lw_g (lw_at lw_m4 94 rfl) rfl
theorem q916 : (Jvm.Cond.privateMethod ({ cls := "AshCity", name := "numberOf", desc := "(ILAshCity$Asked;I)I" } : Jvm.MethodName)) ∈ lw_tbl := lw_at lw_m4 95 rfl
theorem q917 : (Jvm.Cond.instanceMethod ({ cls := "AshCity", name := "numberOf", desc := "(ILAshCity$Asked;I)I" } : Jvm.MethodName)) ∈ lw_all := lw_g (lw_at lw_m4 96 rfl) rfl
theorem q918 : (Jvm.Cond.code ({ cls := "AshCity", name := "numberOf", desc := "(ILAshCity$Asked;I)I" } : Jvm.MethodName) prog_1_method_28_code (7 : Nat) (Option.some Jvm.ClassFile.FieldType.int)) ∈ lw_all := lw_g (lw_at lw_m4 97 rfl) rfl
theorem q919 : (Jvm.Cond.methodLink "AshCity" (309 : Nat) ({ cls := "AshCity", name := "strikes", desc := "(I)V" } : Jvm.MethodName)) ∈ lw_all := lw_g (lw_at lw_m4 98 rfl) rfl
theorem q920 : (Jvm.Cond.privateMethod ({ cls := "AshCity", name := "strikes", desc := "(I)V" } : Jvm.MethodName)) ∈ lw_tbl := lw_at lw_m4 99 rfl
theorem q921 : (Jvm.Cond.instanceMethod ({ cls := "AshCity", name := "strikes", desc := "(I)V" } : Jvm.MethodName)) ∈ lw_all := lw_g (lw_at lw_m4 100 rfl) rfl
theorem q922 : (Jvm.Cond.code ({ cls := "AshCity", name := "strikes", desc := "(I)V" } : Jvm.MethodName) prog_1_method_27_code (6 : Nat) (Option.none : Option Jvm.ClassFile.FieldType)) ∈ lw_all := lw_g (lw_at lw_m4 101 rfl) rfl
theorem q923 : (Jvm.Cond.methodLink "AshCity" (285 : Nat) ({ cls := "AshCity$Rules", name := "isInForce", desc := "(I)Z" } : Jvm.MethodName)) ∈ lw_all := lw_g (lw_at lw_m4 102 rfl) rfl
theorem q928 : (Jvm.Cond.methodLink "AshCity" (312 : Nat) ({ cls := "AshCity$Clause", name := "holds", desc := "(LAshCity$Asked;)Z" } : Jvm.MethodName)) ∈ lw_all := lw_g (lw_at lw_m4 107 rfl) rfl
theorem q966 : (Jvm.Cond.methodLink "AshCity" (324 : Nat) ({ cls := "AshCity", name := "numberings", desc := "(LAshCity$Asked;)I" } : Jvm.MethodName)) ∈ lw_all := lw_g (lw_at lw_m4 145 rfl) rfl
theorem q967 : (Jvm.Cond.privateMethod ({ cls := "AshCity", name := "numberings", desc := "(LAshCity$Asked;)I" } : Jvm.MethodName)) ∈ lw_tbl := lw_at lw_m4 146 rfl
theorem q968 : (Jvm.Cond.instanceMethod ({ cls := "AshCity", name := "numberings", desc := "(LAshCity$Asked;)I" } : Jvm.MethodName)) ∈ lw_all := lw_g (lw_at lw_m4 147 rfl) rfl
theorem q969 : (Jvm.Cond.code ({ cls := "AshCity", name := "numberings", desc := "(LAshCity$Asked;)I" } : Jvm.MethodName) prog_1_method_29_code (6 : Nat) (Option.some Jvm.ClassFile.FieldType.int)) ∈ lw_all := lw_g (lw_at lw_m4 148 rfl) rfl
theorem q971 : (Jvm.Cond.instanceMethod ({ cls := "AshCity", name := "find", desc := "(IIIIIIII)I" } : Jvm.MethodName)) ∈ lw_all := lw_g (lw_at lw_m4 150 rfl) rfl
theorem q972 : (Jvm.Cond.selects "AshCity" ({ cls := "AshCity", name := "find", desc := "(IIIIIIII)I" } : Jvm.MethodName) ({ cls := "AshCity", name := "find", desc := "(IIIIIIII)I" } : Jvm.MethodName)) ∈ lw_all := lw_g (lw_at lw_m4 151 rfl) rfl
theorem q973 : (Jvm.Cond.code ({ cls := "AshCity", name := "find", desc := "(IIIIIIII)I" } : Jvm.MethodName) prog_1_method_31_code (9 : Nat) (Option.some Jvm.ClassFile.FieldType.int)) ∈ lw_all := lw_g (lw_at lw_m4 152 rfl) rfl
theorem q975 : (Jvm.Cond.methodLink "AshCity" (331 : Nat) ({ cls := "AshCity$Find", name := "<init>", desc := "(IIIIIIIII)V" } : Jvm.MethodName)) ∈ lw_all := lw_g (lw_at lw_m4 154 rfl) rfl
theorem q980 : (Jvm.Cond.fieldLinkNest "AshCity" (340 : Nat) "AshCity$Find" "hand" "I" "AshCity") ∈ lw_tbl := lw_at lw_m4 159 rfl
theorem q982 : (Jvm.Cond.fieldLinkNest "AshCity" (357 : Nat) "AshCity$Find" "from" "I" "AshCity") ∈ lw_tbl := lw_at lw_m4 161 rfl
theorem q984 : (Jvm.Cond.fieldLinkNest "AshCity" (358 : Nat) "AshCity$Find" "to" "I" "AshCity") ∈ lw_tbl := lw_at lw_m4 163 rfl
theorem q986 : (Jvm.Cond.fieldLinkNest "AshCity" (351 : Nat) "AshCity$Find" "number" "I" "AshCity") ∈ lw_tbl := lw_at lw_m4 165 rfl
theorem q988 : (Jvm.Cond.fieldLinkNest "AshCity" (348 : Nat) "AshCity$Find" "top" "I" "AshCity") ∈ lw_tbl := lw_at lw_m4 167 rfl
theorem q990 : (Jvm.Cond.fieldLinkNest "AshCity" (345 : Nat) "AshCity$Find" "bottom" "I" "AshCity") ∈ lw_tbl := lw_at lw_m4 169 rfl
theorem q992 : (Jvm.Cond.fieldLinkNest "AshCity" (352 : Nat) "AshCity$Find" "kind" "I" "AshCity") ∈ lw_tbl := lw_at lw_m4 171 rfl
theorem q995 : (Jvm.Cond.fieldLinkNest "AshCity" (353 : Nat) "AshCity$Find" "marks" "I" "AshCity") ∈ lw_tbl := lw_at lw_m4 174 rfl
theorem q997 : (Jvm.Cond.fieldLinkNest "AshCity" (366 : Nat) "AshCity$Find" "told" "I" "AshCity") ∈ lw_tbl := lw_at lw_m4 176 rfl
theorem q1018 : (Jvm.Cond.instanceMethod ({ cls := "AshCity", name := "may", desc := "(II)I" } : Jvm.MethodName)) ∈ lw_all := lw_g (lw_at lw_m4 197 rfl) rfl
theorem q1019 : (Jvm.Cond.selects "AshCity" ({ cls := "AshCity", name := "may", desc := "(II)I" } : Jvm.MethodName) ({ cls := "AshCity", name := "may", desc := "(II)I" } : Jvm.MethodName)) ∈ lw_all := lw_g (lw_at lw_m4 198 rfl) rfl
theorem q1020 : (Jvm.Cond.code ({ cls := "AshCity", name := "may", desc := "(II)I" } : Jvm.MethodName) prog_1_method_35_code (3 : Nat) (Option.some Jvm.ClassFile.FieldType.int)) ∈ lw_all := lw_g (lw_at lw_m4 199 rfl) rfl
theorem q1021 : (Jvm.Cond.methodLink "AshCity" (369 : Nat) ({ cls := "AshCity", name := "mayOf", desc := "(LAshCity$Find;II)I" } : Jvm.MethodName)) ∈ lw_all := lw_g (lw_at lw_m4 200 rfl) rfl
theorem q1022 : (Jvm.Cond.privateMethod ({ cls := "AshCity", name := "mayOf", desc := "(LAshCity$Find;II)I" } : Jvm.MethodName)) ∈ lw_tbl := lw_at lw_m4 201 rfl
theorem q1023 : (Jvm.Cond.instanceMethod ({ cls := "AshCity", name := "mayOf", desc := "(LAshCity$Find;II)I" } : Jvm.MethodName)) ∈ lw_all := lw_g (lw_at lw_m4 202 rfl) rfl
theorem q1024 : (Jvm.Cond.code ({ cls := "AshCity", name := "mayOf", desc := "(LAshCity$Find;II)I" } : Jvm.MethodName) prog_1_method_34_code (8 : Nat) (Option.some Jvm.ClassFile.FieldType.int)) ∈ lw_all := lw_g (lw_at lw_m4 203 rfl) rfl
theorem q1025 : (Jvm.Cond.methodLink "AshCity" (359 : Nat) ({ cls := "AshCity", name := "isOpen", desc := "(LAshCity$Find;LAshCity$Place;II)Z" } : Jvm.MethodName)) ∈ lw_all := lw_g (lw_at lw_m4 204 rfl) rfl
theorem q1026 : (Jvm.Cond.privateMethod ({ cls := "AshCity", name := "isOpen", desc := "(LAshCity$Find;LAshCity$Place;II)Z" } : Jvm.MethodName)) ∈ lw_tbl := lw_at lw_m4 205 rfl
theorem q1027 : (Jvm.Cond.instanceMethod ({ cls := "AshCity", name := "isOpen", desc := "(LAshCity$Find;LAshCity$Place;II)Z" } : Jvm.MethodName)) ∈ lw_all := lw_g (lw_at lw_m4 206 rfl) rfl
theorem q1028 : (Jvm.Cond.code ({ cls := "AshCity", name := "isOpen", desc := "(LAshCity$Find;LAshCity$Place;II)Z" } : Jvm.MethodName) prog_1_method_32_code (7 : Nat) (Option.some Jvm.ClassFile.FieldType.boolean)) ∈ lw_all := lw_g (lw_at lw_m4 207 rfl) rfl
theorem q1029 : (Jvm.Cond.methodLink "AshCity" (334 : Nat) ({ cls := "AshCity$Dig", name := "finds", desc := "()Z" } : Jvm.MethodName)) ∈ lw_all := lw_g (lw_at lw_m4 208 rfl) rfl
theorem q1038 : (Jvm.Cond.methodLink "AshCity" (363 : Nat) ({ cls := "AshCity", name := "isMeant", desc := "(LAshCity$Find;LAshCity$Place;II)Z" } : Jvm.MethodName)) ∈ lw_all := lw_g (lw_at lw_m4 217 rfl) rfl
theorem q1039 : (Jvm.Cond.privateMethod ({ cls := "AshCity", name := "isMeant", desc := "(LAshCity$Find;LAshCity$Place;II)Z" } : Jvm.MethodName)) ∈ lw_tbl := lw_at lw_m4 218 rfl
theorem q1040 : (Jvm.Cond.instanceMethod ({ cls := "AshCity", name := "isMeant", desc := "(LAshCity$Find;LAshCity$Place;II)Z" } : Jvm.MethodName)) ∈ lw_all := lw_g (lw_at lw_m4 219 rfl) rfl
theorem q1041 : (Jvm.Cond.code ({ cls := "AshCity", name := "isMeant", desc := "(LAshCity$Find;LAshCity$Place;II)Z" } : Jvm.MethodName) prog_1_method_33_code (7 : Nat) (Option.some Jvm.ClassFile.FieldType.boolean)) ∈ lw_all := lw_g (lw_at lw_m4 220 rfl) rfl
theorem q1043 : (Jvm.Cond.instanceMethod ({ cls := "AshCity", name := "sure", desc := "(I)I" } : Jvm.MethodName)) ∈ lw_all := lw_g (lw_at lw_m4 222 rfl) rfl
theorem q1044 : (Jvm.Cond.selects "AshCity" ({ cls := "AshCity", name := "sure", desc := "(I)I" } : Jvm.MethodName) ({ cls := "AshCity", name := "sure", desc := "(I)I" } : Jvm.MethodName)) ∈ lw_all := lw_g (lw_at lw_m4 223 rfl) rfl
theorem q1045 : (Jvm.Cond.code ({ cls := "AshCity", name := "sure", desc := "(I)I" } : Jvm.MethodName) prog_1_method_36_code (4 : Nat) (Option.some Jvm.ClassFile.FieldType.int)) ∈ lw_all := lw_g (lw_at lw_m4 224 rfl) rfl
theorem q1046 : (Jvm.Cond.methodLink "AshCity" (373 : Nat) ({ cls := "AshCity", name := "sizeOf", desc := "(I)I" } : Jvm.MethodName)) ∈ lw_all := lw_g (lw_at lw_m4 225 rfl) rfl
theorem q1047 : (Jvm.Cond.static ({ cls := "AshCity", name := "sizeOf", desc := "(I)I" } : Jvm.MethodName)) ∈ lw_all := lw_g (lw_at lw_m4 226 rfl) rfl
theorem q1048 : (Jvm.Cond.code ({ cls := "AshCity", name := "sizeOf", desc := "(I)I" } : Jvm.MethodName) prog_1_method_3_code (1 : Nat) (Option.some Jvm.ClassFile.FieldType.int)) ∈ lw_all := lw_g (lw_at lw_m4 227 rfl) rfl
theorem q1049 : (Jvm.Cond.methodLink "AshCity" (1 : Nat) ({ cls := "java/lang/Integer", name := "bitCount", desc := "(I)I" } : Jvm.MethodName)) ∈ lw_all := lw_g (lw_at lw_m4 228 rfl) rfl
theorem q1056 : (Jvm.Cond.instanceMethod ({ cls := "AshCity", name := "nowhere", desc := "(II)I" } : Jvm.MethodName)) ∈ lw_all := lw_g (lw_at lw_m4 235 rfl) rfl
theorem q1057 : (Jvm.Cond.selects "AshCity" ({ cls := "AshCity", name := "nowhere", desc := "(II)I" } : Jvm.MethodName) ({ cls := "AshCity", name := "nowhere", desc := "(II)I" } : Jvm.MethodName)) ∈ lw_all := lw_g (lw_at lw_m4 236 rfl) rfl
theorem q1058 : (Jvm.Cond.code ({ cls := "AshCity", name := "nowhere", desc := "(II)I" } : Jvm.MethodName) prog_1_method_37_code (5 : Nat) (Option.some Jvm.ClassFile.FieldType.int)) ∈ lw_all := lw_g (lw_at lw_m4 237 rfl) rfl
theorem q1060 : (Jvm.Cond.instanceMethod ({ cls := "AshCity", name := "beside", desc := "(I)I" } : Jvm.MethodName)) ∈ lw_all := lw_g (lw_at lw_m4 239 rfl) rfl
theorem q1061 : (Jvm.Cond.selects "AshCity" ({ cls := "AshCity", name := "beside", desc := "(I)I" } : Jvm.MethodName) ({ cls := "AshCity", name := "beside", desc := "(I)I" } : Jvm.MethodName)) ∈ lw_all := lw_g (lw_at lw_m5 0 rfl) rfl
theorem q1062 : (Jvm.Cond.code ({ cls := "AshCity", name := "beside", desc := "(I)I" } : Jvm.MethodName) prog_1_method_38_code (4 : Nat) (Option.some Jvm.ClassFile.FieldType.int)) ∈ lw_all := lw_g (lw_at lw_m5 1 rfl) rfl
theorem q1064 : (Jvm.Cond.instanceMethod ({ cls := "AshCity", name := "barred", desc := "(I)I" } : Jvm.MethodName)) ∈ lw_all := lw_g (lw_at lw_m5 3 rfl) rfl
theorem q1065 : (Jvm.Cond.selects "AshCity" ({ cls := "AshCity", name := "barred", desc := "(I)I" } : Jvm.MethodName) ({ cls := "AshCity", name := "barred", desc := "(I)I" } : Jvm.MethodName)) ∈ lw_all := lw_g (lw_at lw_m5 4 rfl) rfl
theorem q1066 : (Jvm.Cond.code ({ cls := "AshCity", name := "barred", desc := "(I)I" } : Jvm.MethodName) prog_1_method_39_code (3 : Nat) (Option.some Jvm.ClassFile.FieldType.int)) ∈ lw_all := lw_g (lw_at lw_m5 5 rfl) rfl
theorem q1067 : (Jvm.Cond.methodLink "AshCity" (376 : Nat) ({ cls := "AshCity$Dig", name := "kind", desc := "()I" } : Jvm.MethodName)) ∈ lw_all := lw_g (lw_at lw_m5 6 rfl) rfl
theorem q1080 : (Jvm.Cond.instanceMethod ({ cls := "AshCity", name := "thing", desc := "(III)I" } : Jvm.MethodName)) ∈ lw_all := lw_g (lw_at lw_m5 19 rfl) rfl
theorem q1081 : (Jvm.Cond.selects "AshCity" ({ cls := "AshCity", name := "thing", desc := "(III)I" } : Jvm.MethodName) ({ cls := "AshCity", name := "thing", desc := "(III)I" } : Jvm.MethodName)) ∈ lw_all := lw_g (lw_at lw_m5 20 rfl) rfl
theorem q1082 : (Jvm.Cond.code ({ cls := "AshCity", name := "thing", desc := "(III)I" } : Jvm.MethodName) prog_1_method_40_code (4 : Nat) (Option.some Jvm.ClassFile.FieldType.int)) ∈ lw_all := lw_g (lw_at lw_m5 21 rfl) rfl
theorem q1084 : (Jvm.Cond.methodLink "AshCity" (381 : Nat) ({ cls := "AshCity$Thing", name := "<init>", desc := "(III)V" } : Jvm.MethodName)) ∈ lw_all := lw_g (lw_at lw_m5 23 rfl) rfl
theorem q1089 : (Jvm.Cond.fieldLinkNest "AshCity" (419 : Nat) "AshCity$Thing" "museum" "I" "AshCity") ∈ lw_tbl := lw_at lw_m5 28 rfl
theorem q1091 : (Jvm.Cond.fieldLinkNest "AshCity" (388 : Nat) "AshCity$Thing" "kind" "I" "AshCity") ∈ lw_tbl := lw_at lw_m5 30 rfl
theorem q1093 : (Jvm.Cond.fieldLinkNest "AshCity" (384 : Nat) "AshCity$Thing" "isGone" "Z" "AshCity") ∈ lw_tbl := lw_at lw_m5 32 rfl
theorem q1104 : (Jvm.Cond.instanceMethod ({ cls := "AshCity", name := "gone", desc := "(IZ)Z" } : Jvm.MethodName)) ∈ lw_all := lw_g (lw_at lw_m5 43 rfl) rfl
theorem q1105 : (Jvm.Cond.selects "AshCity" ({ cls := "AshCity", name := "gone", desc := "(IZ)Z" } : Jvm.MethodName) ({ cls := "AshCity", name := "gone", desc := "(IZ)Z" } : Jvm.MethodName)) ∈ lw_all := lw_g (lw_at lw_m5 44 rfl) rfl
theorem q1106 : (Jvm.Cond.code ({ cls := "AshCity", name := "gone", desc := "(IZ)Z" } : Jvm.MethodName) prog_1_method_41_code (3 : Nat) (Option.some Jvm.ClassFile.FieldType.boolean)) ∈ lw_all := lw_g (lw_at lw_m5 45 rfl) rfl
theorem q1108 : (Jvm.Cond.instanceMethod ({ cls := "AshCity", name := "like", desc := "(II)I" } : Jvm.MethodName)) ∈ lw_all := lw_g (lw_at lw_m5 47 rfl) rfl
theorem q1109 : (Jvm.Cond.selects "AshCity" ({ cls := "AshCity", name := "like", desc := "(II)I" } : Jvm.MethodName) ({ cls := "AshCity", name := "like", desc := "(II)I" } : Jvm.MethodName)) ∈ lw_all := lw_g (lw_at lw_m5 48 rfl) rfl
theorem q1110 : (Jvm.Cond.code ({ cls := "AshCity", name := "like", desc := "(II)I" } : Jvm.MethodName) prog_1_method_44_code (3 : Nat) (Option.some Jvm.ClassFile.FieldType.int)) ∈ lw_all := lw_g (lw_at lw_m5 49 rfl) rfl
theorem q1111 : (Jvm.Cond.methodLink "AshCity" (393 : Nat) ({ cls := "AshCity", name := "wanted", desc := "(LAshCity$Find;)I" } : Jvm.MethodName)) ∈ lw_all := lw_g (lw_at lw_m5 50 rfl) rfl
theorem q1112 : (Jvm.Cond.privateMethod ({ cls := "AshCity", name := "wanted", desc := "(LAshCity$Find;)I" } : Jvm.MethodName)) ∈ lw_tbl := lw_at lw_m5 51 rfl
theorem q1113 : (Jvm.Cond.instanceMethod ({ cls := "AshCity", name := "wanted", desc := "(LAshCity$Find;)I" } : Jvm.MethodName)) ∈ lw_all := lw_g (lw_at lw_m5 52 rfl) rfl
theorem q1114 : (Jvm.Cond.code ({ cls := "AshCity", name := "wanted", desc := "(LAshCity$Find;)I" } : Jvm.MethodName) prog_1_method_42_code (2 : Nat) (Option.some Jvm.ClassFile.FieldType.int)) ∈ lw_all := lw_g (lw_at lw_m5 53 rfl) rfl
theorem q1115 : (Jvm.Cond.methodLink "AshCity" (396 : Nat) ({ cls := "AshCity", name := "fits", desc := "(LAshCity$Find;LAshCity$Thing;I)Z" } : Jvm.MethodName)) ∈ lw_all := lw_g (lw_at lw_m5 54 rfl) rfl
theorem q1116 : (Jvm.Cond.static ({ cls := "AshCity", name := "fits", desc := "(LAshCity$Find;LAshCity$Thing;I)Z" } : Jvm.MethodName)) ∈ lw_all := lw_g (lw_at lw_m5 55 rfl) rfl
theorem q1117 : (Jvm.Cond.code ({ cls := "AshCity", name := "fits", desc := "(LAshCity$Find;LAshCity$Thing;I)Z" } : Jvm.MethodName) prog_1_method_43_code (3 : Nat) (Option.some Jvm.ClassFile.FieldType.boolean)) ∈ lw_all := lw_g (lw_at lw_m5 56 rfl) rfl
theorem q1118 : (Jvm.Cond.methodLink "AshCity" (389 : Nat) ({ cls := "AshCity$Thing", name := "agrees", desc := "(LAshCity$Find;)I" } : Jvm.MethodName)) ∈ lw_all := lw_g (lw_at lw_m5 57 rfl) rfl
theorem q1124 : (Jvm.Cond.instanceMethod ({ cls := "AshCity", name := "join", desc := "(I)I" } : Jvm.MethodName)) ∈ lw_all := lw_g (lw_at lw_m5 63 rfl) rfl
theorem q1125 : (Jvm.Cond.selects "AshCity" ({ cls := "AshCity", name := "join", desc := "(I)I" } : Jvm.MethodName) ({ cls := "AshCity", name := "join", desc := "(I)I" } : Jvm.MethodName)) ∈ lw_all := lw_g (lw_at lw_m5 64 rfl) rfl
theorem q1126 : (Jvm.Cond.code ({ cls := "AshCity", name := "join", desc := "(I)I" } : Jvm.MethodName) prog_1_method_47_code (9 : Nat) (Option.some Jvm.ClassFile.FieldType.int)) ∈ lw_all := lw_g (lw_at lw_m5 65 rfl) rfl
theorem q1127 : (Jvm.Cond.methodLink "AshCity" (409 : Nat) ({ cls := "AshCity", name := "asks", desc := "(I)Z" } : Jvm.MethodName)) ∈ lw_all := lw_g (lw_at lw_m5 66 rfl) rfl
theorem q1128 : (Jvm.Cond.privateMethod ({ cls := "AshCity", name := "asks", desc := "(I)Z" } : Jvm.MethodName)) ∈ lw_tbl := lw_at lw_m5 67 rfl
theorem q1129 : (Jvm.Cond.instanceMethod ({ cls := "AshCity", name := "asks", desc := "(I)Z" } : Jvm.MethodName)) ∈ lw_all := lw_g (lw_at lw_m5 68 rfl) rfl
theorem q1130 : (Jvm.Cond.code ({ cls := "AshCity", name := "asks", desc := "(I)Z" } : Jvm.MethodName) prog_1_method_45_code (4 : Nat) (Option.some Jvm.ClassFile.FieldType.boolean)) ∈ lw_all := lw_g (lw_at lw_m5 69 rfl) rfl
theorem q1131 : (Jvm.Cond.methodLink "AshCity" (412 : Nat) ({ cls := "AshCity", name := "most", desc := "(IJ)I" } : Jvm.MethodName)) ∈ lw_all := lw_g (lw_at lw_m5 70 rfl) rfl
theorem q1132 : (Jvm.Cond.privateMethod ({ cls := "AshCity", name := "most", desc := "(IJ)I" } : Jvm.MethodName)) ∈ lw_tbl := lw_at lw_m5 71 rfl
theorem q1133 : (Jvm.Cond.instanceMethod ({ cls := "AshCity", name := "most", desc := "(IJ)I" } : Jvm.MethodName)) ∈ lw_all := lw_g (lw_at lw_m5 72 rfl) rfl
theorem q1134 : (Jvm.Cond.code ({ cls := "AshCity", name := "most", desc := "(IJ)I" } : Jvm.MethodName) prog_1_method_46_code (7 : Nat) (Option.some Jvm.ClassFile.FieldType.int)) ∈ lw_all := lw_g (lw_at lw_m5 73 rfl) rfl
theorem q1135 : (Jvm.Cond.methodLink "AshCity" (403 : Nat) ({ cls := "java/lang/Math", name := "max", desc := "(II)I" } : Jvm.MethodName)) ∈ lw_all := lw_g (lw_at lw_m5 74 rfl) rfl
theorem q1137 : (Jvm.Cond.instanceMethod ({ cls := "AshCity", name := "joined", desc := "(I)I" } : Jvm.MethodName)) ∈ lw_all := lw_g (lw_at lw_m5 76 rfl) rfl
theorem q1138 : (Jvm.Cond.selects "AshCity" ({ cls := "AshCity", name := "joined", desc := "(I)I" } : Jvm.MethodName) ({ cls := "AshCity", name := "joined", desc := "(I)I" } : Jvm.MethodName)) ∈ lw_all := lw_g (lw_at lw_m5 77 rfl) rfl
theorem q1139 : (Jvm.Cond.code ({ cls := "AshCity", name := "joined", desc := "(I)I" } : Jvm.MethodName) prog_1_method_48_code (2 : Nat) (Option.some Jvm.ClassFile.FieldType.int)) ∈ lw_all := lw_g (lw_at lw_m5 78 rfl) rfl
theorem q1141 : (Jvm.Cond.instanceMethod ({ cls := "AshCity", name := "lost", desc := "(II)I" } : Jvm.MethodName)) ∈ lw_all := lw_g (lw_at lw_m5 80 rfl) rfl
theorem q1142 : (Jvm.Cond.selects "AshCity" ({ cls := "AshCity", name := "lost", desc := "(II)I" } : Jvm.MethodName) ({ cls := "AshCity", name := "lost", desc := "(II)I" } : Jvm.MethodName)) ∈ lw_all := lw_g (lw_at lw_m5 81 rfl) rfl
theorem q1143 : (Jvm.Cond.code ({ cls := "AshCity", name := "lost", desc := "(II)I" } : Jvm.MethodName) prog_1_method_51_code (8 : Nat) (Option.some Jvm.ClassFile.FieldType.int)) ∈ lw_all := lw_g (lw_at lw_m5 82 rfl) rfl
theorem q1144 : (Jvm.Cond.methodLink "AshCity" (422 : Nat) ({ cls := "AshCity", name := "isLost", desc := "(LAshCity$Find;)Z" } : Jvm.MethodName)) ∈ lw_all := lw_g (lw_at lw_m5 83 rfl) rfl
theorem q1145 : (Jvm.Cond.privateMethod ({ cls := "AshCity", name := "isLost", desc := "(LAshCity$Find;)Z" } : Jvm.MethodName)) ∈ lw_tbl := lw_at lw_m5 84 rfl
theorem q1146 : (Jvm.Cond.instanceMethod ({ cls := "AshCity", name := "isLost", desc := "(LAshCity$Find;)Z" } : Jvm.MethodName)) ∈ lw_all := lw_g (lw_at lw_m5 85 rfl) rfl
theorem q1147 : (Jvm.Cond.code ({ cls := "AshCity", name := "isLost", desc := "(LAshCity$Find;)Z" } : Jvm.MethodName) prog_1_method_49_code (4 : Nat) (Option.some Jvm.ClassFile.FieldType.boolean)) ∈ lw_all := lw_g (lw_at lw_m5 86 rfl) rfl
theorem q1148 : (Jvm.Cond.methodLink "AshCity" (426 : Nat) ({ cls := "AshCity", name := "wouldBe", desc := "(LAshCity$Find;I)Z" } : Jvm.MethodName)) ∈ lw_all := lw_g (lw_at lw_m5 87 rfl) rfl
theorem q1149 : (Jvm.Cond.privateMethod ({ cls := "AshCity", name := "wouldBe", desc := "(LAshCity$Find;I)Z" } : Jvm.MethodName)) ∈ lw_tbl := lw_at lw_m5 88 rfl
theorem q1150 : (Jvm.Cond.instanceMethod ({ cls := "AshCity", name := "wouldBe", desc := "(LAshCity$Find;I)Z" } : Jvm.MethodName)) ∈ lw_all := lw_g (lw_at lw_m5 89 rfl) rfl
theorem q1151 : (Jvm.Cond.code ({ cls := "AshCity", name := "wouldBe", desc := "(LAshCity$Find;I)Z" } : Jvm.MethodName) prog_1_method_50_code (5 : Nat) (Option.some Jvm.ClassFile.FieldType.boolean)) ∈ lw_all := lw_g (lw_at lw_m5 90 rfl) rfl
theorem q1153 : (Jvm.Cond.instanceMethod ({ cls := "AshCity", name := "wall", desc := "(II)I" } : Jvm.MethodName)) ∈ lw_all := lw_g (lw_at lw_m5 92 rfl) rfl
theorem q1154 : (Jvm.Cond.selects "AshCity" ({ cls := "AshCity", name := "wall", desc := "(II)I" } : Jvm.MethodName) ({ cls := "AshCity", name := "wall", desc := "(II)I" } : Jvm.MethodName)) ∈ lw_all := lw_g (lw_at lw_m5 93 rfl) rfl
theorem q1155 : (Jvm.Cond.code ({ cls := "AshCity", name := "wall", desc := "(II)I" } : Jvm.MethodName) prog_1_method_52_code (3 : Nat) (Option.some Jvm.ClassFile.FieldType.int)) ∈ lw_all := lw_g (lw_at lw_m5 94 rfl) rfl
theorem q1157 : (Jvm.Cond.methodLink "AshCity" (433 : Nat) ({ cls := "AshCity$Wall", name := "<init>", desc := "(II)V" } : Jvm.MethodName)) ∈ lw_all := lw_g (lw_at lw_m5 96 rfl) rfl
theorem q1163 : (Jvm.Cond.fieldLinkNest "AshCity" (491 : Nat) "AshCity$Wall" "worth" "I" "AshCity") ∈ lw_tbl := lw_at lw_m5 102 rfl
theorem q1170 : (Jvm.Cond.instanceMethod ({ cls := "AshCity", name := "draw", desc := "(III)I" } : Jvm.MethodName)) ∈ lw_all := lw_g (lw_at lw_m5 109 rfl) rfl
theorem q1171 : (Jvm.Cond.selects "AshCity" ({ cls := "AshCity", name := "draw", desc := "(III)I" } : Jvm.MethodName) ({ cls := "AshCity", name := "draw", desc := "(III)I" } : Jvm.MethodName)) ∈ lw_all := lw_g (lw_at lw_m5 110 rfl) rfl
theorem q1172 : (Jvm.Cond.code ({ cls := "AshCity", name := "draw", desc := "(III)I" } : Jvm.MethodName) prog_1_method_54_code (4 : Nat) (Option.some Jvm.ClassFile.FieldType.int)) ∈ lw_all := lw_g (lw_at lw_m5 111 rfl) rfl
theorem q1173 : (Jvm.Cond.methodLink "AshCity" (442 : Nat) ({ cls := "AshCity", name := "draws", desc := "(IIIZ)I" } : Jvm.MethodName)) ∈ lw_all := lw_g (lw_at lw_m5 112 rfl) rfl
theorem q1174 : (Jvm.Cond.privateMethod ({ cls := "AshCity", name := "draws", desc := "(IIIZ)I" } : Jvm.MethodName)) ∈ lw_tbl := lw_at lw_m5 113 rfl
theorem q1175 : (Jvm.Cond.instanceMethod ({ cls := "AshCity", name := "draws", desc := "(IIIZ)I" } : Jvm.MethodName)) ∈ lw_all := lw_g (lw_at lw_m5 114 rfl) rfl
theorem q1176 : (Jvm.Cond.code ({ cls := "AshCity", name := "draws", desc := "(IIIZ)I" } : Jvm.MethodName) prog_1_method_53_code (5 : Nat) (Option.some Jvm.ClassFile.FieldType.int)) ∈ lw_all := lw_g (lw_at lw_m5 115 rfl) rfl
theorem q1178 : (Jvm.Cond.methodLink "AshCity" (439 : Nat) ({ cls := "AshCity$Drawing", name := "<init>", desc := "(IIIIZI)V" } : Jvm.MethodName)) ∈ lw_all := lw_g (lw_at lw_m5 117 rfl) rfl
theorem q1183 : (Jvm.Cond.fieldLinkNest "AshCity" (460 : Nat) "AshCity$Drawing" "number" "I" "AshCity") ∈ lw_tbl := lw_at lw_m5 122 rfl
theorem q1185 : (Jvm.Cond.fieldLinkNest "AshCity" (446 : Nat) "AshCity$Drawing" "wall" "I" "AshCity") ∈ lw_tbl := lw_at lw_m5 124 rfl
theorem q1187 : (Jvm.Cond.fieldLinkNest "AshCity" (456 : Nat) "AshCity$Drawing" "week" "I" "AshCity") ∈ lw_tbl := lw_at lw_m5 126 rfl
theorem q1189 : (Jvm.Cond.fieldLinkNest "AshCity" (449 : Nat) "AshCity$Drawing" "features" "I" "AshCity") ∈ lw_tbl := lw_at lw_m5 128 rfl
theorem q1191 : (Jvm.Cond.fieldLinkNest "AshCity" (455 : Nat) "AshCity$Drawing" "told" "I" "AshCity") ∈ lw_tbl := lw_at lw_m5 130 rfl
theorem q1193 : (Jvm.Cond.fieldLinkNest "AshCity" (452 : Nat) "AshCity$Drawing" "isCopy" "Z" "AshCity") ∈ lw_tbl := lw_at lw_m5 132 rfl
theorem q1208 : (Jvm.Cond.instanceMethod ({ cls := "AshCity", name := "copy", desc := "(II)I" } : Jvm.MethodName)) ∈ lw_all := lw_g (lw_at lw_m5 147 rfl) rfl
theorem q1209 : (Jvm.Cond.selects "AshCity" ({ cls := "AshCity", name := "copy", desc := "(II)I" } : Jvm.MethodName) ({ cls := "AshCity", name := "copy", desc := "(II)I" } : Jvm.MethodName)) ∈ lw_all := lw_g (lw_at lw_m5 148 rfl) rfl
theorem q1210 : (Jvm.Cond.code ({ cls := "AshCity", name := "copy", desc := "(II)I" } : Jvm.MethodName) prog_1_method_55_code (3 : Nat) (Option.some Jvm.ClassFile.FieldType.int)) ∈ lw_all := lw_g (lw_at lw_m5 149 rfl) rfl
theorem q1212 : (Jvm.Cond.instanceMethod ({ cls := "AshCity", name := "stood", desc := "(IIII)I" } : Jvm.MethodName)) ∈ lw_all := lw_g (lw_at lw_m5 151 rfl) rfl
theorem q1213 : (Jvm.Cond.selects "AshCity" ({ cls := "AshCity", name := "stood", desc := "(IIII)I" } : Jvm.MethodName) ({ cls := "AshCity", name := "stood", desc := "(IIII)I" } : Jvm.MethodName)) ∈ lw_all := lw_g (lw_at lw_m5 152 rfl) rfl
theorem q1214 : (Jvm.Cond.code ({ cls := "AshCity", name := "stood", desc := "(IIII)I" } : Jvm.MethodName) prog_1_method_56_code (11 : Nat) (Option.some Jvm.ClassFile.FieldType.int)) ∈ lw_all := lw_g (lw_at lw_m5 153 rfl) rfl
theorem q1215 : (Jvm.Cond.methodLink "AshCity" (457 : Nat) ({ cls := "AshCity$Drawing", name := "shows", desc := "(I)Z" } : Jvm.MethodName)) ∈ lw_all := lw_g (lw_at lw_m5 154 rfl) rfl
theorem q1220 : (Jvm.Cond.instanceMethod ({ cls := "AshCity", name := "ash", desc := "(III)Z" } : Jvm.MethodName)) ∈ lw_all := lw_g (lw_at lw_m5 159 rfl) rfl
theorem q1221 : (Jvm.Cond.selects "AshCity" ({ cls := "AshCity", name := "ash", desc := "(III)Z" } : Jvm.MethodName) ({ cls := "AshCity", name := "ash", desc := "(III)Z" } : Jvm.MethodName)) ∈ lw_all := lw_g (lw_at lw_m5 160 rfl) rfl
theorem q1222 : (Jvm.Cond.code ({ cls := "AshCity", name := "ash", desc := "(III)Z" } : Jvm.MethodName) prog_1_method_57_code (4 : Nat) (Option.some Jvm.ClassFile.FieldType.boolean)) ∈ lw_all := lw_g (lw_at lw_m5 161 rfl) rfl
theorem q1224 : (Jvm.Cond.instanceMethod ({ cls := "AshCity", name := "above", desc := "(II)Z" } : Jvm.MethodName)) ∈ lw_all := lw_g (lw_at lw_m5 163 rfl) rfl
theorem q1225 : (Jvm.Cond.selects "AshCity" ({ cls := "AshCity", name := "above", desc := "(II)Z" } : Jvm.MethodName) ({ cls := "AshCity", name := "above", desc := "(II)Z" } : Jvm.MethodName)) ∈ lw_all := lw_g (lw_at lw_m5 164 rfl) rfl
theorem q1226 : (Jvm.Cond.code ({ cls := "AshCity", name := "above", desc := "(II)Z" } : Jvm.MethodName) prog_1_method_58_code (3 : Nat) (Option.some Jvm.ClassFile.FieldType.boolean)) ∈ lw_all := lw_g (lw_at lw_m5 165 rfl) rfl
theorem q1228 : (Jvm.Cond.instanceMethod ({ cls := "AshCity", name := "hour", desc := "(II)I" } : Jvm.MethodName)) ∈ lw_all := lw_g (lw_at lw_m5 167 rfl) rfl
theorem q1229 : (Jvm.Cond.selects "AshCity" ({ cls := "AshCity", name := "hour", desc := "(II)I" } : Jvm.MethodName) ({ cls := "AshCity", name := "hour", desc := "(II)I" } : Jvm.MethodName)) ∈ lw_all := lw_g (lw_at lw_m5 168 rfl) rfl
theorem q1230 : (Jvm.Cond.code ({ cls := "AshCity", name := "hour", desc := "(II)I" } : Jvm.MethodName) prog_1_method_60_code (3 : Nat) (Option.some Jvm.ClassFile.FieldType.int)) ∈ lw_all := lw_g (lw_at lw_m5 169 rfl) rfl
theorem q1231 : (Jvm.Cond.methodLink "AshCity" (464 : Nat) ({ cls := "AshCity", name := "settles", desc := "()Z" } : Jvm.MethodName)) ∈ lw_all := lw_g (lw_at lw_m5 170 rfl) rfl
theorem q1232 : (Jvm.Cond.privateMethod ({ cls := "AshCity", name := "settles", desc := "()Z" } : Jvm.MethodName)) ∈ lw_tbl := lw_at lw_m5 171 rfl
theorem q1233 : (Jvm.Cond.instanceMethod ({ cls := "AshCity", name := "settles", desc := "()Z" } : Jvm.MethodName)) ∈ lw_all := lw_g (lw_at lw_m5 172 rfl) rfl
theorem q1234 : (Jvm.Cond.code ({ cls := "AshCity", name := "settles", desc := "()Z" } : Jvm.MethodName) prog_1_method_59_code (5 : Nat) (Option.some Jvm.ClassFile.FieldType.boolean)) ∈ lw_all := lw_g (lw_at lw_m5 173 rfl) rfl
theorem q1236 : (Jvm.Cond.instanceMethod ({ cls := "AshCity", name := "height", desc := "(II)Z" } : Jvm.MethodName)) ∈ lw_all := lw_g (lw_at lw_m5 175 rfl) rfl
theorem q1237 : (Jvm.Cond.selects "AshCity" ({ cls := "AshCity", name := "height", desc := "(II)Z" } : Jvm.MethodName) ({ cls := "AshCity", name := "height", desc := "(II)Z" } : Jvm.MethodName)) ∈ lw_all := lw_g (lw_at lw_m5 176 rfl) rfl
theorem q1238 : (Jvm.Cond.code ({ cls := "AshCity", name := "height", desc := "(II)Z" } : Jvm.MethodName) prog_1_method_61_code (3 : Nat) (Option.some Jvm.ClassFile.FieldType.boolean)) ∈ lw_all := lw_g (lw_at lw_m5 177 rfl) rfl
theorem q1240 : (Jvm.Cond.instanceMethod ({ cls := "AshCity", name := "hollow", desc := "(II)I" } : Jvm.MethodName)) ∈ lw_all := lw_g (lw_at lw_m5 179 rfl) rfl
theorem q1241 : (Jvm.Cond.selects "AshCity" ({ cls := "AshCity", name := "hollow", desc := "(II)I" } : Jvm.MethodName) ({ cls := "AshCity", name := "hollow", desc := "(II)I" } : Jvm.MethodName)) ∈ lw_all := lw_g (lw_at lw_m5 180 rfl) rfl
theorem q1242 : (Jvm.Cond.code ({ cls := "AshCity", name := "hollow", desc := "(II)I" } : Jvm.MethodName) prog_1_method_62_code (3 : Nat) (Option.some Jvm.ClassFile.FieldType.int)) ∈ lw_all := lw_g (lw_at lw_m5 181 rfl) rfl
theorem q1244 : (Jvm.Cond.instanceMethod ({ cls := "AshCity", name := "way", desc := "(I)I" } : Jvm.MethodName)) ∈ lw_all := lw_g (lw_at lw_m5 183 rfl) rfl
theorem q1245 : (Jvm.Cond.selects "AshCity" ({ cls := "AshCity", name := "way", desc := "(I)I" } : Jvm.MethodName) ({ cls := "AshCity", name := "way", desc := "(I)I" } : Jvm.MethodName)) ∈ lw_all := lw_g (lw_at lw_m5 184 rfl) rfl
theorem q1246 : (Jvm.Cond.code ({ cls := "AshCity", name := "way", desc := "(I)I" } : Jvm.MethodName) prog_1_method_65_code (9 : Nat) (Option.some Jvm.ClassFile.FieldType.int)) ∈ lw_all := lw_g (lw_at lw_m5 185 rfl) rfl
theorem q1247 : (Jvm.Cond.methodLink "AshCity" (467 : Nat) ({ cls := "AshCity", name := "laidBy", desc := "(I)I" } : Jvm.MethodName)) ∈ lw_all := lw_g (lw_at lw_m5 186 rfl) rfl
theorem q1248 : (Jvm.Cond.privateMethod ({ cls := "AshCity", name := "laidBy", desc := "(I)I" } : Jvm.MethodName)) ∈ lw_tbl := lw_at lw_m5 187 rfl
theorem q1249 : (Jvm.Cond.instanceMethod ({ cls := "AshCity", name := "laidBy", desc := "(I)I" } : Jvm.MethodName)) ∈ lw_all := lw_g (lw_at lw_m5 188 rfl) rfl
theorem q1250 : (Jvm.Cond.code ({ cls := "AshCity", name := "laidBy", desc := "(I)I" } : Jvm.MethodName) prog_1_method_63_code (4 : Nat) (Option.some Jvm.ClassFile.FieldType.int)) ∈ lw_all := lw_g (lw_at lw_m5 189 rfl) rfl
theorem q1251 : (Jvm.Cond.methodLink "AshCity" (470 : Nat) ({ cls := "AshCity", name := "isBorder", desc := "(I)Z" } : Jvm.MethodName)) ∈ lw_all := lw_g (lw_at lw_m5 190 rfl) rfl
theorem q1252 : (Jvm.Cond.privateMethod ({ cls := "AshCity", name := "isBorder", desc := "(I)Z" } : Jvm.MethodName)) ∈ lw_tbl := lw_at lw_m5 191 rfl
theorem q1253 : (Jvm.Cond.instanceMethod ({ cls := "AshCity", name := "isBorder", desc := "(I)Z" } : Jvm.MethodName)) ∈ lw_all := lw_g (lw_at lw_m5 192 rfl) rfl
theorem q1254 : (Jvm.Cond.code ({ cls := "AshCity", name := "isBorder", desc := "(I)Z" } : Jvm.MethodName) prog_1_method_64_code (2 : Nat) (Option.some Jvm.ClassFile.FieldType.boolean)) ∈ lw_all := lw_g (lw_at lw_m5 193 rfl) rfl
theorem q1256 : (Jvm.Cond.instanceMethod ({ cls := "AshCity", name := "sign", desc := "(IIII)Z" } : Jvm.MethodName)) ∈ lw_all := lw_g (lw_at lw_m5 195 rfl) rfl
theorem q1257 : (Jvm.Cond.selects "AshCity" ({ cls := "AshCity", name := "sign", desc := "(IIII)Z" } : Jvm.MethodName) ({ cls := "AshCity", name := "sign", desc := "(IIII)Z" } : Jvm.MethodName)) ∈ lw_all := lw_g (lw_at lw_m5 196 rfl) rfl
theorem q1258 : (Jvm.Cond.code ({ cls := "AshCity", name := "sign", desc := "(IIII)Z" } : Jvm.MethodName) prog_1_method_66_code (5 : Nat) (Option.some Jvm.ClassFile.FieldType.boolean)) ∈ lw_all := lw_g (lw_at lw_m5 197 rfl) rfl
theorem q1260 : (Jvm.Cond.methodLink "AshCity" (476 : Nat) ({ cls := "AshCity$Sign", name := "<init>", desc := "(IIII)V" } : Jvm.MethodName)) ∈ lw_all := lw_g (lw_at lw_m5 199 rfl) rfl
theorem q1265 : (Jvm.Cond.fieldLinkNest "AshCity" (478 : Nat) "AshCity$Sign" "name" "I" "AshCity") ∈ lw_tbl := lw_at lw_m5 204 rfl
theorem q1267 : (Jvm.Cond.fieldLinkNest "AshCity" (482 : Nat) "AshCity$Sign" "kind" "I" "AshCity") ∈ lw_tbl := lw_at lw_m5 206 rfl
theorem q1269 : (Jvm.Cond.fieldLinkNest "AshCity" (477 : Nat) "AshCity$Sign" "place" "I" "AshCity") ∈ lw_tbl := lw_at lw_m5 208 rfl
theorem q1271 : (Jvm.Cond.fieldLinkNest "AshCity" (481 : Nat) "AshCity$Sign" "week" "I" "AshCity") ∈ lw_tbl := lw_at lw_m5 210 rfl
theorem q1282 : (Jvm.Cond.instanceMethod ({ cls := "AshCity", name := "who", desc := "(II)I" } : Jvm.MethodName)) ∈ lw_all := lw_g (lw_at lw_m5 221 rfl) rfl
theorem q1283 : (Jvm.Cond.selects "AshCity" ({ cls := "AshCity", name := "who", desc := "(II)I" } : Jvm.MethodName) ({ cls := "AshCity", name := "who", desc := "(II)I" } : Jvm.MethodName)) ∈ lw_all := lw_g (lw_at lw_m5 222 rfl) rfl
theorem q1284 : (Jvm.Cond.code ({ cls := "AshCity", name := "who", desc := "(II)I" } : Jvm.MethodName) prog_1_method_67_code (8 : Nat) (Option.some Jvm.ClassFile.FieldType.int)) ∈ lw_all := lw_g (lw_at lw_m5 223 rfl) rfl
theorem q1286 : (Jvm.Cond.instanceMethod ({ cls := "AshCity", name := "work", desc := "(III)I" } : Jvm.MethodName)) ∈ lw_all := lw_g (lw_at lw_m5 225 rfl) rfl
theorem q1287 : (Jvm.Cond.selects "AshCity" ({ cls := "AshCity", name := "work", desc := "(III)I" } : Jvm.MethodName) ({ cls := "AshCity", name := "work", desc := "(III)I" } : Jvm.MethodName)) ∈ lw_all := lw_g (lw_at lw_m5 226 rfl) rfl
theorem q1288 : (Jvm.Cond.code ({ cls := "AshCity", name := "work", desc := "(III)I" } : Jvm.MethodName) prog_1_method_68_code (4 : Nat) (Option.some Jvm.ClassFile.FieldType.int)) ∈ lw_all := lw_g (lw_at lw_m5 227 rfl) rfl
theorem q1290 : (Jvm.Cond.methodLink "AshCity" (486 : Nat) ({ cls := "AshCity$Work", name := "<init>", desc := "(III)V" } : Jvm.MethodName)) ∈ lw_all := lw_g (lw_at lw_m5 229 rfl) rfl
theorem q1295 : (Jvm.Cond.fieldLinkNest "AshCity" (490 : Nat) "AshCity$Work" "wall" "I" "AshCity") ∈ lw_tbl := lw_at lw_m5 234 rfl
theorem q1297 : (Jvm.Cond.fieldLinkNest "AshCity" (487 : Nat) "AshCity$Work" "cost" "I" "AshCity") ∈ lw_tbl := lw_at lw_m5 236 rfl
theorem q1299 : (Jvm.Cond.fieldLinkNest "AshCity" (494 : Nat) "AshCity$Work" "hundredths" "I" "AshCity") ∈ lw_tbl := lw_at lw_m5 238 rfl
theorem q1308 : (Jvm.Cond.instanceMethod ({ cls := "AshCity", name := "best", desc := "(I)I" } : Jvm.MethodName)) ∈ lw_all := lw_g (lw_at lw_m6 7 rfl) rfl
theorem q1309 : (Jvm.Cond.selects "AshCity" ({ cls := "AshCity", name := "best", desc := "(I)I" } : Jvm.MethodName) ({ cls := "AshCity", name := "best", desc := "(I)I" } : Jvm.MethodName)) ∈ lw_all := lw_g (lw_at lw_m6 8 rfl) rfl
theorem q1310 : (Jvm.Cond.code ({ cls := "AshCity", name := "best", desc := "(I)I" } : Jvm.MethodName) prog_1_method_72_code (5 : Nat) (Option.some Jvm.ClassFile.FieldType.int)) ∈ lw_all := lw_g (lw_at lw_m6 9 rfl) rfl
theorem q1311 : (Jvm.Cond.constant "AshCity" (503 : Nat) (100001 : Int32)) ∈ lw_all := lw_g (lw_at lw_m6 10 rfl) rfl
theorem q1312 : (Jvm.Cond.methodLink "AshCity" (504 : Nat) ({ cls := "AshCity", name := "costOf", desc := "(I)I" } : Jvm.MethodName)) ∈ lw_all := lw_g (lw_at lw_m6 11 rfl) rfl
theorem q1313 : (Jvm.Cond.privateMethod ({ cls := "AshCity", name := "costOf", desc := "(I)I" } : Jvm.MethodName)) ∈ lw_tbl := lw_at lw_m6 12 rfl
theorem q1314 : (Jvm.Cond.instanceMethod ({ cls := "AshCity", name := "costOf", desc := "(I)I" } : Jvm.MethodName)) ∈ lw_all := lw_g (lw_at lw_m6 13 rfl) rfl
theorem q1315 : (Jvm.Cond.code ({ cls := "AshCity", name := "costOf", desc := "(I)I" } : Jvm.MethodName) prog_1_method_69_code (4 : Nat) (Option.some Jvm.ClassFile.FieldType.int)) ∈ lw_all := lw_g (lw_at lw_m6 14 rfl) rfl
theorem q1316 : (Jvm.Cond.methodLink "AshCity" (507 : Nat) ({ cls := "AshCity", name := "savedBy", desc := "(I)I" } : Jvm.MethodName)) ∈ lw_all := lw_g (lw_at lw_m6 15 rfl) rfl
theorem q1317 : (Jvm.Cond.privateMethod ({ cls := "AshCity", name := "savedBy", desc := "(I)I" } : Jvm.MethodName)) ∈ lw_tbl := lw_at lw_m6 16 rfl
theorem q1318 : (Jvm.Cond.instanceMethod ({ cls := "AshCity", name := "savedBy", desc := "(I)I" } : Jvm.MethodName)) ∈ lw_all := lw_g (lw_at lw_m6 17 rfl) rfl
theorem q1319 : (Jvm.Cond.code ({ cls := "AshCity", name := "savedBy", desc := "(I)I" } : Jvm.MethodName) prog_1_method_71_code (4 : Nat) (Option.some Jvm.ClassFile.FieldType.int)) ∈ lw_all := lw_g (lw_at lw_m6 18 rfl) rfl
theorem q1320 : (Jvm.Cond.methodLink "AshCity" (500 : Nat) ({ cls := "AshCity", name := "savedOn", desc := "(II)I" } : Jvm.MethodName)) ∈ lw_all := lw_g (lw_at lw_m6 19 rfl) rfl
theorem q1321 : (Jvm.Cond.privateMethod ({ cls := "AshCity", name := "savedOn", desc := "(II)I" } : Jvm.MethodName)) ∈ lw_tbl := lw_at lw_m6 20 rfl
theorem q1322 : (Jvm.Cond.instanceMethod ({ cls := "AshCity", name := "savedOn", desc := "(II)I" } : Jvm.MethodName)) ∈ lw_all := lw_g (lw_at lw_m6 21 rfl) rfl
theorem q1323 : (Jvm.Cond.code ({ cls := "AshCity", name := "savedOn", desc := "(II)I" } : Jvm.MethodName) prog_1_method_70_code (5 : Nat) (Option.some Jvm.ClassFile.FieldType.int)) ∈ lw_all := lw_g (lw_at lw_m6 22 rfl) rfl
theorem q1324 : (Jvm.Cond.methodLink "AshCity" (497 : Nat) ({ cls := "java/lang/Math", name := "min", desc := "(II)I" } : Jvm.MethodName)) ∈ lw_all := lw_g (lw_at lw_m6 23 rfl) rfl
theorem q1326 : (Jvm.Cond.instanceMethod ({ cls := "AshCity", name := "saves", desc := "(I)I" } : Jvm.MethodName)) ∈ lw_all := lw_g (lw_at lw_m6 25 rfl) rfl
theorem q1327 : (Jvm.Cond.selects "AshCity" ({ cls := "AshCity", name := "saves", desc := "(I)I" } : Jvm.MethodName) ({ cls := "AshCity", name := "saves", desc := "(I)I" } : Jvm.MethodName)) ∈ lw_all := lw_g (lw_at lw_m6 26 rfl) rfl
theorem q1328 : (Jvm.Cond.code ({ cls := "AshCity", name := "saves", desc := "(I)I" } : Jvm.MethodName) prog_1_method_73_code (2 : Nat) (Option.some Jvm.ClassFile.FieldType.int)) ∈ lw_all := lw_g (lw_at lw_m6 27 rfl) rfl
theorem q1330 : (Jvm.Cond.instanceMethod ({ cls := "AshCity", name := "check", desc := "(I)I" } : Jvm.MethodName)) ∈ lw_all := lw_g (lw_at lw_m6 29 rfl) rfl
theorem q1331 : (Jvm.Cond.selects "AshCity" ({ cls := "AshCity", name := "check", desc := "(I)I" } : Jvm.MethodName) ({ cls := "AshCity", name := "check", desc := "(I)I" } : Jvm.MethodName)) ∈ lw_all := lw_g (lw_at lw_m6 30 rfl) rfl
theorem q1332 : (Jvm.Cond.code ({ cls := "AshCity", name := "check", desc := "(I)I" } : Jvm.MethodName) prog_1_method_75_code (6 : Nat) (Option.some Jvm.ClassFile.FieldType.int)) ∈ lw_all := lw_g (lw_at lw_m6 31 rfl) rfl
theorem q1333 : (Jvm.Cond.methodLink "AshCity" (510 : Nat) ({ cls := "AshCity", name := "numberAt", desc := "(I)I" } : Jvm.MethodName)) ∈ lw_all := lw_g (lw_at lw_m6 32 rfl) rfl
theorem q1334 : (Jvm.Cond.privateMethod ({ cls := "AshCity", name := "numberAt", desc := "(I)I" } : Jvm.MethodName)) ∈ lw_tbl := lw_at lw_m6 33 rfl
theorem q1335 : (Jvm.Cond.instanceMethod ({ cls := "AshCity", name := "numberAt", desc := "(I)I" } : Jvm.MethodName)) ∈ lw_all := lw_g (lw_at lw_m6 34 rfl) rfl
theorem q1336 : (Jvm.Cond.code ({ cls := "AshCity", name := "numberAt", desc := "(I)I" } : Jvm.MethodName) prog_1_method_74_code (4 : Nat) (Option.some Jvm.ClassFile.FieldType.int)) ∈ lw_all := lw_g (lw_at lw_m6 35 rfl) rfl
theorem q1338 : (Jvm.Cond.instanceMethod ({ cls := "AshCity", name := "count", desc := "(I)I" } : Jvm.MethodName)) ∈ lw_all := lw_g (lw_at lw_m6 37 rfl) rfl
theorem q1339 : (Jvm.Cond.selects "AshCity" ({ cls := "AshCity", name := "count", desc := "(I)I" } : Jvm.MethodName) ({ cls := "AshCity", name := "count", desc := "(I)I" } : Jvm.MethodName)) ∈ lw_all := lw_g (lw_at lw_m6 38 rfl) rfl
theorem q1340 : (Jvm.Cond.code ({ cls := "AshCity", name := "count", desc := "(I)I" } : Jvm.MethodName) prog_1_method_76_code (2 : Nat) (Option.some Jvm.ClassFile.FieldType.int)) ∈ lw_all := lw_g (lw_at lw_m6 39 rfl) rfl
theorem q103 : (Jvm.Cond.initialized "AshCityModel") ∈ lw_all := lw_g (lw_at lw_m1 2 rfl) rfl
theorem q1342 : (Jvm.Cond.instantiable "AshCityModel" (111 : Nat)) ∈ lw_all := lw_g (lw_at lw_m6 41 rfl) rfl
theorem q1344 : (Jvm.Cond.instanceMethod ({ cls := "AshCityModel", name := "<init>", desc := "()V" } : Jvm.MethodName)) ∈ lw_all := lw_g (lw_at lw_m6 43 rfl) rfl
theorem q1345 : (Jvm.Cond.code ({ cls := "AshCityModel", name := "<init>", desc := "()V" } : Jvm.MethodName) prog_27_method_1_code (2 : Nat) (Option.none : Option Jvm.ClassFile.FieldType)) ∈ lw_all := lw_g (lw_at lw_m6 44 rfl) rfl
theorem q1346 : (Jvm.Cond.methodLink "AshCityModel" (1 : Nat) ({ cls := "java/lang/Object", name := "<init>", desc := "()V" } : Jvm.MethodName)) ∈ lw_all := lw_g (lw_at lw_m6 45 rfl) rfl
theorem q1347 : (Jvm.Cond.methodLink "AshCityModel" (268 : Nat) ({ cls := "AshCityModel", name := "begins", desc := "(II)V" } : Jvm.MethodName)) ∈ lw_all := lw_g (lw_at lw_m6 46 rfl) rfl
theorem q1348 : (Jvm.Cond.privateMethod ({ cls := "AshCityModel", name := "begins", desc := "(II)V" } : Jvm.MethodName)) ∈ lw_tbl := lw_at lw_m6 47 rfl
theorem q1349 : (Jvm.Cond.instanceMethod ({ cls := "AshCityModel", name := "begins", desc := "(II)V" } : Jvm.MethodName)) ∈ lw_all := lw_g (lw_at lw_m6 48 rfl) rfl
theorem q1350 : (Jvm.Cond.code ({ cls := "AshCityModel", name := "begins", desc := "(II)V" } : Jvm.MethodName) prog_27_method_4_code (4 : Nat) (Option.none : Option Jvm.ClassFile.FieldType)) ∈ lw_all := lw_g (lw_at lw_m6 49 rfl) rfl
theorem q1351 : (Jvm.Cond.fieldLink "AshCityModel" (272 : Nat) "AshCityModel" "wide" "I") ∈ lw_all := lw_g (lw_at lw_m6 50 rfl) rfl
theorem q1352 : (Jvm.Cond.fieldLink "AshCityModel" (275 : Nat) "AshCityModel" "high" "I") ∈ lw_all := lw_g (lw_at lw_m6 51 rfl) rfl
theorem q1353 : (Jvm.Cond.fieldLink "AshCityModel" (291 : Nat) "AshCityModel" "now" "I") ∈ lw_all := lw_g (lw_at lw_m6 52 rfl) rfl
theorem q1354 : (Jvm.Cond.fieldLink "AshCityModel" (282 : Nat) "AshCityModel" "places" "I") ∈ lw_all := lw_g (lw_at lw_m6 53 rfl) rfl
theorem q1355 : (Jvm.Cond.fieldLink "AshCityModel" (285 : Nat) "AshCityModel" "digs" "I") ∈ lw_all := lw_g (lw_at lw_m6 54 rfl) rfl
theorem q1356 : (Jvm.Cond.fieldLink "AshCityModel" (7 : Nat) "AshCityModel" "heightOf" "[I") ∈ lw_all := lw_g (lw_at lw_m6 55 rfl) rfl
theorem q1357 : (Jvm.Cond.fieldLink "AshCityModel" (13 : Nat) "AshCityModel" "placeAt" "[I") ∈ lw_all := lw_g (lw_at lw_m6 56 rfl) rfl
theorem q1358 : (Jvm.Cond.fieldLink "AshCityModel" (16 : Nat) "AshCityModel" "placeKind" "[I") ∈ lw_all := lw_g (lw_at lw_m6 57 rfl) rfl
theorem q1359 : (Jvm.Cond.fieldLink "AshCityModel" (19 : Nat) "AshCityModel" "placeA" "[I") ∈ lw_all := lw_g (lw_at lw_m6 58 rfl) rfl
theorem q1360 : (Jvm.Cond.fieldLink "AshCityModel" (22 : Nat) "AshCityModel" "placeB" "[I") ∈ lw_all := lw_g (lw_at lw_m6 59 rfl) rfl
theorem q1361 : (Jvm.Cond.fieldLink "AshCityModel" (25 : Nat) "AshCityModel" "digHand" "[I") ∈ lw_all := lw_g (lw_at lw_m6 60 rfl) rfl
theorem q1362 : (Jvm.Cond.fieldLink "AshCityModel" (28 : Nat) "AshCityModel" "digKind" "[I") ∈ lw_all := lw_g (lw_at lw_m6 61 rfl) rfl
theorem q1363 : (Jvm.Cond.fieldLink "AshCityModel" (31 : Nat) "AshCityModel" "digA" "[I") ∈ lw_all := lw_g (lw_at lw_m6 62 rfl) rfl
theorem q1364 : (Jvm.Cond.fieldLink "AshCityModel" (34 : Nat) "AshCityModel" "digB" "[I") ∈ lw_all := lw_g (lw_at lw_m6 63 rfl) rfl
theorem q1365 : (Jvm.Cond.fieldLink "AshCityModel" (37 : Nat) "AshCityModel" "digTop" "[I") ∈ lw_all := lw_g (lw_at lw_m6 64 rfl) rfl
theorem q1366 : (Jvm.Cond.fieldLink "AshCityModel" (40 : Nat) "AshCityModel" "digBottom" "[I") ∈ lw_all := lw_g (lw_at lw_m6 65 rfl) rfl
theorem q1367 : (Jvm.Cond.fieldLink "AshCityModel" (43 : Nat) "AshCityModel" "digFrom" "[I") ∈ lw_all := lw_g (lw_at lw_m6 66 rfl) rfl
theorem q1368 : (Jvm.Cond.fieldLink "AshCityModel" (46 : Nat) "AshCityModel" "digTo" "[I") ∈ lw_all := lw_g (lw_at lw_m6 67 rfl) rfl
theorem q1369 : (Jvm.Cond.fieldLink "AshCityModel" (49 : Nat) "AshCityModel" "digTold" "[I") ∈ lw_all := lw_g (lw_at lw_m6 68 rfl) rfl
theorem q1370 : (Jvm.Cond.fieldLink "AshCityModel" (52 : Nat) "AshCityModel" "digStruck" "[I") ∈ lw_all := lw_g (lw_at lw_m6 69 rfl) rfl
theorem q1371 : (Jvm.Cond.fieldLink "AshCityModel" (311 : Nat) "AshCityModel" "firstDig" "I") ∈ lw_all := lw_g (lw_at lw_m6 70 rfl) rfl
theorem q1372 : (Jvm.Cond.fieldLink "AshCityModel" (334 : Nat) "AshCityModel" "meanings" "I") ∈ lw_all := lw_g (lw_at lw_m6 71 rfl) rfl
theorem q1373 : (Jvm.Cond.fieldLink "AshCityModel" (55 : Nat) "AshCityModel" "meansBy" "[I") ∈ lw_all := lw_g (lw_at lw_m6 72 rfl) rfl
theorem q1374 : (Jvm.Cond.fieldLink "AshCityModel" (58 : Nat) "AshCityModel" "meansNumber" "[I") ∈ lw_all := lw_g (lw_at lw_m6 73 rfl) rfl
theorem q1375 : (Jvm.Cond.fieldLink "AshCityModel" (61 : Nat) "AshCityModel" "meansPlace" "[I") ∈ lw_all := lw_g (lw_at lw_m6 74 rfl) rfl
theorem q1376 : (Jvm.Cond.fieldLink "AshCityModel" (64 : Nat) "AshCityModel" "meansFrom" "[I") ∈ lw_all := lw_g (lw_at lw_m6 75 rfl) rfl
theorem q1377 : (Jvm.Cond.fieldLink "AshCityModel" (67 : Nat) "AshCityModel" "meansTo" "[I") ∈ lw_all := lw_g (lw_at lw_m6 76 rfl) rfl
theorem q1378 : (Jvm.Cond.fieldLink "AshCityModel" (70 : Nat) "AshCityModel" "tape" "[B") ∈ lw_all := lw_g (lw_at lw_m6 77 rfl) rfl
theorem q1379 : (Jvm.Cond.fieldLink "AshCityModel" (341 : Nat) "AshCityModel" "taped" "I") ∈ lw_all := lw_g (lw_at lw_m6 78 rfl) rfl
theorem q1380 : (Jvm.Cond.fieldLink "AshCityModel" (348 : Nat) "AshCityModel" "place0" "I") ∈ lw_all := lw_g (lw_at lw_m6 79 rfl) rfl
theorem q1381 : (Jvm.Cond.fieldLink "AshCityModel" (351 : Nat) "AshCityModel" "length0" "I") ∈ lw_all := lw_g (lw_at lw_m6 80 rfl) rfl
theorem q1382 : (Jvm.Cond.fieldLink "AshCityModel" (358 : Nat) "AshCityModel" "fault" "I") ∈ lw_all := lw_g (lw_at lw_m6 81 rfl) rfl
theorem q1383 : (Jvm.Cond.fieldLink "AshCityModel" (364 : Nat) "AshCityModel" "number0" "I") ∈ lw_all := lw_g (lw_at lw_m6 82 rfl) rfl
theorem q1384 : (Jvm.Cond.fieldLink "AshCityModel" (375 : Nat) "AshCityModel" "open" "I") ∈ lw_all := lw_g (lw_at lw_m6 83 rfl) rfl
theorem q1385 : (Jvm.Cond.fieldLink "AshCityModel" (371 : Nat) "AshCityModel" "codeMany" "I") ∈ lw_all := lw_g (lw_at lw_m6 84 rfl) rfl
theorem q1386 : (Jvm.Cond.fieldLink "AshCityModel" (378 : Nat) "AshCityModel" "waiting" "I") ∈ lw_all := lw_g (lw_at lw_m6 85 rfl) rfl
theorem q1387 : (Jvm.Cond.fieldLink "AshCityModel" (429 : Nat) "AshCityModel" "saidClauses" "I") ∈ lw_all := lw_g (lw_at lw_m6 86 rfl) rfl
theorem q1388 : (Jvm.Cond.fieldLink "AshCityModel" (74 : Nat) "AshCityModel" "said" "[I") ∈ lw_all := lw_g (lw_at lw_m6 87 rfl) rfl
theorem q1389 : (Jvm.Cond.fieldLink "AshCityModel" (77 : Nat) "AshCityModel" "waits" "[I") ∈ lw_all := lw_g (lw_at lw_m6 88 rfl) rfl
theorem q1390 : (Jvm.Cond.fieldLink "AshCityModel" (80 : Nat) "AshCityModel" "saidLetter" "[I") ∈ lw_all := lw_g (lw_at lw_m6 89 rfl) rfl
theorem q1391 : (Jvm.Cond.fieldLink "AshCityModel" (83 : Nat) "AshCityModel" "saidFrom" "[I") ∈ lw_all := lw_g (lw_at lw_m6 90 rfl) rfl
theorem q1392 : (Jvm.Cond.fieldLink "AshCityModel" (86 : Nat) "AshCityModel" "saidTo" "[I") ∈ lw_all := lw_g (lw_at lw_m6 91 rfl) rfl
theorem q1393 : (Jvm.Cond.fieldLink "AshCityModel" (89 : Nat) "AshCityModel" "saidN" "[I") ∈ lw_all := lw_g (lw_at lw_m6 92 rfl) rfl
theorem q1394 : (Jvm.Cond.fieldLink "AshCityModel" (92 : Nat) "AshCityModel" "saidJ" "[I") ∈ lw_all := lw_g (lw_at lw_m6 93 rfl) rfl
theorem q1395 : (Jvm.Cond.fieldLink "AshCityModel" (441 : Nat) "AshCityModel" "ruleMany0" "I") ∈ lw_all := lw_g (lw_at lw_m6 94 rfl) rfl
theorem q1396 : (Jvm.Cond.fieldLink "AshCityModel" (95 : Nat) "AshCityModel" "codes" "[I") ∈ lw_all := lw_g (lw_at lw_m6 95 rfl) rfl
theorem q1397 : (Jvm.Cond.fieldLink "AshCityModel" (98 : Nat) "AshCityModel" "ruleFrom" "[I") ∈ lw_all := lw_g (lw_at lw_m6 96 rfl) rfl
theorem q1398 : (Jvm.Cond.fieldLink "AshCityModel" (101 : Nat) "AshCityModel" "ruleTo" "[I") ∈ lw_all := lw_g (lw_at lw_m6 97 rfl) rfl
theorem q1399 : (Jvm.Cond.fieldLink "AshCityModel" (104 : Nat) "AshCityModel" "clauseMany" "[I") ∈ lw_all := lw_g (lw_at lw_m6 98 rfl) rfl
theorem q1400 : (Jvm.Cond.fieldLink "AshCityModel" (107 : Nat) "AshCityModel" "letterOf" "[I") ∈ lw_all := lw_g (lw_at lw_m6 99 rfl) rfl
theorem q1401 : (Jvm.Cond.fieldLink "AshCityModel" (110 : Nat) "AshCityModel" "codeFrom" "[I") ∈ lw_all := lw_g (lw_at lw_m6 100 rfl) rfl
theorem q1402 : (Jvm.Cond.fieldLink "AshCityModel" (113 : Nat) "AshCityModel" "codeTo" "[I") ∈ lw_all := lw_g (lw_at lw_m6 101 rfl) rfl
theorem q1403 : (Jvm.Cond.fieldLink "AshCityModel" (116 : Nat) "AshCityModel" "nOf" "[I") ∈ lw_all := lw_g (lw_at lw_m6 102 rfl) rfl
theorem q1404 : (Jvm.Cond.fieldLink "AshCityModel" (119 : Nat) "AshCityModel" "jOf" "[I") ∈ lw_all := lw_g (lw_at lw_m6 103 rfl) rfl
theorem q1405 : (Jvm.Cond.fieldLink "AshCityModel" (122 : Nat) "AshCityModel" "isStruck" "[Z") ∈ lw_all := lw_g (lw_at lw_m6 104 rfl) rfl
theorem q1406 : (Jvm.Cond.fieldLink "AshCityModel" (126 : Nat) "AshCityModel" "stack" "[I") ∈ lw_all := lw_g (lw_at lw_m6 105 rfl) rfl
theorem q1407 : (Jvm.Cond.fieldLink "AshCityModel" (129 : Nat) "AshCityModel" "facts" "[I") ∈ lw_all := lw_g (lw_at lw_m6 106 rfl) rfl
theorem q1408 : (Jvm.Cond.fieldLink "AshCityModel" (470 : Nat) "AshCityModel" "finds" "I") ∈ lw_all := lw_g (lw_at lw_m6 107 rfl) rfl
theorem q1409 : (Jvm.Cond.fieldLink "AshCityModel" (132 : Nat) "AshCityModel" "asHand" "I") ∈ lw_all := lw_g (lw_at lw_m6 108 rfl) rfl
theorem q1410 : (Jvm.Cond.fieldLink "AshCityModel" (136 : Nat) "AshCityModel" "findHand" "[I") ∈ lw_all := lw_g (lw_at lw_m6 109 rfl) rfl
theorem q1411 : (Jvm.Cond.fieldLink "AshCityModel" (139 : Nat) "AshCityModel" "findFrom" "[I") ∈ lw_all := lw_g (lw_at lw_m6 110 rfl) rfl
theorem q1412 : (Jvm.Cond.fieldLink "AshCityModel" (142 : Nat) "AshCityModel" "findTo" "[I") ∈ lw_all := lw_g (lw_at lw_m6 111 rfl) rfl
theorem q1413 : (Jvm.Cond.fieldLink "AshCityModel" (145 : Nat) "AshCityModel" "findNumber" "[I") ∈ lw_all := lw_g (lw_at lw_m6 112 rfl) rfl
theorem q1414 : (Jvm.Cond.fieldLink "AshCityModel" (148 : Nat) "AshCityModel" "findTop" "[I") ∈ lw_all := lw_g (lw_at lw_m6 113 rfl) rfl
theorem q1415 : (Jvm.Cond.fieldLink "AshCityModel" (151 : Nat) "AshCityModel" "findBottom" "[I") ∈ lw_all := lw_g (lw_at lw_m6 114 rfl) rfl
theorem q1416 : (Jvm.Cond.fieldLink "AshCityModel" (154 : Nat) "AshCityModel" "findKind" "[I") ∈ lw_all := lw_g (lw_at lw_m6 115 rfl) rfl
theorem q1417 : (Jvm.Cond.fieldLink "AshCityModel" (157 : Nat) "AshCityModel" "findMarks" "[I") ∈ lw_all := lw_g (lw_at lw_m6 116 rfl) rfl
theorem q1418 : (Jvm.Cond.fieldLink "AshCityModel" (160 : Nat) "AshCityModel" "findTold" "[I") ∈ lw_all := lw_g (lw_at lw_m6 117 rfl) rfl
theorem q1419 : (Jvm.Cond.fieldLink "AshCityModel" (491 : Nat) "AshCityModel" "things" "I") ∈ lw_all := lw_g (lw_at lw_m6 118 rfl) rfl
theorem q1420 : (Jvm.Cond.fieldLink "AshCityModel" (512 : Nat) "AshCityModel" "joinMany" "I") ∈ lw_all := lw_g (lw_at lw_m6 119 rfl) rfl
theorem q1421 : (Jvm.Cond.fieldLink "AshCityModel" (163 : Nat) "AshCityModel" "museumOf" "[I") ∈ lw_all := lw_g (lw_at lw_m6 120 rfl) rfl
theorem q1422 : (Jvm.Cond.fieldLink "AshCityModel" (166 : Nat) "AshCityModel" "thingKind" "[I") ∈ lw_all := lw_g (lw_at lw_m6 121 rfl) rfl
theorem q1423 : (Jvm.Cond.fieldLink "AshCityModel" (169 : Nat) "AshCityModel" "thingMarks" "[I") ∈ lw_all := lw_g (lw_at lw_m6 122 rfl) rfl
theorem q1424 : (Jvm.Cond.fieldLink "AshCityModel" (172 : Nat) "AshCityModel" "told" "[I") ∈ lw_all := lw_g (lw_at lw_m6 123 rfl) rfl
theorem q1425 : (Jvm.Cond.fieldLink "AshCityModel" (175 : Nat) "AshCityModel" "rowOf" "[I") ∈ lw_all := lw_g (lw_at lw_m6 124 rfl) rfl
theorem q1426 : (Jvm.Cond.fieldLink "AshCityModel" (178 : Nat) "AshCityModel" "mostBy" "[I") ∈ lw_all := lw_g (lw_at lw_m6 125 rfl) rfl
theorem q1427 : (Jvm.Cond.fieldLink "AshCityModel" (181 : Nat) "AshCityModel" "isGone" "[Z") ∈ lw_all := lw_g (lw_at lw_m6 126 rfl) rfl
theorem q1428 : (Jvm.Cond.fieldLink "AshCityModel" (184 : Nat) "AshCityModel" "isUsed" "[Z") ∈ lw_all := lw_g (lw_at lw_m6 127 rfl) rfl
theorem q1429 : (Jvm.Cond.fieldLink "AshCityModel" (187 : Nat) "AshCityModel" "agree" "[I") ∈ lw_all := lw_g (lw_at lw_m6 128 rfl) rfl
theorem q1430 : (Jvm.Cond.fieldLink "AshCityModel" (521 : Nat) "AshCityModel" "walls" "I") ∈ lw_all := lw_g (lw_at lw_m6 129 rfl) rfl
theorem q1431 : (Jvm.Cond.fieldLink "AshCityModel" (524 : Nat) "AshCityModel" "drawings" "I") ∈ lw_all := lw_g (lw_at lw_m6 130 rfl) rfl
theorem q1432 : (Jvm.Cond.fieldLink "AshCityModel" (190 : Nat) "AshCityModel" "wallPlace" "[I") ∈ lw_all := lw_g (lw_at lw_m6 131 rfl) rfl
theorem q1433 : (Jvm.Cond.fieldLink "AshCityModel" (193 : Nat) "AshCityModel" "wallWorth" "[I") ∈ lw_all := lw_g (lw_at lw_m6 132 rfl) rfl
theorem q1434 : (Jvm.Cond.fieldLink "AshCityModel" (196 : Nat) "AshCityModel" "drawWall" "[I") ∈ lw_all := lw_g (lw_at lw_m6 133 rfl) rfl
theorem q1435 : (Jvm.Cond.fieldLink "AshCityModel" (199 : Nat) "AshCityModel" "drawWeek" "[I") ∈ lw_all := lw_g (lw_at lw_m6 134 rfl) rfl
theorem q1436 : (Jvm.Cond.fieldLink "AshCityModel" (202 : Nat) "AshCityModel" "drawFeatures" "[I") ∈ lw_all := lw_g (lw_at lw_m6 135 rfl) rfl
theorem q1437 : (Jvm.Cond.fieldLink "AshCityModel" (205 : Nat) "AshCityModel" "drawTold" "[I") ∈ lw_all := lw_g (lw_at lw_m6 136 rfl) rfl
theorem q1438 : (Jvm.Cond.fieldLink "AshCityModel" (208 : Nat) "AshCityModel" "lookOf" "[I") ∈ lw_all := lw_g (lw_at lw_m6 137 rfl) rfl
theorem q1439 : (Jvm.Cond.fieldLink "AshCityModel" (211 : Nat) "AshCityModel" "isCopy" "[Z") ∈ lw_all := lw_g (lw_at lw_m6 138 rfl) rfl
theorem q1440 : (Jvm.Cond.fieldLink "AshCityModel" (540 : Nat) "AshCityModel" "cuts" "I") ∈ lw_all := lw_g (lw_at lw_m6 139 rfl) rfl
theorem q1441 : (Jvm.Cond.fieldLink "AshCityModel" (288 : Nat) "AshCityModel" "hollows" "I") ∈ lw_all := lw_g (lw_at lw_m6 140 rfl) rfl
theorem q1442 : (Jvm.Cond.fieldLink "AshCityModel" (214 : Nat) "AshCityModel" "hourFrom" "[I") ∈ lw_all := lw_g (lw_at lw_m6 141 rfl) rfl
theorem q1443 : (Jvm.Cond.fieldLink "AshCityModel" (217 : Nat) "AshCityModel" "hourTo" "[I") ∈ lw_all := lw_g (lw_at lw_m6 142 rfl) rfl
theorem q1444 : (Jvm.Cond.fieldLink "AshCityModel" (220 : Nat) "AshCityModel" "cutA" "[I") ∈ lw_all := lw_g (lw_at lw_m6 143 rfl) rfl
theorem q1445 : (Jvm.Cond.fieldLink "AshCityModel" (223 : Nat) "AshCityModel" "cutB" "[I") ∈ lw_all := lw_g (lw_at lw_m6 144 rfl) rfl
theorem q1446 : (Jvm.Cond.fieldLink "AshCityModel" (226 : Nat) "AshCityModel" "early" "[I") ∈ lw_all := lw_g (lw_at lw_m6 145 rfl) rfl
theorem q1447 : (Jvm.Cond.fieldLink "AshCityModel" (229 : Nat) "AshCityModel" "late" "[I") ∈ lw_all := lw_g (lw_at lw_m6 146 rfl) rfl
theorem q1448 : (Jvm.Cond.fieldLink "AshCityModel" (232 : Nat) "AshCityModel" "hollowCell" "[I") ∈ lw_all := lw_g (lw_at lw_m6 147 rfl) rfl
theorem q1449 : (Jvm.Cond.fieldLink "AshCityModel" (235 : Nat) "AshCityModel" "hollowLayer" "[I") ∈ lw_all := lw_g (lw_at lw_m6 148 rfl) rfl
theorem q1450 : (Jvm.Cond.fieldLink "AshCityModel" (238 : Nat) "AshCityModel" "steps" "[I") ∈ lw_all := lw_g (lw_at lw_m6 149 rfl) rfl
theorem q1451 : (Jvm.Cond.fieldLink "AshCityModel" (552 : Nat) "AshCityModel" "signs" "I") ∈ lw_all := lw_g (lw_at lw_m6 150 rfl) rfl
theorem q1452 : (Jvm.Cond.fieldLink "AshCityModel" (555 : Nat) "AshCityModel" "works" "I") ∈ lw_all := lw_g (lw_at lw_m6 151 rfl) rfl
theorem q1453 : (Jvm.Cond.fieldLink "AshCityModel" (241 : Nat) "AshCityModel" "signName" "[I") ∈ lw_all := lw_g (lw_at lw_m6 152 rfl) rfl
theorem q1454 : (Jvm.Cond.fieldLink "AshCityModel" (244 : Nat) "AshCityModel" "signKind" "[I") ∈ lw_all := lw_g (lw_at lw_m6 153 rfl) rfl
theorem q1455 : (Jvm.Cond.fieldLink "AshCityModel" (247 : Nat) "AshCityModel" "signPlace" "[I") ∈ lw_all := lw_g (lw_at lw_m6 154 rfl) rfl
theorem q1456 : (Jvm.Cond.fieldLink "AshCityModel" (250 : Nat) "AshCityModel" "signWeek" "[I") ∈ lw_all := lw_g (lw_at lw_m6 155 rfl) rfl
theorem q1457 : (Jvm.Cond.fieldLink "AshCityModel" (253 : Nat) "AshCityModel" "workWall" "[I") ∈ lw_all := lw_g (lw_at lw_m6 156 rfl) rfl
theorem q1458 : (Jvm.Cond.fieldLink "AshCityModel" (256 : Nat) "AshCityModel" "workCost" "[I") ∈ lw_all := lw_g (lw_at lw_m6 157 rfl) rfl
theorem q1459 : (Jvm.Cond.fieldLink "AshCityModel" (259 : Nat) "AshCityModel" "workPart" "[I") ∈ lw_all := lw_g (lw_at lw_m6 158 rfl) rfl
theorem q1460 : (Jvm.Cond.fieldLink "AshCityModel" (262 : Nat) "AshCityModel" "nameMany" "[I") ∈ lw_all := lw_g (lw_at lw_m6 159 rfl) rfl
theorem q1461 : (Jvm.Cond.fieldLink "AshCityModel" (265 : Nat) "AshCityModel" "nameWorth" "[I") ∈ lw_all := lw_g (lw_at lw_m6 160 rfl) rfl
theorem q1462 : (Jvm.Cond.lays "AshCityModel" "AshCityModel" "wide" "I") ∈ lw_all := lw_g (lw_at lw_m6 161 rfl) rfl
theorem q1463 : (Jvm.Cond.soleField "AshCityModel" "wide") ∈ lw_all := lw_g (lw_at lw_m6 162 rfl) rfl
theorem q1464 : (Jvm.Cond.lays "AshCityModel" "AshCityModel" "high" "I") ∈ lw_all := lw_g (lw_at lw_m6 163 rfl) rfl
theorem q1465 : (Jvm.Cond.soleField "AshCityModel" "high") ∈ lw_all := lw_g (lw_at lw_m6 164 rfl) rfl
theorem q1466 : (Jvm.Cond.lays "AshCityModel" "AshCityModel" "now" "I") ∈ lw_all := lw_g (lw_at lw_m6 165 rfl) rfl
theorem q1467 : (Jvm.Cond.soleField "AshCityModel" "now") ∈ lw_all := lw_g (lw_at lw_m6 166 rfl) rfl
theorem q1468 : (Jvm.Cond.lays "AshCityModel" "AshCityModel" "places" "I") ∈ lw_all := lw_g (lw_at lw_m6 167 rfl) rfl
theorem q1469 : (Jvm.Cond.soleField "AshCityModel" "places") ∈ lw_all := lw_g (lw_at lw_m6 168 rfl) rfl
theorem q1470 : (Jvm.Cond.lays "AshCityModel" "AshCityModel" "digs" "I") ∈ lw_all := lw_g (lw_at lw_m6 169 rfl) rfl
theorem q1471 : (Jvm.Cond.soleField "AshCityModel" "digs") ∈ lw_all := lw_g (lw_at lw_m6 170 rfl) rfl
theorem q1472 : (Jvm.Cond.laysFinal "AshCityModel" "AshCityModel" "heightOf" "[I") ∈ lw_all := lw_g (lw_at lw_m6 171 rfl) rfl
theorem q1473 : (Jvm.Cond.soleField "AshCityModel" "heightOf") ∈ lw_all := lw_g (lw_at lw_m6 172 rfl) rfl
theorem q1474 : (Jvm.Cond.laysFinal "AshCityModel" "AshCityModel" "placeAt" "[I") ∈ lw_all := lw_g (lw_at lw_m6 173 rfl) rfl
theorem q1475 : (Jvm.Cond.soleField "AshCityModel" "placeAt") ∈ lw_all := lw_g (lw_at lw_m6 174 rfl) rfl
theorem q1476 : (Jvm.Cond.laysFinal "AshCityModel" "AshCityModel" "placeKind" "[I") ∈ lw_all := lw_g (lw_at lw_m6 175 rfl) rfl
theorem q1477 : (Jvm.Cond.soleField "AshCityModel" "placeKind") ∈ lw_all := lw_g (lw_at lw_m6 176 rfl) rfl
theorem q1478 : (Jvm.Cond.laysFinal "AshCityModel" "AshCityModel" "placeA" "[I") ∈ lw_all := lw_g (lw_at lw_m6 177 rfl) rfl
theorem q1479 : (Jvm.Cond.soleField "AshCityModel" "placeA") ∈ lw_all := lw_g (lw_at lw_m6 178 rfl) rfl
theorem q1480 : (Jvm.Cond.laysFinal "AshCityModel" "AshCityModel" "placeB" "[I") ∈ lw_all := lw_g (lw_at lw_m6 179 rfl) rfl
theorem q1481 : (Jvm.Cond.soleField "AshCityModel" "placeB") ∈ lw_all := lw_g (lw_at lw_m6 180 rfl) rfl
theorem q1482 : (Jvm.Cond.laysFinal "AshCityModel" "AshCityModel" "digHand" "[I") ∈ lw_all := lw_g (lw_at lw_m6 181 rfl) rfl
theorem q1483 : (Jvm.Cond.soleField "AshCityModel" "digHand") ∈ lw_all := lw_g (lw_at lw_m6 182 rfl) rfl
theorem q1484 : (Jvm.Cond.laysFinal "AshCityModel" "AshCityModel" "digKind" "[I") ∈ lw_all := lw_g (lw_at lw_m6 183 rfl) rfl
theorem q1485 : (Jvm.Cond.soleField "AshCityModel" "digKind") ∈ lw_all := lw_g (lw_at lw_m6 184 rfl) rfl
theorem q1486 : (Jvm.Cond.laysFinal "AshCityModel" "AshCityModel" "digA" "[I") ∈ lw_all := lw_g (lw_at lw_m6 185 rfl) rfl
theorem q1487 : (Jvm.Cond.soleField "AshCityModel" "digA") ∈ lw_all := lw_g (lw_at lw_m6 186 rfl) rfl
theorem q1488 : (Jvm.Cond.laysFinal "AshCityModel" "AshCityModel" "digB" "[I") ∈ lw_all := lw_g (lw_at lw_m6 187 rfl) rfl
theorem q1489 : (Jvm.Cond.soleField "AshCityModel" "digB") ∈ lw_all := lw_g (lw_at lw_m6 188 rfl) rfl
theorem q1490 : (Jvm.Cond.laysFinal "AshCityModel" "AshCityModel" "digTop" "[I") ∈ lw_all := lw_g (lw_at lw_m6 189 rfl) rfl
theorem q1491 : (Jvm.Cond.soleField "AshCityModel" "digTop") ∈ lw_all := lw_g (lw_at lw_m6 190 rfl) rfl
theorem q1492 : (Jvm.Cond.laysFinal "AshCityModel" "AshCityModel" "digBottom" "[I") ∈ lw_all := lw_g (lw_at lw_m6 191 rfl) rfl
theorem q1493 : (Jvm.Cond.soleField "AshCityModel" "digBottom") ∈ lw_all := lw_g (lw_at lw_m6 192 rfl) rfl
theorem q1494 : (Jvm.Cond.laysFinal "AshCityModel" "AshCityModel" "digFrom" "[I") ∈ lw_all := lw_g (lw_at lw_m6 193 rfl) rfl
theorem q1495 : (Jvm.Cond.soleField "AshCityModel" "digFrom") ∈ lw_all := lw_g (lw_at lw_m6 194 rfl) rfl
theorem q1496 : (Jvm.Cond.laysFinal "AshCityModel" "AshCityModel" "digTo" "[I") ∈ lw_all := lw_g (lw_at lw_m6 195 rfl) rfl
theorem q1497 : (Jvm.Cond.soleField "AshCityModel" "digTo") ∈ lw_all := lw_g (lw_at lw_m6 196 rfl) rfl
theorem q1498 : (Jvm.Cond.laysFinal "AshCityModel" "AshCityModel" "digTold" "[I") ∈ lw_all := lw_g (lw_at lw_m6 197 rfl) rfl
theorem q1499 : (Jvm.Cond.soleField "AshCityModel" "digTold") ∈ lw_all := lw_g (lw_at lw_m6 198 rfl) rfl
theorem q1500 : (Jvm.Cond.laysFinal "AshCityModel" "AshCityModel" "digStruck" "[I") ∈ lw_all := lw_g (lw_at lw_m6 199 rfl) rfl
theorem q1501 : (Jvm.Cond.soleField "AshCityModel" "digStruck") ∈ lw_all := lw_g (lw_at lw_m6 200 rfl) rfl
theorem q1502 : (Jvm.Cond.lays "AshCityModel" "AshCityModel" "firstDig" "I") ∈ lw_all := lw_g (lw_at lw_m6 201 rfl) rfl
theorem q1503 : (Jvm.Cond.soleField "AshCityModel" "firstDig") ∈ lw_all := lw_g (lw_at lw_m6 202 rfl) rfl
theorem q1504 : (Jvm.Cond.lays "AshCityModel" "AshCityModel" "meanings" "I") ∈ lw_all := lw_g (lw_at lw_m6 203 rfl) rfl
theorem q1505 : (Jvm.Cond.soleField "AshCityModel" "meanings") ∈ lw_all := lw_g (lw_at lw_m6 204 rfl) rfl
theorem q1506 : (Jvm.Cond.laysFinal "AshCityModel" "AshCityModel" "meansBy" "[I") ∈ lw_all := lw_g (lw_at lw_m6 205 rfl) rfl
theorem q1507 : (Jvm.Cond.soleField "AshCityModel" "meansBy") ∈ lw_all := lw_g (lw_at lw_m6 206 rfl) rfl
theorem q1508 : (Jvm.Cond.laysFinal "AshCityModel" "AshCityModel" "meansNumber" "[I") ∈ lw_all := lw_g (lw_at lw_m6 207 rfl) rfl
theorem q1509 : (Jvm.Cond.soleField "AshCityModel" "meansNumber") ∈ lw_all := lw_g (lw_at lw_m6 208 rfl) rfl
theorem q1510 : (Jvm.Cond.laysFinal "AshCityModel" "AshCityModel" "meansPlace" "[I") ∈ lw_all := lw_g (lw_at lw_m6 209 rfl) rfl
theorem q1511 : (Jvm.Cond.soleField "AshCityModel" "meansPlace") ∈ lw_all := lw_g (lw_at lw_m6 210 rfl) rfl
theorem q1512 : (Jvm.Cond.laysFinal "AshCityModel" "AshCityModel" "meansFrom" "[I") ∈ lw_all := lw_g (lw_at lw_m6 211 rfl) rfl
theorem q1513 : (Jvm.Cond.soleField "AshCityModel" "meansFrom") ∈ lw_all := lw_g (lw_at lw_m6 212 rfl) rfl
theorem q1514 : (Jvm.Cond.laysFinal "AshCityModel" "AshCityModel" "meansTo" "[I") ∈ lw_all := lw_g (lw_at lw_m6 213 rfl) rfl
theorem q1515 : (Jvm.Cond.soleField "AshCityModel" "meansTo") ∈ lw_all := lw_g (lw_at lw_m6 214 rfl) rfl
theorem q1516 : (Jvm.Cond.laysFinal "AshCityModel" "AshCityModel" "tape" "[B") ∈ lw_all := lw_g (lw_at lw_m6 215 rfl) rfl
theorem q1517 : (Jvm.Cond.soleField "AshCityModel" "tape") ∈ lw_all := lw_g (lw_at lw_m6 216 rfl) rfl
theorem q1518 : (Jvm.Cond.lays "AshCityModel" "AshCityModel" "taped" "I") ∈ lw_all := lw_g (lw_at lw_m6 217 rfl) rfl
theorem q1519 : (Jvm.Cond.soleField "AshCityModel" "taped") ∈ lw_all := lw_g (lw_at lw_m6 218 rfl) rfl
theorem q1520 : (Jvm.Cond.lays "AshCityModel" "AshCityModel" "place0" "I") ∈ lw_all := lw_g (lw_at lw_m6 219 rfl) rfl
theorem q1521 : (Jvm.Cond.soleField "AshCityModel" "place0") ∈ lw_all := lw_g (lw_at lw_m6 220 rfl) rfl
theorem q1522 : (Jvm.Cond.lays "AshCityModel" "AshCityModel" "length0" "I") ∈ lw_all := lw_g (lw_at lw_m6 221 rfl) rfl
theorem q1523 : (Jvm.Cond.soleField "AshCityModel" "length0") ∈ lw_all := lw_g (lw_at lw_m6 222 rfl) rfl
theorem q1524 : (Jvm.Cond.lays "AshCityModel" "AshCityModel" "fault" "I") ∈ lw_all := lw_g (lw_at lw_m6 223 rfl) rfl
theorem q1525 : (Jvm.Cond.soleField "AshCityModel" "fault") ∈ lw_all := lw_g (lw_at lw_m6 224 rfl) rfl
theorem q1526 : (Jvm.Cond.lays "AshCityModel" "AshCityModel" "number0" "I") ∈ lw_all := lw_g (lw_at lw_m6 225 rfl) rfl
theorem q1527 : (Jvm.Cond.soleField "AshCityModel" "number0") ∈ lw_all := lw_g (lw_at lw_m6 226 rfl) rfl
theorem q1528 : (Jvm.Cond.lays "AshCityModel" "AshCityModel" "open" "I") ∈ lw_all := lw_g (lw_at lw_m6 227 rfl) rfl
theorem q1529 : (Jvm.Cond.soleField "AshCityModel" "open") ∈ lw_all := lw_g (lw_at lw_m6 228 rfl) rfl
theorem q1530 : (Jvm.Cond.lays "AshCityModel" "AshCityModel" "codeMany" "I") ∈ lw_all := lw_g (lw_at lw_m6 229 rfl) rfl
theorem q1531 : (Jvm.Cond.soleField "AshCityModel" "codeMany") ∈ lw_all := lw_g (lw_at lw_m6 230 rfl) rfl
theorem q1532 : (Jvm.Cond.lays "AshCityModel" "AshCityModel" "waiting" "I") ∈ lw_all := lw_g (lw_at lw_m6 231 rfl) rfl
theorem q1533 : (Jvm.Cond.soleField "AshCityModel" "waiting") ∈ lw_all := lw_g (lw_at lw_m6 232 rfl) rfl
theorem q1534 : (Jvm.Cond.lays "AshCityModel" "AshCityModel" "saidClauses" "I") ∈ lw_all := lw_g (lw_at lw_m6 233 rfl) rfl
theorem q1535 : (Jvm.Cond.soleField "AshCityModel" "saidClauses") ∈ lw_all := lw_g (lw_at lw_m6 234 rfl) rfl
theorem q1536 : (Jvm.Cond.laysFinal "AshCityModel" "AshCityModel" "said" "[I") ∈ lw_all := lw_g (lw_at lw_m6 235 rfl) rfl
theorem q1537 : (Jvm.Cond.soleField "AshCityModel" "said") ∈ lw_all := lw_g (lw_at lw_m6 236 rfl) rfl
theorem q1538 : (Jvm.Cond.laysFinal "AshCityModel" "AshCityModel" "waits" "[I") ∈ lw_all := lw_g (lw_at lw_m6 237 rfl) rfl
theorem q1539 : (Jvm.Cond.soleField "AshCityModel" "waits") ∈ lw_all := lw_g (lw_at lw_m6 238 rfl) rfl
theorem q1540 : (Jvm.Cond.laysFinal "AshCityModel" "AshCityModel" "saidLetter" "[I") ∈ lw_all := lw_g (lw_at lw_m6 239 rfl) rfl
theorem q1541 : (Jvm.Cond.soleField "AshCityModel" "saidLetter") ∈ lw_all := lw_g (lw_at lw_m7 0 rfl) rfl
theorem q1542 : (Jvm.Cond.laysFinal "AshCityModel" "AshCityModel" "saidFrom" "[I") ∈ lw_all := lw_g (lw_at lw_m7 1 rfl) rfl
theorem q1543 : (Jvm.Cond.soleField "AshCityModel" "saidFrom") ∈ lw_all := lw_g (lw_at lw_m7 2 rfl) rfl
theorem q1544 : (Jvm.Cond.laysFinal "AshCityModel" "AshCityModel" "saidTo" "[I") ∈ lw_all := lw_g (lw_at lw_m7 3 rfl) rfl
theorem q1545 : (Jvm.Cond.soleField "AshCityModel" "saidTo") ∈ lw_all := lw_g (lw_at lw_m7 4 rfl) rfl
theorem q1546 : (Jvm.Cond.laysFinal "AshCityModel" "AshCityModel" "saidN" "[I") ∈ lw_all := lw_g (lw_at lw_m7 5 rfl) rfl
theorem q1547 : (Jvm.Cond.soleField "AshCityModel" "saidN") ∈ lw_all := lw_g (lw_at lw_m7 6 rfl) rfl
theorem q1548 : (Jvm.Cond.laysFinal "AshCityModel" "AshCityModel" "saidJ" "[I") ∈ lw_all := lw_g (lw_at lw_m7 7 rfl) rfl
theorem q1549 : (Jvm.Cond.soleField "AshCityModel" "saidJ") ∈ lw_all := lw_g (lw_at lw_m7 8 rfl) rfl
theorem q1550 : (Jvm.Cond.lays "AshCityModel" "AshCityModel" "ruleMany0" "I") ∈ lw_all := lw_g (lw_at lw_m7 9 rfl) rfl
theorem q1551 : (Jvm.Cond.soleField "AshCityModel" "ruleMany0") ∈ lw_all := lw_g (lw_at lw_m7 10 rfl) rfl
theorem q1552 : (Jvm.Cond.laysFinal "AshCityModel" "AshCityModel" "codes" "[I") ∈ lw_all := lw_g (lw_at lw_m7 11 rfl) rfl
theorem q1553 : (Jvm.Cond.soleField "AshCityModel" "codes") ∈ lw_all := lw_g (lw_at lw_m7 12 rfl) rfl
theorem q1554 : (Jvm.Cond.laysFinal "AshCityModel" "AshCityModel" "ruleFrom" "[I") ∈ lw_all := lw_g (lw_at lw_m7 13 rfl) rfl
theorem q1555 : (Jvm.Cond.soleField "AshCityModel" "ruleFrom") ∈ lw_all := lw_g (lw_at lw_m7 14 rfl) rfl
theorem q1556 : (Jvm.Cond.laysFinal "AshCityModel" "AshCityModel" "ruleTo" "[I") ∈ lw_all := lw_g (lw_at lw_m7 15 rfl) rfl
theorem q1557 : (Jvm.Cond.soleField "AshCityModel" "ruleTo") ∈ lw_all := lw_g (lw_at lw_m7 16 rfl) rfl
theorem q1558 : (Jvm.Cond.laysFinal "AshCityModel" "AshCityModel" "clauseMany" "[I") ∈ lw_all := lw_g (lw_at lw_m7 17 rfl) rfl
theorem q1559 : (Jvm.Cond.soleField "AshCityModel" "clauseMany") ∈ lw_all := lw_g (lw_at lw_m7 18 rfl) rfl
theorem q1560 : (Jvm.Cond.laysFinal "AshCityModel" "AshCityModel" "letterOf" "[I") ∈ lw_all := lw_g (lw_at lw_m7 19 rfl) rfl
theorem q1561 : (Jvm.Cond.soleField "AshCityModel" "letterOf") ∈ lw_all := lw_g (lw_at lw_m7 20 rfl) rfl
theorem q1562 : (Jvm.Cond.laysFinal "AshCityModel" "AshCityModel" "codeFrom" "[I") ∈ lw_all := lw_g (lw_at lw_m7 21 rfl) rfl
theorem q1563 : (Jvm.Cond.soleField "AshCityModel" "codeFrom") ∈ lw_all := lw_g (lw_at lw_m7 22 rfl) rfl
theorem q1564 : (Jvm.Cond.laysFinal "AshCityModel" "AshCityModel" "codeTo" "[I") ∈ lw_all := lw_g (lw_at lw_m7 23 rfl) rfl
theorem q1565 : (Jvm.Cond.soleField "AshCityModel" "codeTo") ∈ lw_all := lw_g (lw_at lw_m7 24 rfl) rfl
theorem q1566 : (Jvm.Cond.laysFinal "AshCityModel" "AshCityModel" "nOf" "[I") ∈ lw_all := lw_g (lw_at lw_m7 25 rfl) rfl
theorem q1567 : (Jvm.Cond.soleField "AshCityModel" "nOf") ∈ lw_all := lw_g (lw_at lw_m7 26 rfl) rfl
theorem q1568 : (Jvm.Cond.laysFinal "AshCityModel" "AshCityModel" "jOf" "[I") ∈ lw_all := lw_g (lw_at lw_m7 27 rfl) rfl
theorem q1569 : (Jvm.Cond.soleField "AshCityModel" "jOf") ∈ lw_all := lw_g (lw_at lw_m7 28 rfl) rfl
theorem q1570 : (Jvm.Cond.laysFinal "AshCityModel" "AshCityModel" "isStruck" "[Z") ∈ lw_all := lw_g (lw_at lw_m7 29 rfl) rfl
theorem q1571 : (Jvm.Cond.soleField "AshCityModel" "isStruck") ∈ lw_all := lw_g (lw_at lw_m7 30 rfl) rfl
theorem q1572 : (Jvm.Cond.laysFinal "AshCityModel" "AshCityModel" "stack" "[I") ∈ lw_all := lw_g (lw_at lw_m7 31 rfl) rfl
theorem q1573 : (Jvm.Cond.soleField "AshCityModel" "stack") ∈ lw_all := lw_g (lw_at lw_m7 32 rfl) rfl
theorem q1574 : (Jvm.Cond.laysFinal "AshCityModel" "AshCityModel" "facts" "[I") ∈ lw_all := lw_g (lw_at lw_m7 33 rfl) rfl
theorem q1575 : (Jvm.Cond.soleField "AshCityModel" "facts") ∈ lw_all := lw_g (lw_at lw_m7 34 rfl) rfl
theorem q1576 : (Jvm.Cond.lays "AshCityModel" "AshCityModel" "finds" "I") ∈ lw_all := lw_g (lw_at lw_m7 35 rfl) rfl
theorem q1577 : (Jvm.Cond.soleField "AshCityModel" "finds") ∈ lw_all := lw_g (lw_at lw_m7 36 rfl) rfl
theorem q1578 : (Jvm.Cond.lays "AshCityModel" "AshCityModel" "asHand" "I") ∈ lw_all := lw_g (lw_at lw_m7 37 rfl) rfl
theorem q1579 : (Jvm.Cond.soleField "AshCityModel" "asHand") ∈ lw_all := lw_g (lw_at lw_m7 38 rfl) rfl
theorem q1580 : (Jvm.Cond.laysFinal "AshCityModel" "AshCityModel" "findHand" "[I") ∈ lw_all := lw_g (lw_at lw_m7 39 rfl) rfl
theorem q1581 : (Jvm.Cond.soleField "AshCityModel" "findHand") ∈ lw_all := lw_g (lw_at lw_m7 40 rfl) rfl
theorem q1582 : (Jvm.Cond.laysFinal "AshCityModel" "AshCityModel" "findFrom" "[I") ∈ lw_all := lw_g (lw_at lw_m7 41 rfl) rfl
theorem q1583 : (Jvm.Cond.soleField "AshCityModel" "findFrom") ∈ lw_all := lw_g (lw_at lw_m7 42 rfl) rfl
theorem q1584 : (Jvm.Cond.laysFinal "AshCityModel" "AshCityModel" "findTo" "[I") ∈ lw_all := lw_g (lw_at lw_m7 43 rfl) rfl
theorem q1585 : (Jvm.Cond.soleField "AshCityModel" "findTo") ∈ lw_all := lw_g (lw_at lw_m7 44 rfl) rfl
theorem q1586 : (Jvm.Cond.laysFinal "AshCityModel" "AshCityModel" "findNumber" "[I") ∈ lw_all := lw_g (lw_at lw_m7 45 rfl) rfl
theorem q1587 : (Jvm.Cond.soleField "AshCityModel" "findNumber") ∈ lw_all := lw_g (lw_at lw_m7 46 rfl) rfl
theorem q1588 : (Jvm.Cond.laysFinal "AshCityModel" "AshCityModel" "findTop" "[I") ∈ lw_all := lw_g (lw_at lw_m7 47 rfl) rfl
theorem q1589 : (Jvm.Cond.soleField "AshCityModel" "findTop") ∈ lw_all := lw_g (lw_at lw_m7 48 rfl) rfl
theorem q1590 : (Jvm.Cond.laysFinal "AshCityModel" "AshCityModel" "findBottom" "[I") ∈ lw_all := lw_g (lw_at lw_m7 49 rfl) rfl
theorem q1591 : (Jvm.Cond.soleField "AshCityModel" "findBottom") ∈ lw_all := lw_g (lw_at lw_m7 50 rfl) rfl
theorem q1592 : (Jvm.Cond.laysFinal "AshCityModel" "AshCityModel" "findKind" "[I") ∈ lw_all := lw_g (lw_at lw_m7 51 rfl) rfl
theorem q1593 : (Jvm.Cond.soleField "AshCityModel" "findKind") ∈ lw_all := lw_g (lw_at lw_m7 52 rfl) rfl
theorem q1594 : (Jvm.Cond.laysFinal "AshCityModel" "AshCityModel" "findMarks" "[I") ∈ lw_all := lw_g (lw_at lw_m7 53 rfl) rfl
theorem q1595 : (Jvm.Cond.soleField "AshCityModel" "findMarks") ∈ lw_all := lw_g (lw_at lw_m7 54 rfl) rfl
theorem q1596 : (Jvm.Cond.laysFinal "AshCityModel" "AshCityModel" "findTold" "[I") ∈ lw_all := lw_g (lw_at lw_m7 55 rfl) rfl
theorem q1597 : (Jvm.Cond.soleField "AshCityModel" "findTold") ∈ lw_all := lw_g (lw_at lw_m7 56 rfl) rfl
theorem q1598 : (Jvm.Cond.lays "AshCityModel" "AshCityModel" "things" "I") ∈ lw_all := lw_g (lw_at lw_m7 57 rfl) rfl
theorem q1599 : (Jvm.Cond.soleField "AshCityModel" "things") ∈ lw_all := lw_g (lw_at lw_m7 58 rfl) rfl
theorem q1600 : (Jvm.Cond.lays "AshCityModel" "AshCityModel" "joinMany" "I") ∈ lw_all := lw_g (lw_at lw_m7 59 rfl) rfl
theorem q1601 : (Jvm.Cond.soleField "AshCityModel" "joinMany") ∈ lw_all := lw_g (lw_at lw_m7 60 rfl) rfl
theorem q1602 : (Jvm.Cond.laysFinal "AshCityModel" "AshCityModel" "museumOf" "[I") ∈ lw_all := lw_g (lw_at lw_m7 61 rfl) rfl
theorem q1603 : (Jvm.Cond.soleField "AshCityModel" "museumOf") ∈ lw_all := lw_g (lw_at lw_m7 62 rfl) rfl
theorem q1604 : (Jvm.Cond.laysFinal "AshCityModel" "AshCityModel" "thingKind" "[I") ∈ lw_all := lw_g (lw_at lw_m7 63 rfl) rfl
theorem q1605 : (Jvm.Cond.soleField "AshCityModel" "thingKind") ∈ lw_all := lw_g (lw_at lw_m7 64 rfl) rfl
theorem q1606 : (Jvm.Cond.laysFinal "AshCityModel" "AshCityModel" "thingMarks" "[I") ∈ lw_all := lw_g (lw_at lw_m7 65 rfl) rfl
theorem q1607 : (Jvm.Cond.soleField "AshCityModel" "thingMarks") ∈ lw_all := lw_g (lw_at lw_m7 66 rfl) rfl
theorem q1608 : (Jvm.Cond.laysFinal "AshCityModel" "AshCityModel" "told" "[I") ∈ lw_all := lw_g (lw_at lw_m7 67 rfl) rfl
theorem q1609 : (Jvm.Cond.soleField "AshCityModel" "told") ∈ lw_all := lw_g (lw_at lw_m7 68 rfl) rfl
theorem q1610 : (Jvm.Cond.laysFinal "AshCityModel" "AshCityModel" "rowOf" "[I") ∈ lw_all := lw_g (lw_at lw_m7 69 rfl) rfl
theorem q1611 : (Jvm.Cond.soleField "AshCityModel" "rowOf") ∈ lw_all := lw_g (lw_at lw_m7 70 rfl) rfl
theorem q1612 : (Jvm.Cond.laysFinal "AshCityModel" "AshCityModel" "mostBy" "[I") ∈ lw_all := lw_g (lw_at lw_m7 71 rfl) rfl
theorem q1613 : (Jvm.Cond.soleField "AshCityModel" "mostBy") ∈ lw_all := lw_g (lw_at lw_m7 72 rfl) rfl
theorem q1614 : (Jvm.Cond.laysFinal "AshCityModel" "AshCityModel" "isGone" "[Z") ∈ lw_all := lw_g (lw_at lw_m7 73 rfl) rfl
theorem q1615 : (Jvm.Cond.soleField "AshCityModel" "isGone") ∈ lw_all := lw_g (lw_at lw_m7 74 rfl) rfl
theorem q1616 : (Jvm.Cond.laysFinal "AshCityModel" "AshCityModel" "isUsed" "[Z") ∈ lw_all := lw_g (lw_at lw_m7 75 rfl) rfl
theorem q1617 : (Jvm.Cond.soleField "AshCityModel" "isUsed") ∈ lw_all := lw_g (lw_at lw_m7 76 rfl) rfl
theorem q1618 : (Jvm.Cond.laysFinal "AshCityModel" "AshCityModel" "agree" "[I") ∈ lw_all := lw_g (lw_at lw_m7 77 rfl) rfl
theorem q1619 : (Jvm.Cond.soleField "AshCityModel" "agree") ∈ lw_all := lw_g (lw_at lw_m7 78 rfl) rfl
theorem q1620 : (Jvm.Cond.lays "AshCityModel" "AshCityModel" "walls" "I") ∈ lw_all := lw_g (lw_at lw_m7 79 rfl) rfl
theorem q1621 : (Jvm.Cond.soleField "AshCityModel" "walls") ∈ lw_all := lw_g (lw_at lw_m7 80 rfl) rfl
theorem q1622 : (Jvm.Cond.lays "AshCityModel" "AshCityModel" "drawings" "I") ∈ lw_all := lw_g (lw_at lw_m7 81 rfl) rfl
theorem q1623 : (Jvm.Cond.soleField "AshCityModel" "drawings") ∈ lw_all := lw_g (lw_at lw_m7 82 rfl) rfl
theorem q1624 : (Jvm.Cond.laysFinal "AshCityModel" "AshCityModel" "wallPlace" "[I") ∈ lw_all := lw_g (lw_at lw_m7 83 rfl) rfl
theorem q1625 : (Jvm.Cond.soleField "AshCityModel" "wallPlace") ∈ lw_all := lw_g (lw_at lw_m7 84 rfl) rfl
theorem q1626 : (Jvm.Cond.laysFinal "AshCityModel" "AshCityModel" "wallWorth" "[I") ∈ lw_all := lw_g (lw_at lw_m7 85 rfl) rfl
theorem q1627 : (Jvm.Cond.soleField "AshCityModel" "wallWorth") ∈ lw_all := lw_g (lw_at lw_m7 86 rfl) rfl
theorem q1628 : (Jvm.Cond.laysFinal "AshCityModel" "AshCityModel" "drawWall" "[I") ∈ lw_all := lw_g (lw_at lw_m7 87 rfl) rfl
theorem q1629 : (Jvm.Cond.soleField "AshCityModel" "drawWall") ∈ lw_all := lw_g (lw_at lw_m7 88 rfl) rfl
theorem q1630 : (Jvm.Cond.laysFinal "AshCityModel" "AshCityModel" "drawWeek" "[I") ∈ lw_all := lw_g (lw_at lw_m7 89 rfl) rfl
theorem q1631 : (Jvm.Cond.soleField "AshCityModel" "drawWeek") ∈ lw_all := lw_g (lw_at lw_m7 90 rfl) rfl
theorem q1632 : (Jvm.Cond.laysFinal "AshCityModel" "AshCityModel" "drawFeatures" "[I") ∈ lw_all := lw_g (lw_at lw_m7 91 rfl) rfl
theorem q1633 : (Jvm.Cond.soleField "AshCityModel" "drawFeatures") ∈ lw_all := lw_g (lw_at lw_m7 92 rfl) rfl
theorem q1634 : (Jvm.Cond.laysFinal "AshCityModel" "AshCityModel" "drawTold" "[I") ∈ lw_all := lw_g (lw_at lw_m7 93 rfl) rfl
theorem q1635 : (Jvm.Cond.soleField "AshCityModel" "drawTold") ∈ lw_all := lw_g (lw_at lw_m7 94 rfl) rfl
theorem q1636 : (Jvm.Cond.laysFinal "AshCityModel" "AshCityModel" "lookOf" "[I") ∈ lw_all := lw_g (lw_at lw_m7 95 rfl) rfl
theorem q1637 : (Jvm.Cond.soleField "AshCityModel" "lookOf") ∈ lw_all := lw_g (lw_at lw_m7 96 rfl) rfl
theorem q1638 : (Jvm.Cond.laysFinal "AshCityModel" "AshCityModel" "isCopy" "[Z") ∈ lw_all := lw_g (lw_at lw_m7 97 rfl) rfl
theorem q1639 : (Jvm.Cond.soleField "AshCityModel" "isCopy") ∈ lw_all := lw_g (lw_at lw_m7 98 rfl) rfl
theorem q1640 : (Jvm.Cond.lays "AshCityModel" "AshCityModel" "cuts" "I") ∈ lw_all := lw_g (lw_at lw_m7 99 rfl) rfl
theorem q1641 : (Jvm.Cond.soleField "AshCityModel" "cuts") ∈ lw_all := lw_g (lw_at lw_m7 100 rfl) rfl
theorem q1642 : (Jvm.Cond.lays "AshCityModel" "AshCityModel" "hollows" "I") ∈ lw_all := lw_g (lw_at lw_m7 101 rfl) rfl
theorem q1643 : (Jvm.Cond.soleField "AshCityModel" "hollows") ∈ lw_all := lw_g (lw_at lw_m7 102 rfl) rfl
theorem q1644 : (Jvm.Cond.laysFinal "AshCityModel" "AshCityModel" "hourFrom" "[I") ∈ lw_all := lw_g (lw_at lw_m7 103 rfl) rfl
theorem q1645 : (Jvm.Cond.soleField "AshCityModel" "hourFrom") ∈ lw_all := lw_g (lw_at lw_m7 104 rfl) rfl
theorem q1646 : (Jvm.Cond.laysFinal "AshCityModel" "AshCityModel" "hourTo" "[I") ∈ lw_all := lw_g (lw_at lw_m7 105 rfl) rfl
theorem q1647 : (Jvm.Cond.soleField "AshCityModel" "hourTo") ∈ lw_all := lw_g (lw_at lw_m7 106 rfl) rfl
theorem q1648 : (Jvm.Cond.laysFinal "AshCityModel" "AshCityModel" "cutA" "[I") ∈ lw_all := lw_g (lw_at lw_m7 107 rfl) rfl
theorem q1649 : (Jvm.Cond.soleField "AshCityModel" "cutA") ∈ lw_all := lw_g (lw_at lw_m7 108 rfl) rfl
theorem q1650 : (Jvm.Cond.laysFinal "AshCityModel" "AshCityModel" "cutB" "[I") ∈ lw_all := lw_g (lw_at lw_m7 109 rfl) rfl
theorem q1651 : (Jvm.Cond.soleField "AshCityModel" "cutB") ∈ lw_all := lw_g (lw_at lw_m7 110 rfl) rfl
theorem q1652 : (Jvm.Cond.laysFinal "AshCityModel" "AshCityModel" "early" "[I") ∈ lw_all := lw_g (lw_at lw_m7 111 rfl) rfl
theorem q1653 : (Jvm.Cond.soleField "AshCityModel" "early") ∈ lw_all := lw_g (lw_at lw_m7 112 rfl) rfl
theorem q1654 : (Jvm.Cond.laysFinal "AshCityModel" "AshCityModel" "late" "[I") ∈ lw_all := lw_g (lw_at lw_m7 113 rfl) rfl
theorem q1655 : (Jvm.Cond.soleField "AshCityModel" "late") ∈ lw_all := lw_g (lw_at lw_m7 114 rfl) rfl
theorem q1656 : (Jvm.Cond.laysFinal "AshCityModel" "AshCityModel" "hollowCell" "[I") ∈ lw_all := lw_g (lw_at lw_m7 115 rfl) rfl
theorem q1657 : (Jvm.Cond.soleField "AshCityModel" "hollowCell") ∈ lw_all := lw_g (lw_at lw_m7 116 rfl) rfl
theorem q1658 : (Jvm.Cond.laysFinal "AshCityModel" "AshCityModel" "hollowLayer" "[I") ∈ lw_all := lw_g (lw_at lw_m7 117 rfl) rfl
theorem q1659 : (Jvm.Cond.soleField "AshCityModel" "hollowLayer") ∈ lw_all := lw_g (lw_at lw_m7 118 rfl) rfl
theorem q1660 : (Jvm.Cond.laysFinal "AshCityModel" "AshCityModel" "steps" "[I") ∈ lw_all := lw_g (lw_at lw_m7 119 rfl) rfl
theorem q1661 : (Jvm.Cond.soleField "AshCityModel" "steps") ∈ lw_all := lw_g (lw_at lw_m7 120 rfl) rfl
theorem q1662 : (Jvm.Cond.lays "AshCityModel" "AshCityModel" "signs" "I") ∈ lw_all := lw_g (lw_at lw_m7 121 rfl) rfl
theorem q1663 : (Jvm.Cond.soleField "AshCityModel" "signs") ∈ lw_all := lw_g (lw_at lw_m7 122 rfl) rfl
theorem q1664 : (Jvm.Cond.lays "AshCityModel" "AshCityModel" "works" "I") ∈ lw_all := lw_g (lw_at lw_m7 123 rfl) rfl
theorem q1665 : (Jvm.Cond.soleField "AshCityModel" "works") ∈ lw_all := lw_g (lw_at lw_m7 124 rfl) rfl
theorem q1666 : (Jvm.Cond.laysFinal "AshCityModel" "AshCityModel" "signName" "[I") ∈ lw_all := lw_g (lw_at lw_m7 125 rfl) rfl
theorem q1667 : (Jvm.Cond.soleField "AshCityModel" "signName") ∈ lw_all := lw_g (lw_at lw_m7 126 rfl) rfl
theorem q1668 : (Jvm.Cond.laysFinal "AshCityModel" "AshCityModel" "signKind" "[I") ∈ lw_all := lw_g (lw_at lw_m7 127 rfl) rfl
theorem q1669 : (Jvm.Cond.soleField "AshCityModel" "signKind") ∈ lw_all := lw_g (lw_at lw_m7 128 rfl) rfl
theorem q1670 : (Jvm.Cond.laysFinal "AshCityModel" "AshCityModel" "signPlace" "[I") ∈ lw_all := lw_g (lw_at lw_m7 129 rfl) rfl
theorem q1671 : (Jvm.Cond.soleField "AshCityModel" "signPlace") ∈ lw_all := lw_g (lw_at lw_m7 130 rfl) rfl
theorem q1672 : (Jvm.Cond.laysFinal "AshCityModel" "AshCityModel" "signWeek" "[I") ∈ lw_all := lw_g (lw_at lw_m7 131 rfl) rfl
theorem q1673 : (Jvm.Cond.soleField "AshCityModel" "signWeek") ∈ lw_all := lw_g (lw_at lw_m7 132 rfl) rfl
theorem q1674 : (Jvm.Cond.laysFinal "AshCityModel" "AshCityModel" "workWall" "[I") ∈ lw_all := lw_g (lw_at lw_m7 133 rfl) rfl
theorem q1675 : (Jvm.Cond.soleField "AshCityModel" "workWall") ∈ lw_all := lw_g (lw_at lw_m7 134 rfl) rfl
theorem q1676 : (Jvm.Cond.laysFinal "AshCityModel" "AshCityModel" "workCost" "[I") ∈ lw_all := lw_g (lw_at lw_m7 135 rfl) rfl
theorem q1677 : (Jvm.Cond.soleField "AshCityModel" "workCost") ∈ lw_all := lw_g (lw_at lw_m7 136 rfl) rfl
theorem q1678 : (Jvm.Cond.laysFinal "AshCityModel" "AshCityModel" "workPart" "[I") ∈ lw_all := lw_g (lw_at lw_m7 137 rfl) rfl
theorem q1679 : (Jvm.Cond.soleField "AshCityModel" "workPart") ∈ lw_all := lw_g (lw_at lw_m7 138 rfl) rfl
theorem q1680 : (Jvm.Cond.laysFinal "AshCityModel" "AshCityModel" "nameMany" "[I") ∈ lw_all := lw_g (lw_at lw_m7 139 rfl) rfl
theorem q1681 : (Jvm.Cond.soleField "AshCityModel" "nameMany") ∈ lw_all := lw_g (lw_at lw_m7 140 rfl) rfl
theorem q1682 : (Jvm.Cond.laysFinal "AshCityModel" "AshCityModel" "nameWorth" "[I") ∈ lw_all := lw_g (lw_at lw_m7 141 rfl) rfl
theorem q1683 : (Jvm.Cond.soleField "AshCityModel" "nameWorth") ∈ lw_all := lw_g (lw_at lw_m7 142 rfl) rfl
theorem q1684 : (Jvm.Cond.superclass "AshCityModel" "java/lang/Object") ∈ lw_all := lw_g (lw_at lw_m7 143 rfl) rfl
theorem q1686 : (Jvm.Cond.instanceMethod ({ cls := "AshCityModel", name := "city", desc := "(II)Z" } : Jvm.MethodName)) ∈ lw_all := lw_g (lw_at lw_m7 145 rfl) rfl
theorem q1687 : (Jvm.Cond.selects "AshCityModel" ({ cls := "AshCityModel", name := "city", desc := "(II)Z" } : Jvm.MethodName) ({ cls := "AshCityModel", name := "city", desc := "(II)Z" } : Jvm.MethodName)) ∈ lw_all := lw_g (lw_at lw_m7 146 rfl) rfl
theorem q1688 : (Jvm.Cond.code ({ cls := "AshCityModel", name := "city", desc := "(II)Z" } : Jvm.MethodName) prog_27_method_5_code (3 : Nat) (Option.some Jvm.ClassFile.FieldType.boolean)) ∈ lw_all := lw_g (lw_at lw_m7 147 rfl) rfl
theorem q1689 : (Jvm.Cond.methodLink "AshCityModel" (278 : Nat) ({ cls := "AshCityModel", name := "in", desc := "(III)Z" } : Jvm.MethodName)) ∈ lw_all := lw_g (lw_at lw_m7 148 rfl) rfl
theorem q1690 : (Jvm.Cond.static ({ cls := "AshCityModel", name := "in", desc := "(III)Z" } : Jvm.MethodName)) ∈ lw_all := lw_g (lw_at lw_m7 149 rfl) rfl
theorem q1691 : (Jvm.Cond.code ({ cls := "AshCityModel", name := "in", desc := "(III)Z" } : Jvm.MethodName) prog_27_method_2_code (3 : Nat) (Option.some Jvm.ClassFile.FieldType.boolean)) ∈ lw_all := lw_g (lw_at lw_m7 150 rfl) rfl
theorem q1693 : (Jvm.Cond.instanceMethod ({ cls := "AshCityModel", name := "now", desc := "(I)Z" } : Jvm.MethodName)) ∈ lw_all := lw_g (lw_at lw_m7 152 rfl) rfl
theorem q1694 : (Jvm.Cond.selects "AshCityModel" ({ cls := "AshCityModel", name := "now", desc := "(I)Z" } : Jvm.MethodName) ({ cls := "AshCityModel", name := "now", desc := "(I)Z" } : Jvm.MethodName)) ∈ lw_all := lw_g (lw_at lw_m7 153 rfl) rfl
theorem q1695 : (Jvm.Cond.code ({ cls := "AshCityModel", name := "now", desc := "(I)Z" } : Jvm.MethodName) prog_27_method_6_code (2 : Nat) (Option.some Jvm.ClassFile.FieldType.boolean)) ∈ lw_all := lw_g (lw_at lw_m7 154 rfl) rfl
theorem q1697 : (Jvm.Cond.instanceMethod ({ cls := "AshCityModel", name := "place", desc := "(III)I" } : Jvm.MethodName)) ∈ lw_all := lw_g (lw_at lw_m7 156 rfl) rfl
theorem q1698 : (Jvm.Cond.selects "AshCityModel" ({ cls := "AshCityModel", name := "place", desc := "(III)I" } : Jvm.MethodName) ({ cls := "AshCityModel", name := "place", desc := "(III)I" } : Jvm.MethodName)) ∈ lw_all := lw_g (lw_at lw_m7 157 rfl) rfl
theorem q1699 : (Jvm.Cond.code ({ cls := "AshCityModel", name := "place", desc := "(III)I" } : Jvm.MethodName) prog_27_method_12_code (5 : Nat) (Option.some Jvm.ClassFile.FieldType.int)) ∈ lw_all := lw_g (lw_at lw_m7 158 rfl) rfl
theorem q1700 : (Jvm.Cond.methodLink "AshCityModel" (298 : Nat) ({ cls := "AshCityModel", name := "isRectangle", desc := "(II)Z" } : Jvm.MethodName)) ∈ lw_all := lw_g (lw_at lw_m7 159 rfl) rfl
theorem q1701 : (Jvm.Cond.privateMethod ({ cls := "AshCityModel", name := "isRectangle", desc := "(II)Z" } : Jvm.MethodName)) ∈ lw_tbl := lw_at lw_m7 160 rfl
theorem q1702 : (Jvm.Cond.instanceMethod ({ cls := "AshCityModel", name := "isRectangle", desc := "(II)Z" } : Jvm.MethodName)) ∈ lw_all := lw_g (lw_at lw_m7 161 rfl) rfl
theorem q1703 : (Jvm.Cond.code ({ cls := "AshCityModel", name := "isRectangle", desc := "(II)Z" } : Jvm.MethodName) prog_27_method_9_code (3 : Nat) (Option.some Jvm.ClassFile.FieldType.boolean)) ∈ lw_all := lw_g (lw_at lw_m7 162 rfl) rfl
theorem q1704 : (Jvm.Cond.methodLink "AshCityModel" (294 : Nat) ({ cls := "AshCityModel", name := "isCell", desc := "(I)Z" } : Jvm.MethodName)) ∈ lw_all := lw_g (lw_at lw_m7 163 rfl) rfl
theorem q1705 : (Jvm.Cond.privateMethod ({ cls := "AshCityModel", name := "isCell", desc := "(I)Z" } : Jvm.MethodName)) ∈ lw_tbl := lw_at lw_m7 164 rfl
theorem q1706 : (Jvm.Cond.instanceMethod ({ cls := "AshCityModel", name := "isCell", desc := "(I)Z" } : Jvm.MethodName)) ∈ lw_all := lw_g (lw_at lw_m7 165 rfl) rfl
theorem q1707 : (Jvm.Cond.code ({ cls := "AshCityModel", name := "isCell", desc := "(I)Z" } : Jvm.MethodName) prog_27_method_7_code (2 : Nat) (Option.some Jvm.ClassFile.FieldType.boolean)) ∈ lw_all := lw_g (lw_at lw_m7 166 rfl) rfl
theorem q1708 : (Jvm.Cond.methodLink "AshCityModel" (302 : Nat) ({ cls := "AshCityModel", name := "isIn", desc := "(III)Z" } : Jvm.MethodName)) ∈ lw_all := lw_g (lw_at lw_m7 167 rfl) rfl
theorem q1709 : (Jvm.Cond.privateMethod ({ cls := "AshCityModel", name := "isIn", desc := "(III)Z" } : Jvm.MethodName)) ∈ lw_tbl := lw_at lw_m7 168 rfl
theorem q1710 : (Jvm.Cond.instanceMethod ({ cls := "AshCityModel", name := "isIn", desc := "(III)Z" } : Jvm.MethodName)) ∈ lw_all := lw_g (lw_at lw_m7 169 rfl) rfl
theorem q1711 : (Jvm.Cond.code ({ cls := "AshCityModel", name := "isIn", desc := "(III)Z" } : Jvm.MethodName) prog_27_method_10_code (4 : Nat) (Option.some Jvm.ClassFile.FieldType.boolean)) ∈ lw_all := lw_g (lw_at lw_m7 170 rfl) rfl
theorem q1713 : (Jvm.Cond.instanceMethod ({ cls := "AshCityModel", name := "placeOf", desc := "(I)I" } : Jvm.MethodName)) ∈ lw_all := lw_g (lw_at lw_m7 172 rfl) rfl
theorem q1714 : (Jvm.Cond.selects "AshCityModel" ({ cls := "AshCityModel", name := "placeOf", desc := "(I)I" } : Jvm.MethodName) ({ cls := "AshCityModel", name := "placeOf", desc := "(I)I" } : Jvm.MethodName)) ∈ lw_all := lw_g (lw_at lw_m7 173 rfl) rfl
theorem q1715 : (Jvm.Cond.code ({ cls := "AshCityModel", name := "placeOf", desc := "(I)I" } : Jvm.MethodName) prog_27_method_13_code (2 : Nat) (Option.some Jvm.ClassFile.FieldType.int)) ∈ lw_all := lw_g (lw_at lw_m7 174 rfl) rfl
theorem q1717 : (Jvm.Cond.instanceMethod ({ cls := "AshCityModel", name := "dig", desc := "(IIIIIIII)I" } : Jvm.MethodName)) ∈ lw_all := lw_g (lw_at lw_m7 176 rfl) rfl
theorem q1718 : (Jvm.Cond.selects "AshCityModel" ({ cls := "AshCityModel", name := "dig", desc := "(IIIIIIII)I" } : Jvm.MethodName) ({ cls := "AshCityModel", name := "dig", desc := "(IIIIIIII)I" } : Jvm.MethodName)) ∈ lw_all := lw_g (lw_at lw_m7 177 rfl) rfl
theorem q1719 : (Jvm.Cond.code ({ cls := "AshCityModel", name := "dig", desc := "(IIIIIIII)I" } : Jvm.MethodName) prog_27_method_14_code (9 : Nat) (Option.some Jvm.ClassFile.FieldType.int)) ∈ lw_all := lw_g (lw_at lw_m7 178 rfl) rfl
theorem q1720 : (Jvm.Cond.methodLink "AshCityModel" (305 : Nat) ({ cls := "AshCityModel", name := "isLayer", desc := "(I)Z" } : Jvm.MethodName)) ∈ lw_all := lw_g (lw_at lw_m7 179 rfl) rfl
theorem q1721 : (Jvm.Cond.static ({ cls := "AshCityModel", name := "isLayer", desc := "(I)Z" } : Jvm.MethodName)) ∈ lw_all := lw_g (lw_at lw_m7 180 rfl) rfl
theorem q1722 : (Jvm.Cond.code ({ cls := "AshCityModel", name := "isLayer", desc := "(I)Z" } : Jvm.MethodName) prog_27_method_8_code (1 : Nat) (Option.some Jvm.ClassFile.FieldType.boolean)) ∈ lw_all := lw_g (lw_at lw_m7 181 rfl) rfl
theorem q1724 : (Jvm.Cond.instanceMethod ({ cls := "AshCityModel", name := "strike", desc := "(I)Z" } : Jvm.MethodName)) ∈ lw_all := lw_g (lw_at lw_m7 183 rfl) rfl
theorem q1725 : (Jvm.Cond.selects "AshCityModel" ({ cls := "AshCityModel", name := "strike", desc := "(I)Z" } : Jvm.MethodName) ({ cls := "AshCityModel", name := "strike", desc := "(I)Z" } : Jvm.MethodName)) ∈ lw_all := lw_g (lw_at lw_m7 184 rfl) rfl
theorem q1726 : (Jvm.Cond.code ({ cls := "AshCityModel", name := "strike", desc := "(I)Z" } : Jvm.MethodName) prog_27_method_16_code (2 : Nat) (Option.some Jvm.ClassFile.FieldType.boolean)) ∈ lw_all := lw_g (lw_at lw_m7 185 rfl) rfl
theorem q1727 : (Jvm.Cond.methodLink "AshCityModel" (308 : Nat) ({ cls := "AshCityModel", name := "isDig", desc := "(I)Z" } : Jvm.MethodName)) ∈ lw_all := lw_g (lw_at lw_m7 186 rfl) rfl
theorem q1728 : (Jvm.Cond.privateMethod ({ cls := "AshCityModel", name := "isDig", desc := "(I)Z" } : Jvm.MethodName)) ∈ lw_tbl := lw_at lw_m7 187 rfl
theorem q1729 : (Jvm.Cond.instanceMethod ({ cls := "AshCityModel", name := "isDig", desc := "(I)Z" } : Jvm.MethodName)) ∈ lw_all := lw_g (lw_at lw_m7 188 rfl) rfl
theorem q1730 : (Jvm.Cond.code ({ cls := "AshCityModel", name := "isDig", desc := "(I)Z" } : Jvm.MethodName) prog_27_method_15_code (2 : Nat) (Option.some Jvm.ClassFile.FieldType.boolean)) ∈ lw_all := lw_g (lw_at lw_m7 189 rfl) rfl
theorem q1732 : (Jvm.Cond.instanceMethod ({ cls := "AshCityModel", name := "ground", desc := "(IIII)I" } : Jvm.MethodName)) ∈ lw_all := lw_g (lw_at lw_m7 191 rfl) rfl
theorem q1733 : (Jvm.Cond.selects "AshCityModel" ({ cls := "AshCityModel", name := "ground", desc := "(IIII)I" } : Jvm.MethodName) ({ cls := "AshCityModel", name := "ground", desc := "(IIII)I" } : Jvm.MethodName)) ∈ lw_all := lw_g (lw_at lw_m7 192 rfl) rfl
theorem q1734 : (Jvm.Cond.code ({ cls := "AshCityModel", name := "ground", desc := "(IIII)I" } : Jvm.MethodName) prog_27_method_21_code (5 : Nat) (Option.some Jvm.ClassFile.FieldType.int)) ∈ lw_all := lw_g (lw_at lw_m7 193 rfl) rfl
theorem q1735 : (Jvm.Cond.methodLink "AshCityModel" (323 : Nat) ({ cls := "AshCityModel", name := "isGround", desc := "(IIII)Z" } : Jvm.MethodName)) ∈ lw_all := lw_g (lw_at lw_m7 194 rfl) rfl
theorem q1736 : (Jvm.Cond.privateMethod ({ cls := "AshCityModel", name := "isGround", desc := "(IIII)Z" } : Jvm.MethodName)) ∈ lw_tbl := lw_at lw_m7 195 rfl
theorem q1737 : (Jvm.Cond.instanceMethod ({ cls := "AshCityModel", name := "isGround", desc := "(IIII)Z" } : Jvm.MethodName)) ∈ lw_all := lw_g (lw_at lw_m7 196 rfl) rfl
theorem q1738 : (Jvm.Cond.code ({ cls := "AshCityModel", name := "isGround", desc := "(IIII)Z" } : Jvm.MethodName) prog_27_method_20_code (5 : Nat) (Option.some Jvm.ClassFile.FieldType.boolean)) ∈ lw_all := lw_g (lw_at lw_m7 197 rfl) rfl
theorem q1739 : (Jvm.Cond.methodLink "AshCityModel" (320 : Nat) ({ cls := "AshCityModel", name := "isWeek", desc := "(I)Z" } : Jvm.MethodName)) ∈ lw_all := lw_g (lw_at lw_m7 198 rfl) rfl
theorem q1740 : (Jvm.Cond.static ({ cls := "AshCityModel", name := "isWeek", desc := "(I)Z" } : Jvm.MethodName)) ∈ lw_all := lw_g (lw_at lw_m7 199 rfl) rfl
theorem q1741 : (Jvm.Cond.code ({ cls := "AshCityModel", name := "isWeek", desc := "(I)Z" } : Jvm.MethodName) prog_27_method_3_code (1 : Nat) (Option.some Jvm.ClassFile.FieldType.boolean)) ∈ lw_all := lw_g (lw_at lw_m7 200 rfl) rfl
theorem q1742 : (Jvm.Cond.methodLink "AshCityModel" (327 : Nat) ({ cls := "AshCityModel", name := "groundOf", desc := "(IIII)I" } : Jvm.MethodName)) ∈ lw_all := lw_g (lw_at lw_m7 201 rfl) rfl
theorem q1743 : (Jvm.Cond.privateMethod ({ cls := "AshCityModel", name := "groundOf", desc := "(IIII)I" } : Jvm.MethodName)) ∈ lw_tbl := lw_at lw_m7 202 rfl
theorem q1744 : (Jvm.Cond.instanceMethod ({ cls := "AshCityModel", name := "groundOf", desc := "(IIII)I" } : Jvm.MethodName)) ∈ lw_all := lw_g (lw_at lw_m7 203 rfl) rfl
theorem q1745 : (Jvm.Cond.code ({ cls := "AshCityModel", name := "groundOf", desc := "(IIII)I" } : Jvm.MethodName) prog_27_method_19_code (12 : Nat) (Option.some Jvm.ClassFile.FieldType.int)) ∈ lw_all := lw_g (lw_at lw_m7 204 rfl) rfl
theorem q1746 : (Jvm.Cond.methodLink "AshCityModel" (314 : Nat) ({ cls := "AshCityModel", name := "isKnown", desc := "(II)Z" } : Jvm.MethodName)) ∈ lw_all := lw_g (lw_at lw_m7 205 rfl) rfl
theorem q1747 : (Jvm.Cond.privateMethod ({ cls := "AshCityModel", name := "isKnown", desc := "(II)Z" } : Jvm.MethodName)) ∈ lw_tbl := lw_at lw_m7 206 rfl
theorem q1748 : (Jvm.Cond.instanceMethod ({ cls := "AshCityModel", name := "isKnown", desc := "(II)Z" } : Jvm.MethodName)) ∈ lw_all := lw_g (lw_at lw_m7 207 rfl) rfl
theorem q1749 : (Jvm.Cond.code ({ cls := "AshCityModel", name := "isKnown", desc := "(II)Z" } : Jvm.MethodName) prog_27_method_17_code (3 : Nat) (Option.some Jvm.ClassFile.FieldType.boolean)) ∈ lw_all := lw_g (lw_at lw_m7 208 rfl) rfl
theorem q1750 : (Jvm.Cond.methodLink "AshCityModel" (317 : Nat) ({ cls := "AshCityModel", name := "has", desc := "(III)Z" } : Jvm.MethodName)) ∈ lw_all := lw_g (lw_at lw_m7 209 rfl) rfl
theorem q1751 : (Jvm.Cond.privateMethod ({ cls := "AshCityModel", name := "has", desc := "(III)Z" } : Jvm.MethodName)) ∈ lw_tbl := lw_at lw_m7 210 rfl
theorem q1752 : (Jvm.Cond.instanceMethod ({ cls := "AshCityModel", name := "has", desc := "(III)Z" } : Jvm.MethodName)) ∈ lw_all := lw_g (lw_at lw_m7 211 rfl) rfl
theorem q1753 : (Jvm.Cond.code ({ cls := "AshCityModel", name := "has", desc := "(III)Z" } : Jvm.MethodName) prog_27_method_18_code (4 : Nat) (Option.some Jvm.ClassFile.FieldType.boolean)) ∈ lw_all := lw_g (lw_at lw_m7 212 rfl) rfl
theorem q1755 : (Jvm.Cond.instanceMethod ({ cls := "AshCityModel", name := "first", desc := "(IIII)I" } : Jvm.MethodName)) ∈ lw_all := lw_g (lw_at lw_m7 214 rfl) rfl
theorem q1756 : (Jvm.Cond.selects "AshCityModel" ({ cls := "AshCityModel", name := "first", desc := "(IIII)I" } : Jvm.MethodName) ({ cls := "AshCityModel", name := "first", desc := "(IIII)I" } : Jvm.MethodName)) ∈ lw_all := lw_g (lw_at lw_m7 215 rfl) rfl
theorem q1757 : (Jvm.Cond.code ({ cls := "AshCityModel", name := "first", desc := "(IIII)I" } : Jvm.MethodName) prog_27_method_22_code (5 : Nat) (Option.some Jvm.ClassFile.FieldType.int)) ∈ lw_all := lw_g (lw_at lw_m7 216 rfl) rfl
theorem q1759 : (Jvm.Cond.instanceMethod ({ cls := "AshCityModel", name := "means", desc := "(IIIII)Z" } : Jvm.MethodName)) ∈ lw_all := lw_g (lw_at lw_m7 218 rfl) rfl
theorem q1760 : (Jvm.Cond.selects "AshCityModel" ({ cls := "AshCityModel", name := "means", desc := "(IIIII)Z" } : Jvm.MethodName) ({ cls := "AshCityModel", name := "means", desc := "(IIIII)Z" } : Jvm.MethodName)) ∈ lw_all := lw_g (lw_at lw_m7 219 rfl) rfl
theorem q1761 : (Jvm.Cond.code ({ cls := "AshCityModel", name := "means", desc := "(IIIII)Z" } : Jvm.MethodName) prog_27_method_23_code (6 : Nat) (Option.some Jvm.ClassFile.FieldType.boolean)) ∈ lw_all := lw_g (lw_at lw_m7 220 rfl) rfl
theorem q1762 : (Jvm.Cond.methodLink "AshCityModel" (331 : Nat) ({ cls := "AshCityModel", name := "isPlace", desc := "(I)Z" } : Jvm.MethodName)) ∈ lw_all := lw_g (lw_at lw_m7 221 rfl) rfl
theorem q1763 : (Jvm.Cond.privateMethod ({ cls := "AshCityModel", name := "isPlace", desc := "(I)Z" } : Jvm.MethodName)) ∈ lw_tbl := lw_at lw_m7 222 rfl
theorem q1764 : (Jvm.Cond.instanceMethod ({ cls := "AshCityModel", name := "isPlace", desc := "(I)Z" } : Jvm.MethodName)) ∈ lw_all := lw_g (lw_at lw_m7 223 rfl) rfl
theorem q1765 : (Jvm.Cond.code ({ cls := "AshCityModel", name := "isPlace", desc := "(I)Z" } : Jvm.MethodName) prog_27_method_11_code (2 : Nat) (Option.some Jvm.ClassFile.FieldType.boolean)) ∈ lw_all := lw_g (lw_at lw_m7 224 rfl) rfl
theorem q1767 : (Jvm.Cond.instanceMethod ({ cls := "AshCityModel", name := "meaning", desc := "(III)I" } : Jvm.MethodName)) ∈ lw_all := lw_g (lw_at lw_m7 226 rfl) rfl
theorem q1768 : (Jvm.Cond.selects "AshCityModel" ({ cls := "AshCityModel", name := "meaning", desc := "(III)I" } : Jvm.MethodName) ({ cls := "AshCityModel", name := "meaning", desc := "(III)I" } : Jvm.MethodName)) ∈ lw_all := lw_g (lw_at lw_m7 227 rfl) rfl
theorem q1769 : (Jvm.Cond.code ({ cls := "AshCityModel", name := "meaning", desc := "(III)I" } : Jvm.MethodName) prog_27_method_25_code (4 : Nat) (Option.some Jvm.ClassFile.FieldType.int)) ∈ lw_all := lw_g (lw_at lw_m7 228 rfl) rfl
theorem q1770 : (Jvm.Cond.methodLink "AshCityModel" (337 : Nat) ({ cls := "AshCityModel", name := "meaningOf", desc := "(III)I" } : Jvm.MethodName)) ∈ lw_all := lw_g (lw_at lw_m7 229 rfl) rfl
theorem q1771 : (Jvm.Cond.privateMethod ({ cls := "AshCityModel", name := "meaningOf", desc := "(III)I" } : Jvm.MethodName)) ∈ lw_tbl := lw_at lw_m7 230 rfl
theorem q1772 : (Jvm.Cond.instanceMethod ({ cls := "AshCityModel", name := "meaningOf", desc := "(III)I" } : Jvm.MethodName)) ∈ lw_all := lw_g (lw_at lw_m7 231 rfl) rfl
theorem q1773 : (Jvm.Cond.code ({ cls := "AshCityModel", name := "meaningOf", desc := "(III)I" } : Jvm.MethodName) prog_27_method_24_code (5 : Nat) (Option.some Jvm.ClassFile.FieldType.int)) ∈ lw_all := lw_g (lw_at lw_m7 232 rfl) rfl
theorem q1775 : (Jvm.Cond.instanceMethod ({ cls := "AshCityModel", name := "feed", desc := "(IIIII)I" } : Jvm.MethodName)) ∈ lw_all := lw_g (lw_at lw_m7 234 rfl) rfl
theorem q1776 : (Jvm.Cond.selects "AshCityModel" ({ cls := "AshCityModel", name := "feed", desc := "(IIIII)I" } : Jvm.MethodName) ({ cls := "AshCityModel", name := "feed", desc := "(IIIII)I" } : Jvm.MethodName)) ∈ lw_all := lw_g (lw_at lw_m7 235 rfl) rfl
theorem q1777 : (Jvm.Cond.code ({ cls := "AshCityModel", name := "feed", desc := "(IIIII)I" } : Jvm.MethodName) prog_27_method_27_code (6 : Nat) (Option.some Jvm.ClassFile.FieldType.int)) ∈ lw_all := lw_g (lw_at lw_m7 236 rfl) rfl
theorem q1778 : (Jvm.Cond.methodLink "AshCityModel" (344 : Nat) ({ cls := "AshCityModel", name := "types", desc := "(I)V" } : Jvm.MethodName)) ∈ lw_all := lw_g (lw_at lw_m7 237 rfl) rfl
theorem q1779 : (Jvm.Cond.privateMethod ({ cls := "AshCityModel", name := "types", desc := "(I)V" } : Jvm.MethodName)) ∈ lw_tbl := lw_at lw_m7 238 rfl
theorem q1780 : (Jvm.Cond.instanceMethod ({ cls := "AshCityModel", name := "types", desc := "(I)V" } : Jvm.MethodName)) ∈ lw_all := lw_g (lw_at lw_m7 239 rfl) rfl
theorem q1781 : (Jvm.Cond.code ({ cls := "AshCityModel", name := "types", desc := "(I)V" } : Jvm.MethodName) prog_27_method_26_code (3 : Nat) (Option.none : Option Jvm.ClassFile.FieldType)) ∈ lw_all := lw_g (lw_at lw_m8 0 rfl) rfl
theorem q1783 : (Jvm.Cond.instanceMethod ({ cls := "AshCityModel", name := "rules", desc := "(III)I" } : Jvm.MethodName)) ∈ lw_all := lw_g (lw_at lw_m8 2 rfl) rfl
theorem q1784 : (Jvm.Cond.selects "AshCityModel" ({ cls := "AshCityModel", name := "rules", desc := "(III)I" } : Jvm.MethodName) ({ cls := "AshCityModel", name := "rules", desc := "(III)I" } : Jvm.MethodName)) ∈ lw_all := lw_g (lw_at lw_m8 3 rfl) rfl
theorem q1785 : (Jvm.Cond.code ({ cls := "AshCityModel", name := "rules", desc := "(III)I" } : Jvm.MethodName) prog_27_method_50_code (7 : Nat) (Option.some Jvm.ClassFile.FieldType.int)) ∈ lw_all := lw_g (lw_at lw_m8 4 rfl) rfl
theorem q1786 : (Jvm.Cond.methodLink "AshCityModel" (444 : Nat) ({ cls := "AshCityModel", name := "readsClause", desc := "()Z" } : Jvm.MethodName)) ∈ lw_all := lw_g (lw_at lw_m8 5 rfl) rfl
theorem q1787 : (Jvm.Cond.privateMethod ({ cls := "AshCityModel", name := "readsClause", desc := "()Z" } : Jvm.MethodName)) ∈ lw_tbl := lw_at lw_m8 6 rfl
theorem q1788 : (Jvm.Cond.instanceMethod ({ cls := "AshCityModel", name := "readsClause", desc := "()Z" } : Jvm.MethodName)) ∈ lw_all := lw_g (lw_at lw_m8 7 rfl) rfl
theorem q1789 : (Jvm.Cond.code ({ cls := "AshCityModel", name := "readsClause", desc := "()Z" } : Jvm.MethodName) prog_27_method_49_code (3 : Nat) (Option.some Jvm.ClassFile.FieldType.boolean)) ∈ lw_all := lw_g (lw_at lw_m8 8 rfl) rfl
theorem q1790 : (Jvm.Cond.methodLink "AshCityModel" (354 : Nat) ({ cls := "AshCityModel", name := "byteHere", desc := "()I" } : Jvm.MethodName)) ∈ lw_all := lw_g (lw_at lw_m8 9 rfl) rfl
theorem q1791 : (Jvm.Cond.privateMethod ({ cls := "AshCityModel", name := "byteHere", desc := "()I" } : Jvm.MethodName)) ∈ lw_tbl := lw_at lw_m8 10 rfl
theorem q1792 : (Jvm.Cond.instanceMethod ({ cls := "AshCityModel", name := "byteHere", desc := "()I" } : Jvm.MethodName)) ∈ lw_all := lw_g (lw_at lw_m8 11 rfl) rfl
theorem q1793 : (Jvm.Cond.code ({ cls := "AshCityModel", name := "byteHere", desc := "()I" } : Jvm.MethodName) prog_27_method_28_code (1 : Nat) (Option.some Jvm.ClassFile.FieldType.int)) ∈ lw_all := lw_g (lw_at lw_m8 12 rfl) rfl
theorem q1794 : (Jvm.Cond.methodLink "AshCityModel" (426 : Nat) ({ cls := "AshCityModel", name := "isLetter", desc := "(I)Z" } : Jvm.MethodName)) ∈ lw_all := lw_g (lw_at lw_m8 13 rfl) rfl
theorem q1795 : (Jvm.Cond.static ({ cls := "AshCityModel", name := "isLetter", desc := "(I)Z" } : Jvm.MethodName)) ∈ lw_all := lw_g (lw_at lw_m8 14 rfl) rfl
theorem q1796 : (Jvm.Cond.code ({ cls := "AshCityModel", name := "isLetter", desc := "(I)Z" } : Jvm.MethodName) prog_27_method_47_code (1 : Nat) (Option.some Jvm.ClassFile.FieldType.boolean)) ∈ lw_all := lw_g (lw_at lw_m8 15 rfl) rfl
theorem q1797 : (Jvm.Cond.methodLink "AshCityModel" (361 : Nat) ({ cls := "AshCityModel", name := "wrong", desc := "(II)Z" } : Jvm.MethodName)) ∈ lw_all := lw_g (lw_at lw_m8 16 rfl) rfl
theorem q1798 : (Jvm.Cond.privateMethod ({ cls := "AshCityModel", name := "wrong", desc := "(II)Z" } : Jvm.MethodName)) ∈ lw_tbl := lw_at lw_m8 17 rfl
theorem q1799 : (Jvm.Cond.instanceMethod ({ cls := "AshCityModel", name := "wrong", desc := "(II)Z" } : Jvm.MethodName)) ∈ lw_all := lw_g (lw_at lw_m8 18 rfl) rfl
theorem q1800 : (Jvm.Cond.code ({ cls := "AshCityModel", name := "wrong", desc := "(II)Z" } : Jvm.MethodName) prog_27_method_30_code (3 : Nat) (Option.some Jvm.ClassFile.FieldType.boolean)) ∈ lw_all := lw_g (lw_at lw_m8 19 rfl) rfl
theorem q1801 : (Jvm.Cond.methodLink "AshCityModel" (432 : Nat) ({ cls := "AshCityModel", name := "mostOf", desc := "(I)I" } : Jvm.MethodName)) ∈ lw_all := lw_g (lw_at lw_m8 20 rfl) rfl
theorem q1802 : (Jvm.Cond.static ({ cls := "AshCityModel", name := "mostOf", desc := "(I)I" } : Jvm.MethodName)) ∈ lw_all := lw_g (lw_at lw_m8 21 rfl) rfl
theorem q1803 : (Jvm.Cond.code ({ cls := "AshCityModel", name := "mostOf", desc := "(I)I" } : Jvm.MethodName) prog_27_method_48_code (1 : Nat) (Option.some Jvm.ClassFile.FieldType.int)) ∈ lw_all := lw_g (lw_at lw_m8 22 rfl) rfl
theorem q1804 : (Jvm.Cond.methodLink "AshCityModel" (391 : Nat) ({ cls := "AshCityModel", name := "readsNumber", desc := "(I)Z" } : Jvm.MethodName)) ∈ lw_all := lw_g (lw_at lw_m8 23 rfl) rfl
theorem q1805 : (Jvm.Cond.privateMethod ({ cls := "AshCityModel", name := "readsNumber", desc := "(I)Z" } : Jvm.MethodName)) ∈ lw_tbl := lw_at lw_m8 24 rfl
theorem q1806 : (Jvm.Cond.instanceMethod ({ cls := "AshCityModel", name := "readsNumber", desc := "(I)Z" } : Jvm.MethodName)) ∈ lw_all := lw_g (lw_at lw_m8 25 rfl) rfl
theorem q1807 : (Jvm.Cond.code ({ cls := "AshCityModel", name := "readsNumber", desc := "(I)Z" } : Jvm.MethodName) prog_27_method_32_code (3 : Nat) (Option.some Jvm.ClassFile.FieldType.boolean)) ∈ lw_all := lw_g (lw_at lw_m8 26 rfl) rfl
theorem q1808 : (Jvm.Cond.methodLink "AshCityModel" (367 : Nat) ({ cls := "AshCityModel", name := "isDigit", desc := "()Z" } : Jvm.MethodName)) ∈ lw_all := lw_g (lw_at lw_m8 27 rfl) rfl
theorem q1809 : (Jvm.Cond.privateMethod ({ cls := "AshCityModel", name := "isDigit", desc := "()Z" } : Jvm.MethodName)) ∈ lw_tbl := lw_at lw_m8 28 rfl
theorem q1810 : (Jvm.Cond.instanceMethod ({ cls := "AshCityModel", name := "isDigit", desc := "()Z" } : Jvm.MethodName)) ∈ lw_all := lw_g (lw_at lw_m8 29 rfl) rfl
theorem q1811 : (Jvm.Cond.code ({ cls := "AshCityModel", name := "isDigit", desc := "()Z" } : Jvm.MethodName) prog_27_method_29_code (1 : Nat) (Option.some Jvm.ClassFile.FieldType.boolean)) ∈ lw_all := lw_g (lw_at lw_m8 30 rfl) rfl
theorem q1812 : (Jvm.Cond.methodLink "AshCityModel" (435 : Nat) ({ cls := "AshCityModel", name := "takes", desc := "(I)Z" } : Jvm.MethodName)) ∈ lw_all := lw_g (lw_at lw_m8 31 rfl) rfl
theorem q1813 : (Jvm.Cond.privateMethod ({ cls := "AshCityModel", name := "takes", desc := "(I)Z" } : Jvm.MethodName)) ∈ lw_tbl := lw_at lw_m8 32 rfl
theorem q1814 : (Jvm.Cond.instanceMethod ({ cls := "AshCityModel", name := "takes", desc := "(I)Z" } : Jvm.MethodName)) ∈ lw_all := lw_g (lw_at lw_m8 33 rfl) rfl
theorem q1815 : (Jvm.Cond.code ({ cls := "AshCityModel", name := "takes", desc := "(I)Z" } : Jvm.MethodName) prog_27_method_31_code (2 : Nat) (Option.some Jvm.ClassFile.FieldType.boolean)) ∈ lw_all := lw_g (lw_at lw_m8 34 rfl) rfl
theorem q1816 : (Jvm.Cond.methodLink "AshCityModel" (438 : Nat) ({ cls := "AshCityModel", name := "readsCondition", desc := "()Z" } : Jvm.MethodName)) ∈ lw_all := lw_g (lw_at lw_m8 35 rfl) rfl
theorem q1817 : (Jvm.Cond.privateMethod ({ cls := "AshCityModel", name := "readsCondition", desc := "()Z" } : Jvm.MethodName)) ∈ lw_tbl := lw_at lw_m8 36 rfl
theorem q1818 : (Jvm.Cond.instanceMethod ({ cls := "AshCityModel", name := "readsCondition", desc := "()Z" } : Jvm.MethodName)) ∈ lw_all := lw_g (lw_at lw_m8 37 rfl) rfl
theorem q1819 : (Jvm.Cond.code ({ cls := "AshCityModel", name := "readsCondition", desc := "()Z" } : Jvm.MethodName) prog_27_method_46_code (1 : Nat) (Option.some Jvm.ClassFile.FieldType.boolean)) ∈ lw_all := lw_g (lw_at lw_m8 38 rfl) rfl
theorem q1820 : (Jvm.Cond.methodLink "AshCityModel" (387 : Nat) ({ cls := "AshCityModel", name := "opens", desc := "(I)Z" } : Jvm.MethodName)) ∈ lw_all := lw_g (lw_at lw_m8 39 rfl) rfl
theorem q1821 : (Jvm.Cond.privateMethod ({ cls := "AshCityModel", name := "opens", desc := "(I)Z" } : Jvm.MethodName)) ∈ lw_tbl := lw_at lw_m8 40 rfl
theorem q1822 : (Jvm.Cond.instanceMethod ({ cls := "AshCityModel", name := "opens", desc := "(I)Z" } : Jvm.MethodName)) ∈ lw_all := lw_g (lw_at lw_m8 41 rfl) rfl
theorem q1823 : (Jvm.Cond.code ({ cls := "AshCityModel", name := "opens", desc := "(I)Z" } : Jvm.MethodName) prog_27_method_34_code (2 : Nat) (Option.some Jvm.ClassFile.FieldType.boolean)) ∈ lw_all := lw_g (lw_at lw_m8 42 rfl) rfl
theorem q1824 : (Jvm.Cond.constant "AshCityModel" (374 : Nat) (1048576 : Int32)) ∈ lw_all := lw_g (lw_at lw_m8 43 rfl) rfl
theorem q1825 : (Jvm.Cond.methodLink "AshCityModel" (417 : Nat) ({ cls := "AshCityModel", name := "readsCompared", desc := "()Z" } : Jvm.MethodName)) ∈ lw_all := lw_g (lw_at lw_m8 44 rfl) rfl
theorem q1826 : (Jvm.Cond.privateMethod ({ cls := "AshCityModel", name := "readsCompared", desc := "()Z" } : Jvm.MethodName)) ∈ lw_tbl := lw_at lw_m8 45 rfl
theorem q1827 : (Jvm.Cond.instanceMethod ({ cls := "AshCityModel", name := "readsCompared", desc := "()Z" } : Jvm.MethodName)) ∈ lw_all := lw_g (lw_at lw_m8 46 rfl) rfl
theorem q1828 : (Jvm.Cond.code ({ cls := "AshCityModel", name := "readsCompared", desc := "()Z" } : Jvm.MethodName) prog_27_method_45_code (2 : Nat) (Option.some Jvm.ClassFile.FieldType.boolean)) ∈ lw_all := lw_g (lw_at lw_m8 47 rfl) rfl
theorem q1829 : (Jvm.Cond.methodLink "AshCityModel" (411 : Nat) ({ cls := "AshCityModel", name := "readsSum", desc := "()Z" } : Jvm.MethodName)) ∈ lw_all := lw_g (lw_at lw_m8 48 rfl) rfl
theorem q1830 : (Jvm.Cond.privateMethod ({ cls := "AshCityModel", name := "readsSum", desc := "()Z" } : Jvm.MethodName)) ∈ lw_tbl := lw_at lw_m8 49 rfl
theorem q1831 : (Jvm.Cond.instanceMethod ({ cls := "AshCityModel", name := "readsSum", desc := "()Z" } : Jvm.MethodName)) ∈ lw_all := lw_g (lw_at lw_m8 50 rfl) rfl
theorem q1832 : (Jvm.Cond.code ({ cls := "AshCityModel", name := "readsSum", desc := "()Z" } : Jvm.MethodName) prog_27_method_41_code (3 : Nat) (Option.some Jvm.ClassFile.FieldType.boolean)) ∈ lw_all := lw_g (lw_at lw_m8 51 rfl) rfl
theorem q1833 : (Jvm.Cond.methodLink "AshCityModel" (398 : Nat) ({ cls := "AshCityModel", name := "readsFactor", desc := "()Z" } : Jvm.MethodName)) ∈ lw_all := lw_g (lw_at lw_m8 52 rfl) rfl
theorem q1834 : (Jvm.Cond.privateMethod ({ cls := "AshCityModel", name := "readsFactor", desc := "()Z" } : Jvm.MethodName)) ∈ lw_tbl := lw_at lw_m8 53 rfl
theorem q1835 : (Jvm.Cond.instanceMethod ({ cls := "AshCityModel", name := "readsFactor", desc := "()Z" } : Jvm.MethodName)) ∈ lw_all := lw_g (lw_at lw_m8 54 rfl) rfl
theorem q1836 : (Jvm.Cond.code ({ cls := "AshCityModel", name := "readsFactor", desc := "()Z" } : Jvm.MethodName) prog_27_method_39_code (2 : Nat) (Option.some Jvm.ClassFile.FieldType.boolean)) ∈ lw_all := lw_g (lw_at lw_m8 55 rfl) rfl
theorem q1837 : (Jvm.Cond.constant "AshCityModel" (390 : Nat) (99999 : Int32)) ∈ lw_all := lw_g (lw_at lw_m8 56 rfl) rfl
theorem q1838 : (Jvm.Cond.methodLink "AshCityModel" (384 : Nat) ({ cls := "AshCityModel", name := "says", desc := "(II)V" } : Jvm.MethodName)) ∈ lw_all := lw_g (lw_at lw_m8 57 rfl) rfl
theorem q1839 : (Jvm.Cond.privateMethod ({ cls := "AshCityModel", name := "says", desc := "(II)V" } : Jvm.MethodName)) ∈ lw_tbl := lw_at lw_m8 58 rfl
theorem q1840 : (Jvm.Cond.instanceMethod ({ cls := "AshCityModel", name := "says", desc := "(II)V" } : Jvm.MethodName)) ∈ lw_all := lw_g (lw_at lw_m8 59 rfl) rfl
theorem q1841 : (Jvm.Cond.code ({ cls := "AshCityModel", name := "says", desc := "(II)V" } : Jvm.MethodName) prog_27_method_33_code (3 : Nat) (Option.none : Option Jvm.ClassFile.FieldType)) ∈ lw_all := lw_g (lw_at lw_m8 60 rfl) rfl
theorem q1842 : (Jvm.Cond.methodLink "AshCityModel" (394 : Nat) ({ cls := "AshCityModel", name := "factOf", desc := "(I)I" } : Jvm.MethodName)) ∈ lw_all := lw_g (lw_at lw_m8 61 rfl) rfl
theorem q1843 : (Jvm.Cond.static ({ cls := "AshCityModel", name := "factOf", desc := "(I)I" } : Jvm.MethodName)) ∈ lw_all := lw_g (lw_at lw_m8 62 rfl) rfl
theorem q1844 : (Jvm.Cond.code ({ cls := "AshCityModel", name := "factOf", desc := "(I)I" } : Jvm.MethodName) prog_27_method_36_code (1 : Nat) (Option.some Jvm.ClassFile.FieldType.int)) ∈ lw_all := lw_g (lw_at lw_m8 63 rfl) rfl
theorem q1845 : (Jvm.Cond.methodLink "AshCityModel" (401 : Nat) ({ cls := "AshCityModel", name := "sumSign", desc := "(I)I" } : Jvm.MethodName)) ∈ lw_all := lw_g (lw_at lw_m8 64 rfl) rfl
theorem q1846 : (Jvm.Cond.static ({ cls := "AshCityModel", name := "sumSign", desc := "(I)I" } : Jvm.MethodName)) ∈ lw_all := lw_g (lw_at lw_m8 65 rfl) rfl
theorem q1847 : (Jvm.Cond.code ({ cls := "AshCityModel", name := "sumSign", desc := "(I)I" } : Jvm.MethodName) prog_27_method_37_code (1 : Nat) (Option.some Jvm.ClassFile.FieldType.int)) ∈ lw_all := lw_g (lw_at lw_m8 66 rfl) rfl
theorem q1848 : (Jvm.Cond.methodLink "AshCityModel" (404 : Nat) ({ cls := "AshCityModel", name := "closesSums", desc := "(Z)V" } : Jvm.MethodName)) ∈ lw_all := lw_g (lw_at lw_m8 67 rfl) rfl
theorem q1849 : (Jvm.Cond.privateMethod ({ cls := "AshCityModel", name := "closesSums", desc := "(Z)V" } : Jvm.MethodName)) ∈ lw_tbl := lw_at lw_m8 68 rfl
theorem q1850 : (Jvm.Cond.instanceMethod ({ cls := "AshCityModel", name := "closesSums", desc := "(Z)V" } : Jvm.MethodName)) ∈ lw_all := lw_g (lw_at lw_m8 69 rfl) rfl
theorem q1851 : (Jvm.Cond.code ({ cls := "AshCityModel", name := "closesSums", desc := "(Z)V" } : Jvm.MethodName) prog_27_method_38_code (2 : Nat) (Option.none : Option Jvm.ClassFile.FieldType)) ∈ lw_all := lw_g (lw_at lw_m8 70 rfl) rfl
theorem q1852 : (Jvm.Cond.methodLink "AshCityModel" (381 : Nat) ({ cls := "AshCityModel", name := "top", desc := "()I" } : Jvm.MethodName)) ∈ lw_all := lw_g (lw_at lw_m8 71 rfl) rfl
theorem q1853 : (Jvm.Cond.privateMethod ({ cls := "AshCityModel", name := "top", desc := "()I" } : Jvm.MethodName)) ∈ lw_tbl := lw_at lw_m8 72 rfl
theorem q1854 : (Jvm.Cond.instanceMethod ({ cls := "AshCityModel", name := "top", desc := "()I" } : Jvm.MethodName)) ∈ lw_all := lw_g (lw_at lw_m8 73 rfl) rfl
theorem q1855 : (Jvm.Cond.code ({ cls := "AshCityModel", name := "top", desc := "()I" } : Jvm.MethodName) prog_27_method_35_code (1 : Nat) (Option.some Jvm.ClassFile.FieldType.int)) ∈ lw_all := lw_g (lw_at lw_m8 74 rfl) rfl
theorem q1856 : (Jvm.Cond.methodLink "AshCityModel" (408 : Nat) ({ cls := "AshCityModel", name := "hasOpenSum", desc := "(I)Z" } : Jvm.MethodName)) ∈ lw_all := lw_g (lw_at lw_m8 75 rfl) rfl
theorem q1857 : (Jvm.Cond.privateMethod ({ cls := "AshCityModel", name := "hasOpenSum", desc := "(I)Z" } : Jvm.MethodName)) ∈ lw_tbl := lw_at lw_m8 76 rfl
theorem q1858 : (Jvm.Cond.instanceMethod ({ cls := "AshCityModel", name := "hasOpenSum", desc := "(I)Z" } : Jvm.MethodName)) ∈ lw_all := lw_g (lw_at lw_m8 77 rfl) rfl
theorem q1859 : (Jvm.Cond.code ({ cls := "AshCityModel", name := "hasOpenSum", desc := "(I)Z" } : Jvm.MethodName) prog_27_method_40_code (3 : Nat) (Option.some Jvm.ClassFile.FieldType.boolean)) ∈ lw_all := lw_g (lw_at lw_m8 78 rfl) rfl
theorem q1860 : (Jvm.Cond.methodLink "AshCityModel" (414 : Nat) ({ cls := "AshCityModel", name := "endsPiece", desc := "()V" } : Jvm.MethodName)) ∈ lw_all := lw_g (lw_at lw_m8 79 rfl) rfl
theorem q1861 : (Jvm.Cond.privateMethod ({ cls := "AshCityModel", name := "endsPiece", desc := "()V" } : Jvm.MethodName)) ∈ lw_tbl := lw_at lw_m8 80 rfl
theorem q1862 : (Jvm.Cond.instanceMethod ({ cls := "AshCityModel", name := "endsPiece", desc := "()V" } : Jvm.MethodName)) ∈ lw_all := lw_g (lw_at lw_m8 81 rfl) rfl
theorem q1863 : (Jvm.Cond.code ({ cls := "AshCityModel", name := "endsPiece", desc := "()V" } : Jvm.MethodName) prog_27_method_42_code (1 : Nat) (Option.none : Option Jvm.ClassFile.FieldType)) ∈ lw_all := lw_g (lw_at lw_m8 82 rfl) rfl
theorem q1864 : (Jvm.Cond.methodLink "AshCityModel" (420 : Nat) ({ cls := "AshCityModel", name := "lands", desc := "(Z)V" } : Jvm.MethodName)) ∈ lw_all := lw_g (lw_at lw_m8 83 rfl) rfl
theorem q1865 : (Jvm.Cond.privateMethod ({ cls := "AshCityModel", name := "lands", desc := "(Z)V" } : Jvm.MethodName)) ∈ lw_tbl := lw_at lw_m8 84 rfl
theorem q1866 : (Jvm.Cond.instanceMethod ({ cls := "AshCityModel", name := "lands", desc := "(Z)V" } : Jvm.MethodName)) ∈ lw_all := lw_g (lw_at lw_m8 85 rfl) rfl
theorem q1867 : (Jvm.Cond.code ({ cls := "AshCityModel", name := "lands", desc := "(Z)V" } : Jvm.MethodName) prog_27_method_43_code (3 : Nat) (Option.none : Option Jvm.ClassFile.FieldType)) ∈ lw_all := lw_g (lw_at lw_m8 86 rfl) rfl
theorem q1868 : (Jvm.Cond.methodLink "AshCityModel" (423 : Nat) ({ cls := "AshCityModel", name := "jumps", desc := "(I)V" } : Jvm.MethodName)) ∈ lw_all := lw_g (lw_at lw_m8 87 rfl) rfl
theorem q1869 : (Jvm.Cond.privateMethod ({ cls := "AshCityModel", name := "jumps", desc := "(I)V" } : Jvm.MethodName)) ∈ lw_tbl := lw_at lw_m8 88 rfl
theorem q1870 : (Jvm.Cond.instanceMethod ({ cls := "AshCityModel", name := "jumps", desc := "(I)V" } : Jvm.MethodName)) ∈ lw_all := lw_g (lw_at lw_m8 89 rfl) rfl
theorem q1871 : (Jvm.Cond.code ({ cls := "AshCityModel", name := "jumps", desc := "(I)V" } : Jvm.MethodName) prog_27_method_44_code (2 : Nat) (Option.none : Option Jvm.ClassFile.FieldType)) ∈ lw_all := lw_g (lw_at lw_m8 90 rfl) rfl
theorem q1873 : (Jvm.Cond.instanceMethod ({ cls := "AshCityModel", name := "number", desc := "(IIIIII)I" } : Jvm.MethodName)) ∈ lw_all := lw_g (lw_at lw_m8 92 rfl) rfl
theorem q1874 : (Jvm.Cond.selects "AshCityModel" ({ cls := "AshCityModel", name := "number", desc := "(IIIIII)I" } : Jvm.MethodName) ({ cls := "AshCityModel", name := "number", desc := "(IIIIII)I" } : Jvm.MethodName)) ∈ lw_all := lw_g (lw_at lw_m8 93 rfl) rfl
theorem q1875 : (Jvm.Cond.code ({ cls := "AshCityModel", name := "number", desc := "(IIIIII)I" } : Jvm.MethodName) prog_27_method_58_code (7 : Nat) (Option.some Jvm.ClassFile.FieldType.int)) ∈ lw_all := lw_g (lw_at lw_m8 94 rfl) rfl
theorem q1876 : (Jvm.Cond.methodLink "AshCityModel" (459 : Nat) ({ cls := "AshCityModel", name := "setsFacts", desc := "(IIIII)V" } : Jvm.MethodName)) ∈ lw_all := lw_g (lw_at lw_m8 95 rfl) rfl
theorem q1877 : (Jvm.Cond.privateMethod ({ cls := "AshCityModel", name := "setsFacts", desc := "(IIIII)V" } : Jvm.MethodName)) ∈ lw_tbl := lw_at lw_m8 96 rfl
theorem q1878 : (Jvm.Cond.instanceMethod ({ cls := "AshCityModel", name := "setsFacts", desc := "(IIIII)V" } : Jvm.MethodName)) ∈ lw_all := lw_g (lw_at lw_m8 97 rfl) rfl
theorem q1879 : (Jvm.Cond.code ({ cls := "AshCityModel", name := "setsFacts", desc := "(IIIII)V" } : Jvm.MethodName) prog_27_method_55_code (6 : Nat) (Option.none : Option Jvm.ClassFile.FieldType)) ∈ lw_all := lw_g (lw_at lw_m8 98 rfl) rfl
theorem q1880 : (Jvm.Cond.methodLink "AshCityModel" (463 : Nat) ({ cls := "AshCityModel", name := "numberBy", desc := "(II)I" } : Jvm.MethodName)) ∈ lw_all := lw_g (lw_at lw_m8 99 rfl) rfl
theorem q1881 : (Jvm.Cond.privateMethod ({ cls := "AshCityModel", name := "numberBy", desc := "(II)I" } : Jvm.MethodName)) ∈ lw_tbl := lw_at lw_m8 100 rfl
theorem q1882 : (Jvm.Cond.instanceMethod ({ cls := "AshCityModel", name := "numberBy", desc := "(II)I" } : Jvm.MethodName)) ∈ lw_all := lw_g (lw_at lw_m8 101 rfl) rfl
theorem q1883 : (Jvm.Cond.code ({ cls := "AshCityModel", name := "numberBy", desc := "(II)I" } : Jvm.MethodName) prog_27_method_56_code (6 : Nat) (Option.some Jvm.ClassFile.FieldType.int)) ∈ lw_all := lw_g (lw_at lw_m8 102 rfl) rfl
theorem q1884 : (Jvm.Cond.methodLink "AshCityModel" (453 : Nat) ({ cls := "AshCityModel", name := "strikes", desc := "(I)V" } : Jvm.MethodName)) ∈ lw_all := lw_g (lw_at lw_m8 103 rfl) rfl
theorem q1885 : (Jvm.Cond.privateMethod ({ cls := "AshCityModel", name := "strikes", desc := "(I)V" } : Jvm.MethodName)) ∈ lw_tbl := lw_at lw_m8 104 rfl
theorem q1886 : (Jvm.Cond.instanceMethod ({ cls := "AshCityModel", name := "strikes", desc := "(I)V" } : Jvm.MethodName)) ∈ lw_all := lw_g (lw_at lw_m8 105 rfl) rfl
theorem q1887 : (Jvm.Cond.code ({ cls := "AshCityModel", name := "strikes", desc := "(I)V" } : Jvm.MethodName) prog_27_method_52_code (5 : Nat) (Option.none : Option Jvm.ClassFile.FieldType)) ∈ lw_all := lw_g (lw_at lw_m8 106 rfl) rfl
theorem q1888 : (Jvm.Cond.methodLink "AshCityModel" (447 : Nat) ({ cls := "AshCityModel", name := "isForce", desc := "(II)Z" } : Jvm.MethodName)) ∈ lw_all := lw_g (lw_at lw_m8 107 rfl) rfl
theorem q1889 : (Jvm.Cond.privateMethod ({ cls := "AshCityModel", name := "isForce", desc := "(II)Z" } : Jvm.MethodName)) ∈ lw_tbl := lw_at lw_m8 108 rfl
theorem q1890 : (Jvm.Cond.instanceMethod ({ cls := "AshCityModel", name := "isForce", desc := "(II)Z" } : Jvm.MethodName)) ∈ lw_all := lw_g (lw_at lw_m8 109 rfl) rfl
theorem q1891 : (Jvm.Cond.code ({ cls := "AshCityModel", name := "isForce", desc := "(II)Z" } : Jvm.MethodName) prog_27_method_51_code (3 : Nat) (Option.some Jvm.ClassFile.FieldType.boolean)) ∈ lw_all := lw_g (lw_at lw_m8 110 rfl) rfl
theorem q1892 : (Jvm.Cond.methodLink "AshCityModel" (456 : Nat) ({ cls := "AshCityModel", name := "isTrue", desc := "(I)Z" } : Jvm.MethodName)) ∈ lw_all := lw_g (lw_at lw_m8 111 rfl) rfl
theorem q1893 : (Jvm.Cond.privateMethod ({ cls := "AshCityModel", name := "isTrue", desc := "(I)Z" } : Jvm.MethodName)) ∈ lw_tbl := lw_at lw_m8 112 rfl
theorem q1894 : (Jvm.Cond.instanceMethod ({ cls := "AshCityModel", name := "isTrue", desc := "(I)Z" } : Jvm.MethodName)) ∈ lw_all := lw_g (lw_at lw_m8 113 rfl) rfl
theorem q1895 : (Jvm.Cond.code ({ cls := "AshCityModel", name := "isTrue", desc := "(I)Z" } : Jvm.MethodName) prog_27_method_54_code (7 : Nat) (Option.some Jvm.ClassFile.FieldType.boolean)) ∈ lw_all := lw_g (lw_at lw_m8 114 rfl) rfl
theorem q1896 : (Jvm.Cond.methodLink "AshCityModel" (450 : Nat) ({ cls := "AshCityModel", name := "reckon", desc := "(III)I" } : Jvm.MethodName)) ∈ lw_all := lw_g (lw_at lw_m8 115 rfl) rfl
theorem q1897 : (Jvm.Cond.static ({ cls := "AshCityModel", name := "reckon", desc := "(III)I" } : Jvm.MethodName)) ∈ lw_all := lw_g (lw_at lw_m8 116 rfl) rfl
theorem q1898 : (Jvm.Cond.code ({ cls := "AshCityModel", name := "reckon", desc := "(III)I" } : Jvm.MethodName) prog_27_method_53_code (3 : Nat) (Option.some Jvm.ClassFile.FieldType.int)) ∈ lw_all := lw_g (lw_at lw_m8 117 rfl) rfl
theorem q1899 : (Jvm.Cond.methodLink "AshCityModel" (467 : Nat) ({ cls := "AshCityModel", name := "numberings", desc := "()I" } : Jvm.MethodName)) ∈ lw_all := lw_g (lw_at lw_m8 118 rfl) rfl
theorem q1900 : (Jvm.Cond.privateMethod ({ cls := "AshCityModel", name := "numberings", desc := "()I" } : Jvm.MethodName)) ∈ lw_tbl := lw_at lw_m8 119 rfl
theorem q1901 : (Jvm.Cond.instanceMethod ({ cls := "AshCityModel", name := "numberings", desc := "()I" } : Jvm.MethodName)) ∈ lw_all := lw_g (lw_at lw_m8 120 rfl) rfl
theorem q1902 : (Jvm.Cond.code ({ cls := "AshCityModel", name := "numberings", desc := "()I" } : Jvm.MethodName) prog_27_method_57_code (5 : Nat) (Option.some Jvm.ClassFile.FieldType.int)) ∈ lw_all := lw_g (lw_at lw_m8 121 rfl) rfl
theorem q1904 : (Jvm.Cond.instanceMethod ({ cls := "AshCityModel", name := "find", desc := "(IIIIIIII)I" } : Jvm.MethodName)) ∈ lw_all := lw_g (lw_at lw_m8 123 rfl) rfl
theorem q1905 : (Jvm.Cond.selects "AshCityModel" ({ cls := "AshCityModel", name := "find", desc := "(IIIIIIII)I" } : Jvm.MethodName) ({ cls := "AshCityModel", name := "find", desc := "(IIIIIIII)I" } : Jvm.MethodName)) ∈ lw_all := lw_g (lw_at lw_m8 124 rfl) rfl
theorem q1906 : (Jvm.Cond.code ({ cls := "AshCityModel", name := "find", desc := "(IIIIIIII)I" } : Jvm.MethodName) prog_27_method_59_code (9 : Nat) (Option.some Jvm.ClassFile.FieldType.int)) ∈ lw_all := lw_g (lw_at lw_m8 125 rfl) rfl
theorem q1908 : (Jvm.Cond.instanceMethod ({ cls := "AshCityModel", name := "may", desc := "(II)I" } : Jvm.MethodName)) ∈ lw_all := lw_g (lw_at lw_m8 127 rfl) rfl
theorem q1909 : (Jvm.Cond.selects "AshCityModel" ({ cls := "AshCityModel", name := "may", desc := "(II)I" } : Jvm.MethodName) ({ cls := "AshCityModel", name := "may", desc := "(II)I" } : Jvm.MethodName)) ∈ lw_all := lw_g (lw_at lw_m8 128 rfl) rfl
theorem q1910 : (Jvm.Cond.code ({ cls := "AshCityModel", name := "may", desc := "(II)I" } : Jvm.MethodName) prog_27_method_65_code (3 : Nat) (Option.some Jvm.ClassFile.FieldType.int)) ∈ lw_all := lw_g (lw_at lw_m8 129 rfl) rfl
theorem q1911 : (Jvm.Cond.methodLink "AshCityModel" (482 : Nat) ({ cls := "AshCityModel", name := "isFind", desc := "(I)Z" } : Jvm.MethodName)) ∈ lw_all := lw_g (lw_at lw_m8 130 rfl) rfl
theorem q1912 : (Jvm.Cond.privateMethod ({ cls := "AshCityModel", name := "isFind", desc := "(I)Z" } : Jvm.MethodName)) ∈ lw_tbl := lw_at lw_m8 131 rfl
theorem q1913 : (Jvm.Cond.instanceMethod ({ cls := "AshCityModel", name := "isFind", desc := "(I)Z" } : Jvm.MethodName)) ∈ lw_all := lw_g (lw_at lw_m8 132 rfl) rfl
theorem q1914 : (Jvm.Cond.code ({ cls := "AshCityModel", name := "isFind", desc := "(I)Z" } : Jvm.MethodName) prog_27_method_64_code (2 : Nat) (Option.some Jvm.ClassFile.FieldType.boolean)) ∈ lw_all := lw_g (lw_at lw_m8 133 rfl) rfl
theorem q1915 : (Jvm.Cond.methodLink "AshCityModel" (485 : Nat) ({ cls := "AshCityModel", name := "mayBe", desc := "(II)I" } : Jvm.MethodName)) ∈ lw_all := lw_g (lw_at lw_m8 134 rfl) rfl
theorem q1916 : (Jvm.Cond.privateMethod ({ cls := "AshCityModel", name := "mayBe", desc := "(II)I" } : Jvm.MethodName)) ∈ lw_tbl := lw_at lw_m8 135 rfl
theorem q1917 : (Jvm.Cond.instanceMethod ({ cls := "AshCityModel", name := "mayBe", desc := "(II)I" } : Jvm.MethodName)) ∈ lw_all := lw_g (lw_at lw_m8 136 rfl) rfl
theorem q1918 : (Jvm.Cond.code ({ cls := "AshCityModel", name := "mayBe", desc := "(II)I" } : Jvm.MethodName) prog_27_method_63_code (6 : Nat) (Option.some Jvm.ClassFile.FieldType.int)) ∈ lw_all := lw_g (lw_at lw_m8 137 rfl) rfl
theorem q1919 : (Jvm.Cond.methodLink "AshCityModel" (476 : Nat) ({ cls := "AshCityModel", name := "isDug", desc := "(IIII)Z" } : Jvm.MethodName)) ∈ lw_all := lw_g (lw_at lw_m8 138 rfl) rfl
theorem q1920 : (Jvm.Cond.privateMethod ({ cls := "AshCityModel", name := "isDug", desc := "(IIII)Z" } : Jvm.MethodName)) ∈ lw_tbl := lw_at lw_m8 139 rfl
theorem q1921 : (Jvm.Cond.instanceMethod ({ cls := "AshCityModel", name := "isDug", desc := "(IIII)Z" } : Jvm.MethodName)) ∈ lw_all := lw_g (lw_at lw_m8 140 rfl) rfl
theorem q1922 : (Jvm.Cond.code ({ cls := "AshCityModel", name := "isDug", desc := "(IIII)Z" } : Jvm.MethodName) prog_27_method_61_code (6 : Nat) (Option.some Jvm.ClassFile.FieldType.boolean)) ∈ lw_all := lw_g (lw_at lw_m8 141 rfl) rfl
theorem q1923 : (Jvm.Cond.methodLink "AshCityModel" (473 : Nat) ({ cls := "AshCityModel", name := "meets", desc := "(II)Z" } : Jvm.MethodName)) ∈ lw_all := lw_g (lw_at lw_m8 142 rfl) rfl
theorem q1924 : (Jvm.Cond.privateMethod ({ cls := "AshCityModel", name := "meets", desc := "(II)Z" } : Jvm.MethodName)) ∈ lw_tbl := lw_at lw_m8 143 rfl
theorem q1925 : (Jvm.Cond.instanceMethod ({ cls := "AshCityModel", name := "meets", desc := "(II)Z" } : Jvm.MethodName)) ∈ lw_all := lw_g (lw_at lw_m8 144 rfl) rfl
theorem q1926 : (Jvm.Cond.code ({ cls := "AshCityModel", name := "meets", desc := "(II)Z" } : Jvm.MethodName) prog_27_method_60_code (4 : Nat) (Option.some Jvm.ClassFile.FieldType.boolean)) ∈ lw_all := lw_g (lw_at lw_m8 145 rfl) rfl
theorem q1927 : (Jvm.Cond.methodLink "AshCityModel" (479 : Nat) ({ cls := "AshCityModel", name := "isMeant", desc := "(III)Z" } : Jvm.MethodName)) ∈ lw_all := lw_g (lw_at lw_m8 146 rfl) rfl
theorem q1928 : (Jvm.Cond.privateMethod ({ cls := "AshCityModel", name := "isMeant", desc := "(III)Z" } : Jvm.MethodName)) ∈ lw_tbl := lw_at lw_m8 147 rfl
theorem q1929 : (Jvm.Cond.instanceMethod ({ cls := "AshCityModel", name := "isMeant", desc := "(III)Z" } : Jvm.MethodName)) ∈ lw_all := lw_g (lw_at lw_m8 148 rfl) rfl
theorem q1930 : (Jvm.Cond.code ({ cls := "AshCityModel", name := "isMeant", desc := "(III)Z" } : Jvm.MethodName) prog_27_method_62_code (6 : Nat) (Option.some Jvm.ClassFile.FieldType.boolean)) ∈ lw_all := lw_g (lw_at lw_m8 149 rfl) rfl
theorem q1932 : (Jvm.Cond.instanceMethod ({ cls := "AshCityModel", name := "sure", desc := "(I)I" } : Jvm.MethodName)) ∈ lw_all := lw_g (lw_at lw_m8 151 rfl) rfl
theorem q1933 : (Jvm.Cond.selects "AshCityModel" ({ cls := "AshCityModel", name := "sure", desc := "(I)I" } : Jvm.MethodName) ({ cls := "AshCityModel", name := "sure", desc := "(I)I" } : Jvm.MethodName)) ∈ lw_all := lw_g (lw_at lw_m8 152 rfl) rfl
theorem q1934 : (Jvm.Cond.code ({ cls := "AshCityModel", name := "sure", desc := "(I)I" } : Jvm.MethodName) prog_27_method_67_code (2 : Nat) (Option.some Jvm.ClassFile.FieldType.int)) ∈ lw_all := lw_g (lw_at lw_m8 153 rfl) rfl
theorem q1935 : (Jvm.Cond.methodLink "AshCityModel" (488 : Nat) ({ cls := "AshCityModel", name := "sureOf", desc := "(I)I" } : Jvm.MethodName)) ∈ lw_all := lw_g (lw_at lw_m8 154 rfl) rfl
theorem q1936 : (Jvm.Cond.privateMethod ({ cls := "AshCityModel", name := "sureOf", desc := "(I)I" } : Jvm.MethodName)) ∈ lw_tbl := lw_at lw_m8 155 rfl
theorem q1937 : (Jvm.Cond.instanceMethod ({ cls := "AshCityModel", name := "sureOf", desc := "(I)I" } : Jvm.MethodName)) ∈ lw_all := lw_g (lw_at lw_m8 156 rfl) rfl
theorem q1938 : (Jvm.Cond.code ({ cls := "AshCityModel", name := "sureOf", desc := "(I)I" } : Jvm.MethodName) prog_27_method_66_code (5 : Nat) (Option.some Jvm.ClassFile.FieldType.int)) ∈ lw_all := lw_g (lw_at lw_m8 157 rfl) rfl
theorem q1940 : (Jvm.Cond.instanceMethod ({ cls := "AshCityModel", name := "nowhere", desc := "(II)I" } : Jvm.MethodName)) ∈ lw_all := lw_g (lw_at lw_m8 159 rfl) rfl
theorem q1941 : (Jvm.Cond.selects "AshCityModel" ({ cls := "AshCityModel", name := "nowhere", desc := "(II)I" } : Jvm.MethodName) ({ cls := "AshCityModel", name := "nowhere", desc := "(II)I" } : Jvm.MethodName)) ∈ lw_all := lw_g (lw_at lw_m8 160 rfl) rfl
theorem q1942 : (Jvm.Cond.code ({ cls := "AshCityModel", name := "nowhere", desc := "(II)I" } : Jvm.MethodName) prog_27_method_68_code (5 : Nat) (Option.some Jvm.ClassFile.FieldType.int)) ∈ lw_all := lw_g (lw_at lw_m8 161 rfl) rfl
theorem q1944 : (Jvm.Cond.instanceMethod ({ cls := "AshCityModel", name := "beside", desc := "(I)I" } : Jvm.MethodName)) ∈ lw_all := lw_g (lw_at lw_m8 163 rfl) rfl
theorem q1945 : (Jvm.Cond.selects "AshCityModel" ({ cls := "AshCityModel", name := "beside", desc := "(I)I" } : Jvm.MethodName) ({ cls := "AshCityModel", name := "beside", desc := "(I)I" } : Jvm.MethodName)) ∈ lw_all := lw_g (lw_at lw_m8 164 rfl) rfl
theorem q1946 : (Jvm.Cond.code ({ cls := "AshCityModel", name := "beside", desc := "(I)I" } : Jvm.MethodName) prog_27_method_69_code (3 : Nat) (Option.some Jvm.ClassFile.FieldType.int)) ∈ lw_all := lw_g (lw_at lw_m8 165 rfl) rfl
theorem q1948 : (Jvm.Cond.instanceMethod ({ cls := "AshCityModel", name := "barred", desc := "(I)I" } : Jvm.MethodName)) ∈ lw_all := lw_g (lw_at lw_m8 167 rfl) rfl
theorem q1949 : (Jvm.Cond.selects "AshCityModel" ({ cls := "AshCityModel", name := "barred", desc := "(I)I" } : Jvm.MethodName) ({ cls := "AshCityModel", name := "barred", desc := "(I)I" } : Jvm.MethodName)) ∈ lw_all := lw_g (lw_at lw_m8 168 rfl) rfl
theorem q1950 : (Jvm.Cond.code ({ cls := "AshCityModel", name := "barred", desc := "(I)I" } : Jvm.MethodName) prog_27_method_70_code (2 : Nat) (Option.some Jvm.ClassFile.FieldType.int)) ∈ lw_all := lw_g (lw_at lw_m8 169 rfl) rfl
theorem q1952 : (Jvm.Cond.instanceMethod ({ cls := "AshCityModel", name := "thing", desc := "(III)I" } : Jvm.MethodName)) ∈ lw_all := lw_g (lw_at lw_m8 171 rfl) rfl
theorem q1953 : (Jvm.Cond.selects "AshCityModel" ({ cls := "AshCityModel", name := "thing", desc := "(III)I" } : Jvm.MethodName) ({ cls := "AshCityModel", name := "thing", desc := "(III)I" } : Jvm.MethodName)) ∈ lw_all := lw_g (lw_at lw_m8 172 rfl) rfl
theorem q1954 : (Jvm.Cond.code ({ cls := "AshCityModel", name := "thing", desc := "(III)I" } : Jvm.MethodName) prog_27_method_71_code (4 : Nat) (Option.some Jvm.ClassFile.FieldType.int)) ∈ lw_all := lw_g (lw_at lw_m8 173 rfl) rfl
theorem q1956 : (Jvm.Cond.instanceMethod ({ cls := "AshCityModel", name := "gone", desc := "(IZ)Z" } : Jvm.MethodName)) ∈ lw_all := lw_g (lw_at lw_m8 175 rfl) rfl
theorem q1957 : (Jvm.Cond.selects "AshCityModel" ({ cls := "AshCityModel", name := "gone", desc := "(IZ)Z" } : Jvm.MethodName) ({ cls := "AshCityModel", name := "gone", desc := "(IZ)Z" } : Jvm.MethodName)) ∈ lw_all := lw_g (lw_at lw_m8 176 rfl) rfl
theorem q1958 : (Jvm.Cond.code ({ cls := "AshCityModel", name := "gone", desc := "(IZ)Z" } : Jvm.MethodName) prog_27_method_73_code (3 : Nat) (Option.some Jvm.ClassFile.FieldType.boolean)) ∈ lw_all := lw_g (lw_at lw_m8 177 rfl) rfl
theorem q1959 : (Jvm.Cond.methodLink "AshCityModel" (494 : Nat) ({ cls := "AshCityModel", name := "isThing", desc := "(I)Z" } : Jvm.MethodName)) ∈ lw_all := lw_g (lw_at lw_m8 178 rfl) rfl
theorem q1960 : (Jvm.Cond.privateMethod ({ cls := "AshCityModel", name := "isThing", desc := "(I)Z" } : Jvm.MethodName)) ∈ lw_tbl := lw_at lw_m8 179 rfl
theorem q1961 : (Jvm.Cond.instanceMethod ({ cls := "AshCityModel", name := "isThing", desc := "(I)Z" } : Jvm.MethodName)) ∈ lw_all := lw_g (lw_at lw_m8 180 rfl) rfl
theorem q1962 : (Jvm.Cond.code ({ cls := "AshCityModel", name := "isThing", desc := "(I)Z" } : Jvm.MethodName) prog_27_method_72_code (2 : Nat) (Option.some Jvm.ClassFile.FieldType.boolean)) ∈ lw_all := lw_g (lw_at lw_m8 181 rfl) rfl
theorem q1964 : (Jvm.Cond.instanceMethod ({ cls := "AshCityModel", name := "like", desc := "(II)I" } : Jvm.MethodName)) ∈ lw_all := lw_g (lw_at lw_m8 183 rfl) rfl
theorem q1965 : (Jvm.Cond.selects "AshCityModel" ({ cls := "AshCityModel", name := "like", desc := "(II)I" } : Jvm.MethodName) ({ cls := "AshCityModel", name := "like", desc := "(II)I" } : Jvm.MethodName)) ∈ lw_all := lw_g (lw_at lw_m8 184 rfl) rfl
theorem q1966 : (Jvm.Cond.code ({ cls := "AshCityModel", name := "like", desc := "(II)I" } : Jvm.MethodName) prog_27_method_77_code (3 : Nat) (Option.some Jvm.ClassFile.FieldType.int)) ∈ lw_all := lw_g (lw_at lw_m8 185 rfl) rfl
theorem q1967 : (Jvm.Cond.methodLink "AshCityModel" (503 : Nat) ({ cls := "AshCityModel", name := "isLike", desc := "(II)Z" } : Jvm.MethodName)) ∈ lw_all := lw_g (lw_at lw_m8 186 rfl) rfl
theorem q1968 : (Jvm.Cond.privateMethod ({ cls := "AshCityModel", name := "isLike", desc := "(II)Z" } : Jvm.MethodName)) ∈ lw_tbl := lw_at lw_m8 187 rfl
theorem q1969 : (Jvm.Cond.instanceMethod ({ cls := "AshCityModel", name := "isLike", desc := "(II)Z" } : Jvm.MethodName)) ∈ lw_all := lw_g (lw_at lw_m8 188 rfl) rfl
theorem q1970 : (Jvm.Cond.code ({ cls := "AshCityModel", name := "isLike", desc := "(II)Z" } : Jvm.MethodName) prog_27_method_76_code (3 : Nat) (Option.some Jvm.ClassFile.FieldType.boolean)) ∈ lw_all := lw_g (lw_at lw_m8 189 rfl) rfl
theorem q1971 : (Jvm.Cond.methodLink "AshCityModel" (500 : Nat) ({ cls := "AshCityModel", name := "couldBe", desc := "(II)Z" } : Jvm.MethodName)) ∈ lw_all := lw_g (lw_at lw_m8 190 rfl) rfl
theorem q1972 : (Jvm.Cond.privateMethod ({ cls := "AshCityModel", name := "couldBe", desc := "(II)Z" } : Jvm.MethodName)) ∈ lw_tbl := lw_at lw_m8 191 rfl
theorem q1973 : (Jvm.Cond.instanceMethod ({ cls := "AshCityModel", name := "couldBe", desc := "(II)Z" } : Jvm.MethodName)) ∈ lw_all := lw_g (lw_at lw_m8 192 rfl) rfl
theorem q1974 : (Jvm.Cond.code ({ cls := "AshCityModel", name := "couldBe", desc := "(II)Z" } : Jvm.MethodName) prog_27_method_75_code (3 : Nat) (Option.some Jvm.ClassFile.FieldType.boolean)) ∈ lw_all := lw_g (lw_at lw_m8 193 rfl) rfl
theorem q1975 : (Jvm.Cond.methodLink "AshCityModel" (497 : Nat) ({ cls := "AshCityModel", name := "agreeing", desc := "(II)I" } : Jvm.MethodName)) ∈ lw_all := lw_g (lw_at lw_m8 194 rfl) rfl
theorem q1976 : (Jvm.Cond.privateMethod ({ cls := "AshCityModel", name := "agreeing", desc := "(II)I" } : Jvm.MethodName)) ∈ lw_tbl := lw_at lw_m8 195 rfl
theorem q1977 : (Jvm.Cond.instanceMethod ({ cls := "AshCityModel", name := "agreeing", desc := "(II)I" } : Jvm.MethodName)) ∈ lw_all := lw_g (lw_at lw_m8 196 rfl) rfl
theorem q1978 : (Jvm.Cond.code ({ cls := "AshCityModel", name := "agreeing", desc := "(II)I" } : Jvm.MethodName) prog_27_method_74_code (5 : Nat) (Option.some Jvm.ClassFile.FieldType.int)) ∈ lw_all := lw_g (lw_at lw_m8 197 rfl) rfl
theorem q1980 : (Jvm.Cond.instanceMethod ({ cls := "AshCityModel", name := "join", desc := "(I)I" } : Jvm.MethodName)) ∈ lw_all := lw_g (lw_at lw_m8 199 rfl) rfl
theorem q1981 : (Jvm.Cond.selects "AshCityModel" ({ cls := "AshCityModel", name := "join", desc := "(I)I" } : Jvm.MethodName) ({ cls := "AshCityModel", name := "join", desc := "(I)I" } : Jvm.MethodName)) ∈ lw_all := lw_g (lw_at lw_m8 200 rfl) rfl
theorem q1982 : (Jvm.Cond.code ({ cls := "AshCityModel", name := "join", desc := "(I)I" } : Jvm.MethodName) prog_27_method_80_code (8 : Nat) (Option.some Jvm.ClassFile.FieldType.int)) ∈ lw_all := lw_g (lw_at lw_m8 201 rfl) rfl
theorem q1983 : (Jvm.Cond.methodLink "AshCityModel" (506 : Nat) ({ cls := "AshCityModel", name := "hearsFinds", desc := "(I)Z" } : Jvm.MethodName)) ∈ lw_all := lw_g (lw_at lw_m8 202 rfl) rfl
theorem q1984 : (Jvm.Cond.privateMethod ({ cls := "AshCityModel", name := "hearsFinds", desc := "(I)Z" } : Jvm.MethodName)) ∈ lw_tbl := lw_at lw_m8 203 rfl
theorem q1985 : (Jvm.Cond.instanceMethod ({ cls := "AshCityModel", name := "hearsFinds", desc := "(I)Z" } : Jvm.MethodName)) ∈ lw_all := lw_g (lw_at lw_m8 204 rfl) rfl
theorem q1986 : (Jvm.Cond.code ({ cls := "AshCityModel", name := "hearsFinds", desc := "(I)Z" } : Jvm.MethodName) prog_27_method_78_code (4 : Nat) (Option.some Jvm.ClassFile.FieldType.boolean)) ∈ lw_all := lw_g (lw_at lw_m8 205 rfl) rfl
theorem q1987 : (Jvm.Cond.methodLink "AshCityModel" (509 : Nat) ({ cls := "AshCityModel", name := "bestFrom", desc := "(II)I" } : Jvm.MethodName)) ∈ lw_all := lw_g (lw_at lw_m8 206 rfl) rfl
theorem q1988 : (Jvm.Cond.privateMethod ({ cls := "AshCityModel", name := "bestFrom", desc := "(II)I" } : Jvm.MethodName)) ∈ lw_tbl := lw_at lw_m8 207 rfl
theorem q1989 : (Jvm.Cond.instanceMethod ({ cls := "AshCityModel", name := "bestFrom", desc := "(II)I" } : Jvm.MethodName)) ∈ lw_all := lw_g (lw_at lw_m8 208 rfl) rfl
theorem q1990 : (Jvm.Cond.code ({ cls := "AshCityModel", name := "bestFrom", desc := "(II)I" } : Jvm.MethodName) prog_27_method_79_code (8 : Nat) (Option.some Jvm.ClassFile.FieldType.int)) ∈ lw_all := lw_g (lw_at lw_m8 209 rfl) rfl
theorem q1992 : (Jvm.Cond.instanceMethod ({ cls := "AshCityModel", name := "joined", desc := "(I)I" } : Jvm.MethodName)) ∈ lw_all := lw_g (lw_at lw_m8 211 rfl) rfl
theorem q1993 : (Jvm.Cond.selects "AshCityModel" ({ cls := "AshCityModel", name := "joined", desc := "(I)I" } : Jvm.MethodName) ({ cls := "AshCityModel", name := "joined", desc := "(I)I" } : Jvm.MethodName)) ∈ lw_all := lw_g (lw_at lw_m8 212 rfl) rfl
theorem q1994 : (Jvm.Cond.code ({ cls := "AshCityModel", name := "joined", desc := "(I)I" } : Jvm.MethodName) prog_27_method_81_code (2 : Nat) (Option.some Jvm.ClassFile.FieldType.int)) ∈ lw_all := lw_g (lw_at lw_m8 213 rfl) rfl
theorem q1996 : (Jvm.Cond.instanceMethod ({ cls := "AshCityModel", name := "lost", desc := "(II)I" } : Jvm.MethodName)) ∈ lw_all := lw_g (lw_at lw_m8 215 rfl) rfl
theorem q1997 : (Jvm.Cond.selects "AshCityModel" ({ cls := "AshCityModel", name := "lost", desc := "(II)I" } : Jvm.MethodName) ({ cls := "AshCityModel", name := "lost", desc := "(II)I" } : Jvm.MethodName)) ∈ lw_all := lw_g (lw_at lw_m8 216 rfl) rfl
theorem q1998 : (Jvm.Cond.code ({ cls := "AshCityModel", name := "lost", desc := "(II)I" } : Jvm.MethodName) prog_27_method_84_code (9 : Nat) (Option.some Jvm.ClassFile.FieldType.int)) ∈ lw_all := lw_g (lw_at lw_m8 217 rfl) rfl
theorem q1999 : (Jvm.Cond.methodLink "AshCityModel" (515 : Nat) ({ cls := "AshCityModel", name := "isLost", desc := "(I)Z" } : Jvm.MethodName)) ∈ lw_all := lw_g (lw_at lw_m8 218 rfl) rfl
theorem q2000 : (Jvm.Cond.privateMethod ({ cls := "AshCityModel", name := "isLost", desc := "(I)Z" } : Jvm.MethodName)) ∈ lw_tbl := lw_at lw_m8 219 rfl
theorem q2001 : (Jvm.Cond.instanceMethod ({ cls := "AshCityModel", name := "isLost", desc := "(I)Z" } : Jvm.MethodName)) ∈ lw_all := lw_g (lw_at lw_m8 220 rfl) rfl
theorem q2002 : (Jvm.Cond.code ({ cls := "AshCityModel", name := "isLost", desc := "(I)Z" } : Jvm.MethodName) prog_27_method_82_code (3 : Nat) (Option.some Jvm.ClassFile.FieldType.boolean)) ∈ lw_all := lw_g (lw_at lw_m8 221 rfl) rfl
theorem q2003 : (Jvm.Cond.methodLink "AshCityModel" (518 : Nat) ({ cls := "AshCityModel", name := "wouldHave", desc := "(II)Z" } : Jvm.MethodName)) ∈ lw_all := lw_g (lw_at lw_m8 222 rfl) rfl
theorem q2004 : (Jvm.Cond.privateMethod ({ cls := "AshCityModel", name := "wouldHave", desc := "(II)Z" } : Jvm.MethodName)) ∈ lw_tbl := lw_at lw_m8 223 rfl
theorem q2005 : (Jvm.Cond.instanceMethod ({ cls := "AshCityModel", name := "wouldHave", desc := "(II)Z" } : Jvm.MethodName)) ∈ lw_all := lw_g (lw_at lw_m8 224 rfl) rfl
theorem q2006 : (Jvm.Cond.code ({ cls := "AshCityModel", name := "wouldHave", desc := "(II)Z" } : Jvm.MethodName) prog_27_method_83_code (4 : Nat) (Option.some Jvm.ClassFile.FieldType.boolean)) ∈ lw_all := lw_g (lw_at lw_m8 225 rfl) rfl
theorem q2008 : (Jvm.Cond.instanceMethod ({ cls := "AshCityModel", name := "wall", desc := "(II)I" } : Jvm.MethodName)) ∈ lw_all := lw_g (lw_at lw_m8 227 rfl) rfl
theorem q2009 : (Jvm.Cond.selects "AshCityModel" ({ cls := "AshCityModel", name := "wall", desc := "(II)I" } : Jvm.MethodName) ({ cls := "AshCityModel", name := "wall", desc := "(II)I" } : Jvm.MethodName)) ∈ lw_all := lw_g (lw_at lw_m8 228 rfl) rfl
theorem q2010 : (Jvm.Cond.code ({ cls := "AshCityModel", name := "wall", desc := "(II)I" } : Jvm.MethodName) prog_27_method_85_code (3 : Nat) (Option.some Jvm.ClassFile.FieldType.int)) ∈ lw_all := lw_g (lw_at lw_m8 229 rfl) rfl
theorem q2012 : (Jvm.Cond.instanceMethod ({ cls := "AshCityModel", name := "draw", desc := "(III)I" } : Jvm.MethodName)) ∈ lw_all := lw_g (lw_at lw_m8 231 rfl) rfl
theorem q2013 : (Jvm.Cond.selects "AshCityModel" ({ cls := "AshCityModel", name := "draw", desc := "(III)I" } : Jvm.MethodName) ({ cls := "AshCityModel", name := "draw", desc := "(III)I" } : Jvm.MethodName)) ∈ lw_all := lw_g (lw_at lw_m8 232 rfl) rfl
theorem q2014 : (Jvm.Cond.code ({ cls := "AshCityModel", name := "draw", desc := "(III)I" } : Jvm.MethodName) prog_27_method_88_code (4 : Nat) (Option.some Jvm.ClassFile.FieldType.int)) ∈ lw_all := lw_g (lw_at lw_m8 233 rfl) rfl
theorem q2015 : (Jvm.Cond.methodLink "AshCityModel" (527 : Nat) ({ cls := "AshCityModel", name := "isWall", desc := "(I)Z" } : Jvm.MethodName)) ∈ lw_all := lw_g (lw_at lw_m8 234 rfl) rfl
theorem q2016 : (Jvm.Cond.privateMethod ({ cls := "AshCityModel", name := "isWall", desc := "(I)Z" } : Jvm.MethodName)) ∈ lw_tbl := lw_at lw_m8 235 rfl
theorem q2017 : (Jvm.Cond.instanceMethod ({ cls := "AshCityModel", name := "isWall", desc := "(I)Z" } : Jvm.MethodName)) ∈ lw_all := lw_g (lw_at lw_m8 236 rfl) rfl
theorem q2018 : (Jvm.Cond.code ({ cls := "AshCityModel", name := "isWall", desc := "(I)Z" } : Jvm.MethodName) prog_27_method_86_code (2 : Nat) (Option.some Jvm.ClassFile.FieldType.boolean)) ∈ lw_all := lw_g (lw_at lw_m8 237 rfl) rfl
theorem q2019 : (Jvm.Cond.methodLink "AshCityModel" (530 : Nat) ({ cls := "AshCityModel", name := "draws", desc := "(IIIZ)I" } : Jvm.MethodName)) ∈ lw_all := lw_g (lw_at lw_m8 238 rfl) rfl
theorem q2020 : (Jvm.Cond.privateMethod ({ cls := "AshCityModel", name := "draws", desc := "(IIIZ)I" } : Jvm.MethodName)) ∈ lw_tbl := lw_at lw_m8 239 rfl
theorem q2021 : (Jvm.Cond.instanceMethod ({ cls := "AshCityModel", name := "draws", desc := "(IIIZ)I" } : Jvm.MethodName)) ∈ lw_all := lw_g (lw_at lw_m9 0 rfl) rfl
theorem q2022 : (Jvm.Cond.code ({ cls := "AshCityModel", name := "draws", desc := "(IIIZ)I" } : Jvm.MethodName) prog_27_method_87_code (5 : Nat) (Option.some Jvm.ClassFile.FieldType.int)) ∈ lw_all := lw_g (lw_at lw_m9 1 rfl) rfl
theorem q2024 : (Jvm.Cond.instanceMethod ({ cls := "AshCityModel", name := "copy", desc := "(II)I" } : Jvm.MethodName)) ∈ lw_all := lw_g (lw_at lw_m9 3 rfl) rfl
theorem q2025 : (Jvm.Cond.selects "AshCityModel" ({ cls := "AshCityModel", name := "copy", desc := "(II)I" } : Jvm.MethodName) ({ cls := "AshCityModel", name := "copy", desc := "(II)I" } : Jvm.MethodName)) ∈ lw_all := lw_g (lw_at lw_m9 4 rfl) rfl
theorem q2026 : (Jvm.Cond.code ({ cls := "AshCityModel", name := "copy", desc := "(II)I" } : Jvm.MethodName) prog_27_method_89_code (3 : Nat) (Option.some Jvm.ClassFile.FieldType.int)) ∈ lw_all := lw_g (lw_at lw_m9 5 rfl) rfl
theorem q2028 : (Jvm.Cond.instanceMethod ({ cls := "AshCityModel", name := "stood", desc := "(IIII)I" } : Jvm.MethodName)) ∈ lw_all := lw_g (lw_at lw_m9 7 rfl) rfl
theorem q2029 : (Jvm.Cond.selects "AshCityModel" ({ cls := "AshCityModel", name := "stood", desc := "(IIII)I" } : Jvm.MethodName) ({ cls := "AshCityModel", name := "stood", desc := "(IIII)I" } : Jvm.MethodName)) ∈ lw_all := lw_g (lw_at lw_m9 8 rfl) rfl
theorem q2030 : (Jvm.Cond.code ({ cls := "AshCityModel", name := "stood", desc := "(IIII)I" } : Jvm.MethodName) prog_27_method_92_code (10 : Nat) (Option.some Jvm.ClassFile.FieldType.int)) ∈ lw_all := lw_g (lw_at lw_m9 9 rfl) rfl
theorem q2031 : (Jvm.Cond.methodLink "AshCityModel" (534 : Nat) ({ cls := "AshCityModel", name := "looksAt", desc := "(II)I" } : Jvm.MethodName)) ∈ lw_all := lw_g (lw_at lw_m9 10 rfl) rfl
theorem q2032 : (Jvm.Cond.privateMethod ({ cls := "AshCityModel", name := "looksAt", desc := "(II)I" } : Jvm.MethodName)) ∈ lw_tbl := lw_at lw_m9 11 rfl
theorem q2033 : (Jvm.Cond.instanceMethod ({ cls := "AshCityModel", name := "looksAt", desc := "(II)I" } : Jvm.MethodName)) ∈ lw_all := lw_g (lw_at lw_m9 12 rfl) rfl
theorem q2034 : (Jvm.Cond.code ({ cls := "AshCityModel", name := "looksAt", desc := "(II)I" } : Jvm.MethodName) prog_27_method_90_code (6 : Nat) (Option.some Jvm.ClassFile.FieldType.int)) ∈ lw_all := lw_g (lw_at lw_m9 13 rfl) rfl
theorem q2035 : (Jvm.Cond.methodLink "AshCityModel" (537 : Nat) ({ cls := "AshCityModel", name := "shows", desc := "(II)Z" } : Jvm.MethodName)) ∈ lw_all := lw_g (lw_at lw_m9 14 rfl) rfl
theorem q2036 : (Jvm.Cond.privateMethod ({ cls := "AshCityModel", name := "shows", desc := "(II)Z" } : Jvm.MethodName)) ∈ lw_tbl := lw_at lw_m9 15 rfl
theorem q2037 : (Jvm.Cond.instanceMethod ({ cls := "AshCityModel", name := "shows", desc := "(II)Z" } : Jvm.MethodName)) ∈ lw_all := lw_g (lw_at lw_m9 16 rfl) rfl
theorem q2038 : (Jvm.Cond.code ({ cls := "AshCityModel", name := "shows", desc := "(II)Z" } : Jvm.MethodName) prog_27_method_91_code (3 : Nat) (Option.some Jvm.ClassFile.FieldType.boolean)) ∈ lw_all := lw_g (lw_at lw_m9 17 rfl) rfl
theorem q2040 : (Jvm.Cond.instanceMethod ({ cls := "AshCityModel", name := "ash", desc := "(III)Z" } : Jvm.MethodName)) ∈ lw_all := lw_g (lw_at lw_m9 19 rfl) rfl
theorem q2041 : (Jvm.Cond.selects "AshCityModel" ({ cls := "AshCityModel", name := "ash", desc := "(III)Z" } : Jvm.MethodName) ({ cls := "AshCityModel", name := "ash", desc := "(III)Z" } : Jvm.MethodName)) ∈ lw_all := lw_g (lw_at lw_m9 20 rfl) rfl
theorem q2042 : (Jvm.Cond.code ({ cls := "AshCityModel", name := "ash", desc := "(III)Z" } : Jvm.MethodName) prog_27_method_93_code (4 : Nat) (Option.some Jvm.ClassFile.FieldType.boolean)) ∈ lw_all := lw_g (lw_at lw_m9 21 rfl) rfl
theorem q2044 : (Jvm.Cond.instanceMethod ({ cls := "AshCityModel", name := "above", desc := "(II)Z" } : Jvm.MethodName)) ∈ lw_all := lw_g (lw_at lw_m9 23 rfl) rfl
theorem q2045 : (Jvm.Cond.selects "AshCityModel" ({ cls := "AshCityModel", name := "above", desc := "(II)Z" } : Jvm.MethodName) ({ cls := "AshCityModel", name := "above", desc := "(II)Z" } : Jvm.MethodName)) ∈ lw_all := lw_g (lw_at lw_m9 24 rfl) rfl
theorem q2046 : (Jvm.Cond.code ({ cls := "AshCityModel", name := "above", desc := "(II)Z" } : Jvm.MethodName) prog_27_method_94_code (3 : Nat) (Option.some Jvm.ClassFile.FieldType.boolean)) ∈ lw_all := lw_g (lw_at lw_m9 25 rfl) rfl
theorem q2048 : (Jvm.Cond.instanceMethod ({ cls := "AshCityModel", name := "hour", desc := "(II)I" } : Jvm.MethodName)) ∈ lw_all := lw_g (lw_at lw_m9 27 rfl) rfl
theorem q2049 : (Jvm.Cond.selects "AshCityModel" ({ cls := "AshCityModel", name := "hour", desc := "(II)I" } : Jvm.MethodName) ({ cls := "AshCityModel", name := "hour", desc := "(II)I" } : Jvm.MethodName)) ∈ lw_all := lw_g (lw_at lw_m9 28 rfl) rfl
theorem q2050 : (Jvm.Cond.code ({ cls := "AshCityModel", name := "hour", desc := "(II)I" } : Jvm.MethodName) prog_27_method_96_code (3 : Nat) (Option.some Jvm.ClassFile.FieldType.int)) ∈ lw_all := lw_g (lw_at lw_m9 29 rfl) rfl
theorem q2051 : (Jvm.Cond.methodLink "AshCityModel" (543 : Nat) ({ cls := "AshCityModel", name := "hours", desc := "()Z" } : Jvm.MethodName)) ∈ lw_all := lw_g (lw_at lw_m9 30 rfl) rfl
theorem q2052 : (Jvm.Cond.privateMethod ({ cls := "AshCityModel", name := "hours", desc := "()Z" } : Jvm.MethodName)) ∈ lw_tbl := lw_at lw_m9 31 rfl
theorem q2053 : (Jvm.Cond.instanceMethod ({ cls := "AshCityModel", name := "hours", desc := "()Z" } : Jvm.MethodName)) ∈ lw_all := lw_g (lw_at lw_m9 32 rfl) rfl
theorem q2054 : (Jvm.Cond.code ({ cls := "AshCityModel", name := "hours", desc := "()Z" } : Jvm.MethodName) prog_27_method_95_code (5 : Nat) (Option.some Jvm.ClassFile.FieldType.boolean)) ∈ lw_all := lw_g (lw_at lw_m9 33 rfl) rfl
theorem q2056 : (Jvm.Cond.instanceMethod ({ cls := "AshCityModel", name := "height", desc := "(II)Z" } : Jvm.MethodName)) ∈ lw_all := lw_g (lw_at lw_m9 35 rfl) rfl
theorem q2057 : (Jvm.Cond.selects "AshCityModel" ({ cls := "AshCityModel", name := "height", desc := "(II)Z" } : Jvm.MethodName) ({ cls := "AshCityModel", name := "height", desc := "(II)Z" } : Jvm.MethodName)) ∈ lw_all := lw_g (lw_at lw_m9 36 rfl) rfl
theorem q2058 : (Jvm.Cond.code ({ cls := "AshCityModel", name := "height", desc := "(II)Z" } : Jvm.MethodName) prog_27_method_97_code (3 : Nat) (Option.some Jvm.ClassFile.FieldType.boolean)) ∈ lw_all := lw_g (lw_at lw_m9 37 rfl) rfl
theorem q2060 : (Jvm.Cond.instanceMethod ({ cls := "AshCityModel", name := "hollow", desc := "(II)I" } : Jvm.MethodName)) ∈ lw_all := lw_g (lw_at lw_m9 39 rfl) rfl
theorem q2061 : (Jvm.Cond.selects "AshCityModel" ({ cls := "AshCityModel", name := "hollow", desc := "(II)I" } : Jvm.MethodName) ({ cls := "AshCityModel", name := "hollow", desc := "(II)I" } : Jvm.MethodName)) ∈ lw_all := lw_g (lw_at lw_m9 40 rfl) rfl
theorem q2062 : (Jvm.Cond.code ({ cls := "AshCityModel", name := "hollow", desc := "(II)I" } : Jvm.MethodName) prog_27_method_98_code (3 : Nat) (Option.some Jvm.ClassFile.FieldType.int)) ∈ lw_all := lw_g (lw_at lw_m9 41 rfl) rfl
theorem q2064 : (Jvm.Cond.instanceMethod ({ cls := "AshCityModel", name := "way", desc := "(I)I" } : Jvm.MethodName)) ∈ lw_all := lw_g (lw_at lw_m9 43 rfl) rfl
theorem q2065 : (Jvm.Cond.selects "AshCityModel" ({ cls := "AshCityModel", name := "way", desc := "(I)I" } : Jvm.MethodName) ({ cls := "AshCityModel", name := "way", desc := "(I)I" } : Jvm.MethodName)) ∈ lw_all := lw_g (lw_at lw_m9 44 rfl) rfl
theorem q2066 : (Jvm.Cond.code ({ cls := "AshCityModel", name := "way", desc := "(I)I" } : Jvm.MethodName) prog_27_method_101_code (7 : Nat) (Option.some Jvm.ClassFile.FieldType.int)) ∈ lw_all := lw_g (lw_at lw_m9 45 rfl) rfl
theorem q2067 : (Jvm.Cond.methodLink "AshCityModel" (546 : Nat) ({ cls := "AshCityModel", name := "isBorder", desc := "(I)Z" } : Jvm.MethodName)) ∈ lw_all := lw_g (lw_at lw_m9 46 rfl) rfl
theorem q2068 : (Jvm.Cond.privateMethod ({ cls := "AshCityModel", name := "isBorder", desc := "(I)Z" } : Jvm.MethodName)) ∈ lw_tbl := lw_at lw_m9 47 rfl
theorem q2069 : (Jvm.Cond.instanceMethod ({ cls := "AshCityModel", name := "isBorder", desc := "(I)Z" } : Jvm.MethodName)) ∈ lw_all := lw_g (lw_at lw_m9 48 rfl) rfl
theorem q2070 : (Jvm.Cond.code ({ cls := "AshCityModel", name := "isBorder", desc := "(I)Z" } : Jvm.MethodName) prog_27_method_99_code (2 : Nat) (Option.some Jvm.ClassFile.FieldType.boolean)) ∈ lw_all := lw_g (lw_at lw_m9 49 rfl) rfl
theorem q2071 : (Jvm.Cond.methodLink "AshCityModel" (549 : Nat) ({ cls := "AshCityModel", name := "areBeside", desc := "(II)Z" } : Jvm.MethodName)) ∈ lw_all := lw_g (lw_at lw_m9 50 rfl) rfl
theorem q2072 : (Jvm.Cond.privateMethod ({ cls := "AshCityModel", name := "areBeside", desc := "(II)Z" } : Jvm.MethodName)) ∈ lw_tbl := lw_at lw_m9 51 rfl
theorem q2073 : (Jvm.Cond.instanceMethod ({ cls := "AshCityModel", name := "areBeside", desc := "(II)Z" } : Jvm.MethodName)) ∈ lw_all := lw_g (lw_at lw_m9 52 rfl) rfl
theorem q2074 : (Jvm.Cond.code ({ cls := "AshCityModel", name := "areBeside", desc := "(II)Z" } : Jvm.MethodName) prog_27_method_100_code (3 : Nat) (Option.some Jvm.ClassFile.FieldType.boolean)) ∈ lw_all := lw_g (lw_at lw_m9 53 rfl) rfl
theorem q2076 : (Jvm.Cond.instanceMethod ({ cls := "AshCityModel", name := "sign", desc := "(IIII)Z" } : Jvm.MethodName)) ∈ lw_all := lw_g (lw_at lw_m9 55 rfl) rfl
theorem q2077 : (Jvm.Cond.selects "AshCityModel" ({ cls := "AshCityModel", name := "sign", desc := "(IIII)Z" } : Jvm.MethodName) ({ cls := "AshCityModel", name := "sign", desc := "(IIII)Z" } : Jvm.MethodName)) ∈ lw_all := lw_g (lw_at lw_m9 56 rfl) rfl
theorem q2078 : (Jvm.Cond.code ({ cls := "AshCityModel", name := "sign", desc := "(IIII)Z" } : Jvm.MethodName) prog_27_method_102_code (5 : Nat) (Option.some Jvm.ClassFile.FieldType.boolean)) ∈ lw_all := lw_g (lw_at lw_m9 57 rfl) rfl
theorem q2080 : (Jvm.Cond.instanceMethod ({ cls := "AshCityModel", name := "who", desc := "(II)I" } : Jvm.MethodName)) ∈ lw_all := lw_g (lw_at lw_m9 59 rfl) rfl
theorem q2081 : (Jvm.Cond.selects "AshCityModel" ({ cls := "AshCityModel", name := "who", desc := "(II)I" } : Jvm.MethodName) ({ cls := "AshCityModel", name := "who", desc := "(II)I" } : Jvm.MethodName)) ∈ lw_all := lw_g (lw_at lw_m9 60 rfl) rfl
theorem q2082 : (Jvm.Cond.code ({ cls := "AshCityModel", name := "who", desc := "(II)I" } : Jvm.MethodName) prog_27_method_103_code (7 : Nat) (Option.some Jvm.ClassFile.FieldType.int)) ∈ lw_all := lw_g (lw_at lw_m9 61 rfl) rfl
theorem q2084 : (Jvm.Cond.instanceMethod ({ cls := "AshCityModel", name := "work", desc := "(III)I" } : Jvm.MethodName)) ∈ lw_all := lw_g (lw_at lw_m9 63 rfl) rfl
theorem q2085 : (Jvm.Cond.selects "AshCityModel" ({ cls := "AshCityModel", name := "work", desc := "(III)I" } : Jvm.MethodName) ({ cls := "AshCityModel", name := "work", desc := "(III)I" } : Jvm.MethodName)) ∈ lw_all := lw_g (lw_at lw_m9 64 rfl) rfl
theorem q2086 : (Jvm.Cond.code ({ cls := "AshCityModel", name := "work", desc := "(III)I" } : Jvm.MethodName) prog_27_method_104_code (4 : Nat) (Option.some Jvm.ClassFile.FieldType.int)) ∈ lw_all := lw_g (lw_at lw_m9 65 rfl) rfl
theorem q2088 : (Jvm.Cond.instanceMethod ({ cls := "AshCityModel", name := "best", desc := "(I)I" } : Jvm.MethodName)) ∈ lw_all := lw_g (lw_at lw_m9 67 rfl) rfl
theorem q2089 : (Jvm.Cond.selects "AshCityModel" ({ cls := "AshCityModel", name := "best", desc := "(I)I" } : Jvm.MethodName) ({ cls := "AshCityModel", name := "best", desc := "(I)I" } : Jvm.MethodName)) ∈ lw_all := lw_g (lw_at lw_m9 68 rfl) rfl
theorem q2090 : (Jvm.Cond.code ({ cls := "AshCityModel", name := "best", desc := "(I)I" } : Jvm.MethodName) prog_27_method_107_code (5 : Nat) (Option.some Jvm.ClassFile.FieldType.int)) ∈ lw_all := lw_g (lw_at lw_m9 69 rfl) rfl
theorem q2091 : (Jvm.Cond.constant "AshCityModel" (558 : Nat) (100000 : Int32)) ∈ lw_all := lw_g (lw_at lw_m9 70 rfl) rfl
theorem q2092 : (Jvm.Cond.methodLink "AshCityModel" (559 : Nat) ({ cls := "AshCityModel", name := "costs", desc := "(I)I" } : Jvm.MethodName)) ∈ lw_all := lw_g (lw_at lw_m9 71 rfl) rfl
theorem q2093 : (Jvm.Cond.privateMethod ({ cls := "AshCityModel", name := "costs", desc := "(I)I" } : Jvm.MethodName)) ∈ lw_tbl := lw_at lw_m9 72 rfl
theorem q2094 : (Jvm.Cond.instanceMethod ({ cls := "AshCityModel", name := "costs", desc := "(I)I" } : Jvm.MethodName)) ∈ lw_all := lw_g (lw_at lw_m9 73 rfl) rfl
theorem q2095 : (Jvm.Cond.code ({ cls := "AshCityModel", name := "costs", desc := "(I)I" } : Jvm.MethodName) prog_27_method_106_code (4 : Nat) (Option.some Jvm.ClassFile.FieldType.int)) ∈ lw_all := lw_g (lw_at lw_m9 74 rfl) rfl
theorem q2096 : (Jvm.Cond.methodLink "AshCityModel" (562 : Nat) ({ cls := "AshCityModel", name := "saved", desc := "(I)I" } : Jvm.MethodName)) ∈ lw_all := lw_g (lw_at lw_m9 75 rfl) rfl
theorem q2097 : (Jvm.Cond.privateMethod ({ cls := "AshCityModel", name := "saved", desc := "(I)I" } : Jvm.MethodName)) ∈ lw_tbl := lw_at lw_m9 76 rfl
theorem q2098 : (Jvm.Cond.instanceMethod ({ cls := "AshCityModel", name := "saved", desc := "(I)I" } : Jvm.MethodName)) ∈ lw_all := lw_g (lw_at lw_m9 77 rfl) rfl
theorem q2099 : (Jvm.Cond.code ({ cls := "AshCityModel", name := "saved", desc := "(I)I" } : Jvm.MethodName) prog_27_method_105_code (6 : Nat) (Option.some Jvm.ClassFile.FieldType.int)) ∈ lw_all := lw_g (lw_at lw_m9 78 rfl) rfl
theorem q2101 : (Jvm.Cond.instanceMethod ({ cls := "AshCityModel", name := "saves", desc := "(I)I" } : Jvm.MethodName)) ∈ lw_all := lw_g (lw_at lw_m9 80 rfl) rfl
theorem q2102 : (Jvm.Cond.selects "AshCityModel" ({ cls := "AshCityModel", name := "saves", desc := "(I)I" } : Jvm.MethodName) ({ cls := "AshCityModel", name := "saves", desc := "(I)I" } : Jvm.MethodName)) ∈ lw_all := lw_g (lw_at lw_m9 81 rfl) rfl
theorem q2103 : (Jvm.Cond.code ({ cls := "AshCityModel", name := "saves", desc := "(I)I" } : Jvm.MethodName) prog_27_method_108_code (2 : Nat) (Option.some Jvm.ClassFile.FieldType.int)) ∈ lw_all := lw_g (lw_at lw_m9 82 rfl) rfl
theorem q2105 : (Jvm.Cond.instanceMethod ({ cls := "AshCityModel", name := "check", desc := "(I)I" } : Jvm.MethodName)) ∈ lw_all := lw_g (lw_at lw_m9 84 rfl) rfl
theorem q2106 : (Jvm.Cond.selects "AshCityModel" ({ cls := "AshCityModel", name := "check", desc := "(I)I" } : Jvm.MethodName) ({ cls := "AshCityModel", name := "check", desc := "(I)I" } : Jvm.MethodName)) ∈ lw_all := lw_g (lw_at lw_m9 85 rfl) rfl
theorem q2107 : (Jvm.Cond.code ({ cls := "AshCityModel", name := "check", desc := "(I)I" } : Jvm.MethodName) prog_27_method_110_code (6 : Nat) (Option.some Jvm.ClassFile.FieldType.int)) ∈ lw_all := lw_g (lw_at lw_m9 86 rfl) rfl
theorem q2108 : (Jvm.Cond.methodLink "AshCityModel" (565 : Nat) ({ cls := "AshCityModel", name := "tapeNumber", desc := "(I)I" } : Jvm.MethodName)) ∈ lw_all := lw_g (lw_at lw_m9 87 rfl) rfl
theorem q2109 : (Jvm.Cond.privateMethod ({ cls := "AshCityModel", name := "tapeNumber", desc := "(I)I" } : Jvm.MethodName)) ∈ lw_tbl := lw_at lw_m9 88 rfl
theorem q2110 : (Jvm.Cond.instanceMethod ({ cls := "AshCityModel", name := "tapeNumber", desc := "(I)I" } : Jvm.MethodName)) ∈ lw_all := lw_g (lw_at lw_m9 89 rfl) rfl
theorem q2111 : (Jvm.Cond.code ({ cls := "AshCityModel", name := "tapeNumber", desc := "(I)I" } : Jvm.MethodName) prog_27_method_109_code (4 : Nat) (Option.some Jvm.ClassFile.FieldType.int)) ∈ lw_all := lw_g (lw_at lw_m9 90 rfl) rfl
theorem q2113 : (Jvm.Cond.instanceMethod ({ cls := "AshCityModel", name := "count", desc := "(I)I" } : Jvm.MethodName)) ∈ lw_all := lw_g (lw_at lw_m9 92 rfl) rfl
theorem q2114 : (Jvm.Cond.selects "AshCityModel" ({ cls := "AshCityModel", name := "count", desc := "(I)I" } : Jvm.MethodName) ({ cls := "AshCityModel", name := "count", desc := "(I)I" } : Jvm.MethodName)) ∈ lw_all := lw_g (lw_at lw_m9 93 rfl) rfl
theorem q2115 : (Jvm.Cond.code ({ cls := "AshCityModel", name := "count", desc := "(I)I" } : Jvm.MethodName) prog_27_method_111_code (2 : Nat) (Option.some Jvm.ClassFile.FieldType.int)) ∈ lw_all := lw_g (lw_at lw_m9 94 rfl) rfl
theorem q104 : (Jvm.Cond.initialized "AshCity$Rectangle") ∈ lw_all := lw_g (lw_at lw_m1 3 rfl) rfl
theorem q336 : (Jvm.Cond.instantiable "AshCity$Rectangle" (4 : Nat)) ∈ lw_all := lw_g (lw_at lw_m1 235 rfl) rfl
theorem q338 : (Jvm.Cond.instanceMethod ({ cls := "AshCity$Rectangle", name := "<init>", desc := "(IIII)V" } : Jvm.MethodName)) ∈ lw_all := lw_g (lw_at lw_m1 237 rfl) rfl
theorem q339 : (Jvm.Cond.code ({ cls := "AshCity$Rectangle", name := "<init>", desc := "(IIII)V" } : Jvm.MethodName) prog_15_method_1_code (5 : Nat) (Option.none : Option Jvm.ClassFile.FieldType)) ∈ lw_all := lw_g (lw_at lw_m1 238 rfl) rfl
theorem q340 : (Jvm.Cond.methodLink "AshCity$Rectangle" (1 : Nat) ({ cls := "java/lang/Object", name := "<init>", desc := "()V" } : Jvm.MethodName)) ∈ lw_all := lw_g (lw_at lw_m1 239 rfl) rfl
theorem q341 : (Jvm.Cond.fieldLink "AshCity$Rectangle" (7 : Nat) "AshCity$Rectangle" "left" "I") ∈ lw_all := lw_g (lw_at lw_m2 0 rfl) rfl
theorem q342 : (Jvm.Cond.fieldLink "AshCity$Rectangle" (13 : Nat) "AshCity$Rectangle" "top" "I") ∈ lw_all := lw_g (lw_at lw_m2 1 rfl) rfl
theorem q343 : (Jvm.Cond.fieldLink "AshCity$Rectangle" (16 : Nat) "AshCity$Rectangle" "right" "I") ∈ lw_all := lw_g (lw_at lw_m2 2 rfl) rfl
theorem q344 : (Jvm.Cond.fieldLink "AshCity$Rectangle" (19 : Nat) "AshCity$Rectangle" "bottom" "I") ∈ lw_all := lw_g (lw_at lw_m2 3 rfl) rfl
theorem q345 : (Jvm.Cond.laysFinal "AshCity$Rectangle" "AshCity$Rectangle" "left" "I") ∈ lw_all := lw_g (lw_at lw_m2 4 rfl) rfl
theorem q346 : (Jvm.Cond.soleField "AshCity$Rectangle" "left") ∈ lw_all := lw_g (lw_at lw_m2 5 rfl) rfl
theorem q347 : (Jvm.Cond.laysFinal "AshCity$Rectangle" "AshCity$Rectangle" "top" "I") ∈ lw_all := lw_g (lw_at lw_m2 6 rfl) rfl
theorem q348 : (Jvm.Cond.soleField "AshCity$Rectangle" "top") ∈ lw_all := lw_g (lw_at lw_m2 7 rfl) rfl
theorem q349 : (Jvm.Cond.laysFinal "AshCity$Rectangle" "AshCity$Rectangle" "right" "I") ∈ lw_all := lw_g (lw_at lw_m2 8 rfl) rfl
theorem q350 : (Jvm.Cond.soleField "AshCity$Rectangle" "right") ∈ lw_all := lw_g (lw_at lw_m2 9 rfl) rfl
theorem q351 : (Jvm.Cond.laysFinal "AshCity$Rectangle" "AshCity$Rectangle" "bottom" "I") ∈ lw_all := lw_g (lw_at lw_m2 10 rfl) rfl
theorem q352 : (Jvm.Cond.soleField "AshCity$Rectangle" "bottom") ∈ lw_all := lw_g (lw_at lw_m2 11 rfl) rfl
theorem q353 : (Jvm.Cond.superclass "AshCity$Rectangle" "java/lang/Object") ∈ lw_all := lw_g (lw_at lw_m2 12 rfl) rfl
theorem q355 : (Jvm.Cond.instanceMethod ({ cls := "AshCity$Rectangle", name := "meets", desc := "(LAshCity$Rectangle;)Z" } : Jvm.MethodName)) ∈ lw_all := lw_g (lw_at lw_m2 14 rfl) rfl
theorem q356 : (Jvm.Cond.selects "AshCity$Rectangle" ({ cls := "AshCity$Rectangle", name := "meets", desc := "(LAshCity$Rectangle;)Z" } : Jvm.MethodName) ({ cls := "AshCity$Rectangle", name := "meets", desc := "(LAshCity$Rectangle;)Z" } : Jvm.MethodName)) ∈ lw_all := lw_g (lw_at lw_m2 15 rfl) rfl
theorem q357 : (Jvm.Cond.code ({ cls := "AshCity$Rectangle", name := "meets", desc := "(LAshCity$Rectangle;)Z" } : Jvm.MethodName) prog_15_method_3_code (2 : Nat) (Option.some Jvm.ClassFile.FieldType.boolean)) ∈ lw_all := lw_g (lw_at lw_m2 16 rfl) rfl
theorem q381 : (Jvm.Cond.instanceMethod ({ cls := "AshCity$Rectangle", name := "has", desc := "(II)Z" } : Jvm.MethodName)) ∈ lw_all := lw_g (lw_at lw_m2 40 rfl) rfl
theorem q382 : (Jvm.Cond.selects "AshCity$Rectangle" ({ cls := "AshCity$Rectangle", name := "has", desc := "(II)Z" } : Jvm.MethodName) ({ cls := "AshCity$Rectangle", name := "has", desc := "(II)Z" } : Jvm.MethodName)) ∈ lw_all := lw_g (lw_at lw_m2 41 rfl) rfl
theorem q383 : (Jvm.Cond.code ({ cls := "AshCity$Rectangle", name := "has", desc := "(II)Z" } : Jvm.MethodName) prog_15_method_2_code (3 : Nat) (Option.some Jvm.ClassFile.FieldType.boolean)) ∈ lw_all := lw_g (lw_at lw_m2 42 rfl) rfl
theorem q384 : (Jvm.Cond.methodLinkNest "AshCity$Rectangle" (22 : Nat) ({ cls := "AshCity", name := "within", desc := "(III)Z" } : Jvm.MethodName) "AshCity") ∈ lw_tbl := lw_at lw_m2 43 rfl
theorem q105 : (Jvm.Cond.initialized "AshCity$Place") ∈ lw_all := lw_g (lw_at lw_m1 4 rfl) rfl
theorem q358 : (Jvm.Cond.instantiable "AshCity$Place" (3 : Nat)) ∈ lw_all := lw_g (lw_at lw_m2 17 rfl) rfl
theorem q360 : (Jvm.Cond.instanceMethod ({ cls := "AshCity$Place", name := "<init>", desc := "(IILAshCity$Rectangle;)V" } : Jvm.MethodName)) ∈ lw_all := lw_g (lw_at lw_m2 19 rfl) rfl
theorem q361 : (Jvm.Cond.code ({ cls := "AshCity$Place", name := "<init>", desc := "(IILAshCity$Rectangle;)V" } : Jvm.MethodName) prog_14_method_1_code (4 : Nat) (Option.none : Option Jvm.ClassFile.FieldType)) ∈ lw_all := lw_g (lw_at lw_m2 20 rfl) rfl
theorem q362 : (Jvm.Cond.methodLink "AshCity$Place" (1 : Nat) ({ cls := "java/lang/Object", name := "<init>", desc := "()V" } : Jvm.MethodName)) ∈ lw_all := lw_g (lw_at lw_m2 21 rfl) rfl
theorem q363 : (Jvm.Cond.fieldLink "AshCity$Place" (7 : Nat) "AshCity$Place" "number" "I") ∈ lw_all := lw_g (lw_at lw_m2 22 rfl) rfl
theorem q365 : (Jvm.Cond.fieldLink "AshCity$Place" (13 : Nat) "AshCity$Place" "kind" "I") ∈ lw_all := lw_g (lw_at lw_m2 24 rfl) rfl
theorem q367 : (Jvm.Cond.fieldLink "AshCity$Place" (16 : Nat) "AshCity$Place" "where" "LAshCity$Rectangle;") ∈ lw_all := lw_g (lw_at lw_m2 26 rfl) rfl
theorem q369 : (Jvm.Cond.laysFinal "AshCity$Place" "AshCity$Place" "number" "I") ∈ lw_all := lw_g (lw_at lw_m2 28 rfl) rfl
theorem q370 : (Jvm.Cond.soleField "AshCity$Place" "number") ∈ lw_all := lw_g (lw_at lw_m2 29 rfl) rfl
theorem q371 : (Jvm.Cond.laysFinal "AshCity$Place" "AshCity$Place" "kind" "I") ∈ lw_all := lw_g (lw_at lw_m2 30 rfl) rfl
theorem q372 : (Jvm.Cond.soleField "AshCity$Place" "kind") ∈ lw_all := lw_g (lw_at lw_m2 31 rfl) rfl
theorem q373 : (Jvm.Cond.laysFinal "AshCity$Place" "AshCity$Place" "where" "LAshCity$Rectangle;") ∈ lw_all := lw_g (lw_at lw_m2 32 rfl) rfl
theorem q374 : (Jvm.Cond.soleField "AshCity$Place" "where") ∈ lw_all := lw_g (lw_at lw_m2 33 rfl) rfl
theorem q375 : (Jvm.Cond.superclass "AshCity$Place" "java/lang/Object") ∈ lw_all := lw_g (lw_at lw_m2 34 rfl) rfl
theorem q106 : (Jvm.Cond.initialized "AshCity$Dig") ∈ lw_all := lw_g (lw_at lw_m1 5 rfl) rfl
theorem q402 : (Jvm.Cond.instanceMethod ({ cls := "AshCity$Dig", name := "<init>", desc := "(IILAshCity$Rectangle;IIIII)V" } : Jvm.MethodName)) ∈ lw_all := lw_g (lw_at lw_m2 61 rfl) rfl
theorem q403 : (Jvm.Cond.code ({ cls := "AshCity$Dig", name := "<init>", desc := "(IILAshCity$Rectangle;IIIII)V" } : Jvm.MethodName) prog_6_method_1_code (9 : Nat) (Option.none : Option Jvm.ClassFile.FieldType)) ∈ lw_all := lw_g (lw_at lw_m2 62 rfl) rfl
theorem q404 : (Jvm.Cond.methodLink "AshCity$Dig" (3 : Nat) ({ cls := "java/lang/Object", name := "<init>", desc := "()V" } : Jvm.MethodName)) ∈ lw_all := lw_g (lw_at lw_m2 63 rfl) rfl
theorem q405 : (Jvm.Cond.fieldLink "AshCity$Dig" (15 : Nat) "AshCity$Dig" "number" "I") ∈ lw_all := lw_g (lw_at lw_m2 64 rfl) rfl
theorem q407 : (Jvm.Cond.fieldLink "AshCity$Dig" (18 : Nat) "AshCity$Dig" "hand" "I") ∈ lw_all := lw_g (lw_at lw_m2 66 rfl) rfl
theorem q409 : (Jvm.Cond.fieldLink "AshCity$Dig" (25 : Nat) "AshCity$Dig" "top" "I") ∈ lw_all := lw_g (lw_at lw_m2 68 rfl) rfl
theorem q411 : (Jvm.Cond.fieldLink "AshCity$Dig" (28 : Nat) "AshCity$Dig" "bottom" "I") ∈ lw_all := lw_g (lw_at lw_m2 70 rfl) rfl
theorem q413 : (Jvm.Cond.fieldLink "AshCity$Dig" (31 : Nat) "AshCity$Dig" "from" "I") ∈ lw_all := lw_g (lw_at lw_m2 72 rfl) rfl
theorem q415 : (Jvm.Cond.fieldLink "AshCity$Dig" (34 : Nat) "AshCity$Dig" "to" "I") ∈ lw_all := lw_g (lw_at lw_m2 74 rfl) rfl
theorem q417 : (Jvm.Cond.fieldLink "AshCity$Dig" (37 : Nat) "AshCity$Dig" "told" "I") ∈ lw_all := lw_g (lw_at lw_m2 76 rfl) rfl
theorem q418 : (Jvm.Cond.fieldLink "AshCity$Dig" (21 : Nat) "AshCity$Dig" "where" "LAshCity$Rectangle;") ∈ lw_all := lw_g (lw_at lw_m2 77 rfl) rfl
theorem q420 : (Jvm.Cond.fieldLink "AshCity$Dig" (9 : Nat) "AshCity$Dig" "struck" "I") ∈ lw_all := lw_g (lw_at lw_m2 79 rfl) rfl
theorem q423 : (Jvm.Cond.soleField "AshCity$Dig" "number") ∈ lw_all := lw_g (lw_at lw_m2 82 rfl) rfl
theorem q425 : (Jvm.Cond.soleField "AshCity$Dig" "hand") ∈ lw_all := lw_g (lw_at lw_m2 84 rfl) rfl
theorem q427 : (Jvm.Cond.soleField "AshCity$Dig" "top") ∈ lw_all := lw_g (lw_at lw_m2 86 rfl) rfl
theorem q429 : (Jvm.Cond.soleField "AshCity$Dig" "bottom") ∈ lw_all := lw_g (lw_at lw_m2 88 rfl) rfl
theorem q431 : (Jvm.Cond.soleField "AshCity$Dig" "from") ∈ lw_all := lw_g (lw_at lw_m2 90 rfl) rfl
theorem q433 : (Jvm.Cond.soleField "AshCity$Dig" "to") ∈ lw_all := lw_g (lw_at lw_m2 92 rfl) rfl
theorem q435 : (Jvm.Cond.soleField "AshCity$Dig" "told") ∈ lw_all := lw_g (lw_at lw_m2 94 rfl) rfl
theorem q437 : (Jvm.Cond.soleField "AshCity$Dig" "where") ∈ lw_all := lw_g (lw_at lw_m2 96 rfl) rfl
theorem q439 : (Jvm.Cond.soleField "AshCity$Dig" "struck") ∈ lw_all := lw_g (lw_at lw_m2 98 rfl) rfl
theorem q474 : (Jvm.Cond.instanceMethod ({ cls := "AshCity$Dig", name := "isAhead", desc := "(LAshCity$Dig;)Z" } : Jvm.MethodName)) ∈ lw_all := lw_g (lw_at lw_m2 133 rfl) rfl
theorem q475 : (Jvm.Cond.sameMethod "AshCity$Dig" "AshCity$Dig" "isAhead" "(LAshCity$Dig;)Z") ∈ lw_all := lw_g (lw_at lw_m2 134 rfl) rfl
theorem q479 : (Jvm.Cond.code ({ cls := "AshCity$Dig", name := "isAhead", desc := "(LAshCity$Dig;)Z" } : Jvm.MethodName) prog_6_method_4_code (2 : Nat) (Option.some Jvm.ClassFile.FieldType.boolean)) ∈ lw_all := lw_g (lw_at lw_m2 138 rfl) rfl
theorem q497 : (Jvm.Cond.instanceMethod ({ cls := "AshCity$Dig", name := "isKnown", desc := "(I)Z" } : Jvm.MethodName)) ∈ lw_all := lw_g (lw_at lw_m2 156 rfl) rfl
theorem q498 : (Jvm.Cond.sameMethod "AshCity$Dig" "AshCity$Dig" "isKnown" "(I)Z") ∈ lw_all := lw_g (lw_at lw_m2 157 rfl) rfl
theorem q502 : (Jvm.Cond.code ({ cls := "AshCity$Dig", name := "isKnown", desc := "(I)Z" } : Jvm.MethodName) prog_6_method_2_code (2 : Nat) (Option.some Jvm.ClassFile.FieldType.boolean)) ∈ lw_all := lw_g (lw_at lw_m2 161 rfl) rfl
theorem q504 : (Jvm.Cond.instanceMethod ({ cls := "AshCity$Dig", name := "reaches", desc := "(III)Z" } : Jvm.MethodName)) ∈ lw_all := lw_g (lw_at lw_m2 163 rfl) rfl
theorem q505 : (Jvm.Cond.sameMethod "AshCity$Dig" "AshCity$Dig" "reaches" "(III)Z") ∈ lw_all := lw_g (lw_at lw_m2 164 rfl) rfl
theorem q509 : (Jvm.Cond.code ({ cls := "AshCity$Dig", name := "reaches", desc := "(III)Z" } : Jvm.MethodName) prog_6_method_3_code (4 : Nat) (Option.some Jvm.ClassFile.FieldType.boolean)) ∈ lw_all := lw_g (lw_at lw_m2 168 rfl) rfl
theorem q510 : (Jvm.Cond.methodLink "AshCity$Dig" (40 : Nat) ({ cls := "AshCity$Rectangle", name := "has", desc := "(II)Z" } : Jvm.MethodName)) ∈ lw_all := lw_g (lw_at lw_m2 169 rfl) rfl
theorem q511 : (Jvm.Cond.methodLinkNest "AshCity$Dig" (46 : Nat) ({ cls := "AshCity", name := "within", desc := "(III)Z" } : Jvm.MethodName) "AshCity") ∈ lw_tbl := lw_at lw_m2 170 rfl
theorem q513 : (Jvm.Cond.declares ({ cls := "AshCity$Dig", name := "makes", desc := "(I)I" } : Jvm.MethodName)) ∈ lw_tbl := lw_at lw_m2 172 rfl
theorem q514 : (Jvm.Cond.sameMethod "AshCity$Dig" "AshCity$Dig" "makes" "(I)I") ∈ lw_all := lw_g (lw_at lw_m2 173 rfl) rfl
theorem q1030 : (Jvm.Cond.instanceMethod ({ cls := "AshCity$Dig", name := "finds", desc := "()Z" } : Jvm.MethodName)) ∈ lw_all := lw_g (lw_at lw_m4 209 rfl) rfl
theorem q1031 : (Jvm.Cond.sameMethod "AshCity$Dig" "AshCity$Dig" "finds" "()Z") ∈ lw_all := lw_g (lw_at lw_m4 210 rfl) rfl
theorem q1037 : (Jvm.Cond.code ({ cls := "AshCity$Dig", name := "finds", desc := "()Z" } : Jvm.MethodName) prog_6_method_7_code (1 : Nat) (Option.some Jvm.ClassFile.FieldType.boolean)) ∈ lw_all := lw_g (lw_at lw_m4 216 rfl) rfl
theorem q1068 : (Jvm.Cond.declares ({ cls := "AshCity$Dig", name := "kind", desc := "()I" } : Jvm.MethodName)) ∈ lw_tbl := lw_at lw_m5 7 rfl
theorem q1069 : (Jvm.Cond.sameMethod "AshCity$Dig" "AshCity$Dig" "kind" "()I") ∈ lw_all := lw_g (lw_at lw_m5 8 rfl) rfl
theorem q107 : (Jvm.Cond.initialized "AshCity$Opening") ∈ lw_all := lw_g (lw_at lw_m1 6 rfl) rfl
theorem q397 : (Jvm.Cond.instantiable "AshCity$Opening" (9 : Nat)) ∈ lw_all := lw_g (lw_at lw_m2 56 rfl) rfl
theorem q399 : (Jvm.Cond.instanceMethod ({ cls := "AshCity$Opening", name := "<init>", desc := "(IILAshCity$Rectangle;IIII)V" } : Jvm.MethodName)) ∈ lw_all := lw_g (lw_at lw_m2 58 rfl) rfl
theorem q400 : (Jvm.Cond.code ({ cls := "AshCity$Opening", name := "<init>", desc := "(IILAshCity$Rectangle;IIII)V" } : Jvm.MethodName) prog_13_method_1_code (8 : Nat) (Option.none : Option Jvm.ClassFile.FieldType)) ∈ lw_all := lw_g (lw_at lw_m2 59 rfl) rfl
theorem q401 : (Jvm.Cond.methodLink "AshCity$Opening" (3 : Nat) ({ cls := "AshCity$Dig", name := "<init>", desc := "(IILAshCity$Rectangle;IIIII)V" } : Jvm.MethodName)) ∈ lw_all := lw_g (lw_at lw_m2 60 rfl) rfl
theorem q422 : (Jvm.Cond.laysFinal "AshCity$Opening" "AshCity$Dig" "number" "I") ∈ lw_all := lw_g (lw_at lw_m2 81 rfl) rfl
theorem q424 : (Jvm.Cond.laysFinal "AshCity$Opening" "AshCity$Dig" "hand" "I") ∈ lw_all := lw_g (lw_at lw_m2 83 rfl) rfl
theorem q426 : (Jvm.Cond.laysFinal "AshCity$Opening" "AshCity$Dig" "top" "I") ∈ lw_all := lw_g (lw_at lw_m2 85 rfl) rfl
theorem q428 : (Jvm.Cond.laysFinal "AshCity$Opening" "AshCity$Dig" "bottom" "I") ∈ lw_all := lw_g (lw_at lw_m2 87 rfl) rfl
theorem q430 : (Jvm.Cond.laysFinal "AshCity$Opening" "AshCity$Dig" "from" "I") ∈ lw_all := lw_g (lw_at lw_m2 89 rfl) rfl
theorem q432 : (Jvm.Cond.laysFinal "AshCity$Opening" "AshCity$Dig" "to" "I") ∈ lw_all := lw_g (lw_at lw_m2 91 rfl) rfl
theorem q434 : (Jvm.Cond.laysFinal "AshCity$Opening" "AshCity$Dig" "told" "I") ∈ lw_all := lw_g (lw_at lw_m2 93 rfl) rfl
theorem q436 : (Jvm.Cond.laysFinal "AshCity$Opening" "AshCity$Dig" "where" "LAshCity$Rectangle;") ∈ lw_all := lw_g (lw_at lw_m2 95 rfl) rfl
theorem q438 : (Jvm.Cond.lays "AshCity$Opening" "AshCity$Dig" "struck" "I") ∈ lw_all := lw_g (lw_at lw_m2 97 rfl) rfl
theorem q440 : (Jvm.Cond.superclass "AshCity$Opening" "AshCity$Dig") ∈ lw_all := lw_g (lw_at lw_m2 99 rfl) rfl
theorem q476 : (Jvm.Cond.selects "AshCity$Opening" ({ cls := "AshCity$Dig", name := "isAhead", desc := "(LAshCity$Dig;)Z" } : Jvm.MethodName) ({ cls := "AshCity$Dig", name := "isAhead", desc := "(LAshCity$Dig;)Z" } : Jvm.MethodName)) ∈ lw_all := lw_g (lw_at lw_m2 135 rfl) rfl
theorem q499 : (Jvm.Cond.selects "AshCity$Opening" ({ cls := "AshCity$Dig", name := "isKnown", desc := "(I)Z" } : Jvm.MethodName) ({ cls := "AshCity$Dig", name := "isKnown", desc := "(I)Z" } : Jvm.MethodName)) ∈ lw_all := lw_g (lw_at lw_m2 158 rfl) rfl
theorem q506 : (Jvm.Cond.selects "AshCity$Opening" ({ cls := "AshCity$Dig", name := "reaches", desc := "(III)Z" } : Jvm.MethodName) ({ cls := "AshCity$Dig", name := "reaches", desc := "(III)Z" } : Jvm.MethodName)) ∈ lw_all := lw_g (lw_at lw_m2 165 rfl) rfl
theorem q515 : (Jvm.Cond.selects "AshCity$Opening" ({ cls := "AshCity$Dig", name := "makes", desc := "(I)I" } : Jvm.MethodName) ({ cls := "AshCity$Opening", name := "makes", desc := "(I)I" } : Jvm.MethodName)) ∈ lw_all := lw_g (lw_at lw_m2 174 rfl) rfl
theorem q516 : (Jvm.Cond.instanceMethod ({ cls := "AshCity$Opening", name := "makes", desc := "(I)I" } : Jvm.MethodName)) ∈ lw_all := lw_g (lw_at lw_m2 175 rfl) rfl
theorem q517 : (Jvm.Cond.code ({ cls := "AshCity$Opening", name := "makes", desc := "(I)I" } : Jvm.MethodName) prog_13_method_2_code (2 : Nat) (Option.some Jvm.ClassFile.FieldType.int)) ∈ lw_all := lw_g (lw_at lw_m2 176 rfl) rfl
theorem q1032 : (Jvm.Cond.selects "AshCity$Opening" ({ cls := "AshCity$Dig", name := "finds", desc := "()Z" } : Jvm.MethodName) ({ cls := "AshCity$Dig", name := "finds", desc := "()Z" } : Jvm.MethodName)) ∈ lw_all := lw_g (lw_at lw_m4 211 rfl) rfl
theorem q1070 : (Jvm.Cond.selects "AshCity$Opening" ({ cls := "AshCity$Dig", name := "kind", desc := "()I" } : Jvm.MethodName) ({ cls := "AshCity$Opening", name := "kind", desc := "()I" } : Jvm.MethodName)) ∈ lw_all := lw_g (lw_at lw_m5 9 rfl) rfl
theorem q1071 : (Jvm.Cond.instanceMethod ({ cls := "AshCity$Opening", name := "kind", desc := "()I" } : Jvm.MethodName)) ∈ lw_all := lw_g (lw_at lw_m5 10 rfl) rfl
theorem q1072 : (Jvm.Cond.code ({ cls := "AshCity$Opening", name := "kind", desc := "()I" } : Jvm.MethodName) prog_13_method_3_code (1 : Nat) (Option.some Jvm.ClassFile.FieldType.int)) ∈ lw_all := lw_g (lw_at lw_m5 11 rfl) rfl
theorem q2116 : (Jvm.Cond.castable "AshCity$Opening" "AshCity$Dig") ∈ lw_tbl := lw_at lw_m9 95 rfl
theorem q108 : (Jvm.Cond.initialized "AshCity$Tunnel") ∈ lw_all := lw_g (lw_at lw_m1 7 rfl) rfl
theorem q442 : (Jvm.Cond.instantiable "AshCity$Tunnel" (9 : Nat)) ∈ lw_all := lw_g (lw_at lw_m2 101 rfl) rfl
theorem q444 : (Jvm.Cond.instanceMethod ({ cls := "AshCity$Tunnel", name := "<init>", desc := "(IILAshCity$Rectangle;IIIII)V" } : Jvm.MethodName)) ∈ lw_all := lw_g (lw_at lw_m2 103 rfl) rfl
theorem q445 : (Jvm.Cond.code ({ cls := "AshCity$Tunnel", name := "<init>", desc := "(IILAshCity$Rectangle;IIIII)V" } : Jvm.MethodName) prog_23_method_1_code (9 : Nat) (Option.none : Option Jvm.ClassFile.FieldType)) ∈ lw_all := lw_g (lw_at lw_m2 104 rfl) rfl
theorem q446 : (Jvm.Cond.methodLink "AshCity$Tunnel" (3 : Nat) ({ cls := "AshCity$Dig", name := "<init>", desc := "(IILAshCity$Rectangle;IIIII)V" } : Jvm.MethodName)) ∈ lw_all := lw_g (lw_at lw_m2 105 rfl) rfl
theorem q447 : (Jvm.Cond.laysFinal "AshCity$Tunnel" "AshCity$Dig" "number" "I") ∈ lw_all := lw_g (lw_at lw_m2 106 rfl) rfl
theorem q448 : (Jvm.Cond.laysFinal "AshCity$Tunnel" "AshCity$Dig" "hand" "I") ∈ lw_all := lw_g (lw_at lw_m2 107 rfl) rfl
theorem q449 : (Jvm.Cond.laysFinal "AshCity$Tunnel" "AshCity$Dig" "top" "I") ∈ lw_all := lw_g (lw_at lw_m2 108 rfl) rfl
theorem q450 : (Jvm.Cond.laysFinal "AshCity$Tunnel" "AshCity$Dig" "bottom" "I") ∈ lw_all := lw_g (lw_at lw_m2 109 rfl) rfl
theorem q451 : (Jvm.Cond.laysFinal "AshCity$Tunnel" "AshCity$Dig" "from" "I") ∈ lw_all := lw_g (lw_at lw_m2 110 rfl) rfl
theorem q452 : (Jvm.Cond.laysFinal "AshCity$Tunnel" "AshCity$Dig" "to" "I") ∈ lw_all := lw_g (lw_at lw_m2 111 rfl) rfl
theorem q453 : (Jvm.Cond.laysFinal "AshCity$Tunnel" "AshCity$Dig" "told" "I") ∈ lw_all := lw_g (lw_at lw_m2 112 rfl) rfl
theorem q454 : (Jvm.Cond.laysFinal "AshCity$Tunnel" "AshCity$Dig" "where" "LAshCity$Rectangle;") ∈ lw_all := lw_g (lw_at lw_m2 113 rfl) rfl
theorem q455 : (Jvm.Cond.lays "AshCity$Tunnel" "AshCity$Dig" "struck" "I") ∈ lw_all := lw_g (lw_at lw_m2 114 rfl) rfl
theorem q456 : (Jvm.Cond.superclass "AshCity$Tunnel" "AshCity$Dig") ∈ lw_all := lw_g (lw_at lw_m2 115 rfl) rfl
theorem q478 : (Jvm.Cond.selects "AshCity$Tunnel" ({ cls := "AshCity$Dig", name := "isAhead", desc := "(LAshCity$Dig;)Z" } : Jvm.MethodName) ({ cls := "AshCity$Dig", name := "isAhead", desc := "(LAshCity$Dig;)Z" } : Jvm.MethodName)) ∈ lw_all := lw_g (lw_at lw_m2 137 rfl) rfl
theorem q501 : (Jvm.Cond.selects "AshCity$Tunnel" ({ cls := "AshCity$Dig", name := "isKnown", desc := "(I)Z" } : Jvm.MethodName) ({ cls := "AshCity$Dig", name := "isKnown", desc := "(I)Z" } : Jvm.MethodName)) ∈ lw_all := lw_g (lw_at lw_m2 160 rfl) rfl
theorem q508 : (Jvm.Cond.selects "AshCity$Tunnel" ({ cls := "AshCity$Dig", name := "reaches", desc := "(III)Z" } : Jvm.MethodName) ({ cls := "AshCity$Dig", name := "reaches", desc := "(III)Z" } : Jvm.MethodName)) ∈ lw_all := lw_g (lw_at lw_m2 167 rfl) rfl
theorem q521 : (Jvm.Cond.selects "AshCity$Tunnel" ({ cls := "AshCity$Dig", name := "makes", desc := "(I)I" } : Jvm.MethodName) ({ cls := "AshCity$Tunnel", name := "makes", desc := "(I)I" } : Jvm.MethodName)) ∈ lw_all := lw_g (lw_at lw_m2 180 rfl) rfl
theorem q522 : (Jvm.Cond.instanceMethod ({ cls := "AshCity$Tunnel", name := "makes", desc := "(I)I" } : Jvm.MethodName)) ∈ lw_all := lw_g (lw_at lw_m2 181 rfl) rfl
theorem q523 : (Jvm.Cond.code ({ cls := "AshCity$Tunnel", name := "makes", desc := "(I)I" } : Jvm.MethodName) prog_23_method_2_code (2 : Nat) (Option.some Jvm.ClassFile.FieldType.int)) ∈ lw_all := lw_g (lw_at lw_m2 182 rfl) rfl
theorem q1036 : (Jvm.Cond.selects "AshCity$Tunnel" ({ cls := "AshCity$Dig", name := "finds", desc := "()Z" } : Jvm.MethodName) ({ cls := "AshCity$Dig", name := "finds", desc := "()Z" } : Jvm.MethodName)) ∈ lw_all := lw_g (lw_at lw_m4 215 rfl) rfl
theorem q1076 : (Jvm.Cond.selects "AshCity$Tunnel" ({ cls := "AshCity$Dig", name := "kind", desc := "()I" } : Jvm.MethodName) ({ cls := "AshCity$Tunnel", name := "kind", desc := "()I" } : Jvm.MethodName)) ∈ lw_all := lw_g (lw_at lw_m5 15 rfl) rfl
theorem q1077 : (Jvm.Cond.instanceMethod ({ cls := "AshCity$Tunnel", name := "kind", desc := "()I" } : Jvm.MethodName)) ∈ lw_all := lw_g (lw_at lw_m5 16 rfl) rfl
theorem q1078 : (Jvm.Cond.code ({ cls := "AshCity$Tunnel", name := "kind", desc := "()I" } : Jvm.MethodName) prog_23_method_3_code (1 : Nat) (Option.some Jvm.ClassFile.FieldType.int)) ∈ lw_all := lw_g (lw_at lw_m5 17 rfl) rfl
theorem q2117 : (Jvm.Cond.castable "AshCity$Tunnel" "AshCity$Dig") ∈ lw_tbl := lw_at lw_m9 96 rfl
theorem q109 : (Jvm.Cond.initialized "AshCity$Refilling") ∈ lw_all := lw_g (lw_at lw_m1 8 rfl) rfl
theorem q458 : (Jvm.Cond.instantiable "AshCity$Refilling" (9 : Nat)) ∈ lw_all := lw_g (lw_at lw_m2 117 rfl) rfl
theorem q460 : (Jvm.Cond.instanceMethod ({ cls := "AshCity$Refilling", name := "<init>", desc := "(IILAshCity$Rectangle;IIIII)V" } : Jvm.MethodName)) ∈ lw_all := lw_g (lw_at lw_m2 119 rfl) rfl
theorem q461 : (Jvm.Cond.code ({ cls := "AshCity$Refilling", name := "<init>", desc := "(IILAshCity$Rectangle;IIIII)V" } : Jvm.MethodName) prog_16_method_1_code (9 : Nat) (Option.none : Option Jvm.ClassFile.FieldType)) ∈ lw_all := lw_g (lw_at lw_m2 120 rfl) rfl
theorem q462 : (Jvm.Cond.methodLink "AshCity$Refilling" (3 : Nat) ({ cls := "AshCity$Dig", name := "<init>", desc := "(IILAshCity$Rectangle;IIIII)V" } : Jvm.MethodName)) ∈ lw_all := lw_g (lw_at lw_m2 121 rfl) rfl
theorem q463 : (Jvm.Cond.laysFinal "AshCity$Refilling" "AshCity$Dig" "number" "I") ∈ lw_all := lw_g (lw_at lw_m2 122 rfl) rfl
theorem q464 : (Jvm.Cond.laysFinal "AshCity$Refilling" "AshCity$Dig" "hand" "I") ∈ lw_all := lw_g (lw_at lw_m2 123 rfl) rfl
theorem q465 : (Jvm.Cond.laysFinal "AshCity$Refilling" "AshCity$Dig" "top" "I") ∈ lw_all := lw_g (lw_at lw_m2 124 rfl) rfl
theorem q466 : (Jvm.Cond.laysFinal "AshCity$Refilling" "AshCity$Dig" "bottom" "I") ∈ lw_all := lw_g (lw_at lw_m2 125 rfl) rfl
theorem q467 : (Jvm.Cond.laysFinal "AshCity$Refilling" "AshCity$Dig" "from" "I") ∈ lw_all := lw_g (lw_at lw_m2 126 rfl) rfl
theorem q468 : (Jvm.Cond.laysFinal "AshCity$Refilling" "AshCity$Dig" "to" "I") ∈ lw_all := lw_g (lw_at lw_m2 127 rfl) rfl
theorem q469 : (Jvm.Cond.laysFinal "AshCity$Refilling" "AshCity$Dig" "told" "I") ∈ lw_all := lw_g (lw_at lw_m2 128 rfl) rfl
theorem q470 : (Jvm.Cond.laysFinal "AshCity$Refilling" "AshCity$Dig" "where" "LAshCity$Rectangle;") ∈ lw_all := lw_g (lw_at lw_m2 129 rfl) rfl
theorem q471 : (Jvm.Cond.lays "AshCity$Refilling" "AshCity$Dig" "struck" "I") ∈ lw_all := lw_g (lw_at lw_m2 130 rfl) rfl
theorem q472 : (Jvm.Cond.superclass "AshCity$Refilling" "AshCity$Dig") ∈ lw_all := lw_g (lw_at lw_m2 131 rfl) rfl
theorem q477 : (Jvm.Cond.selects "AshCity$Refilling" ({ cls := "AshCity$Dig", name := "isAhead", desc := "(LAshCity$Dig;)Z" } : Jvm.MethodName) ({ cls := "AshCity$Dig", name := "isAhead", desc := "(LAshCity$Dig;)Z" } : Jvm.MethodName)) ∈ lw_all := lw_g (lw_at lw_m2 136 rfl) rfl
theorem q500 : (Jvm.Cond.selects "AshCity$Refilling" ({ cls := "AshCity$Dig", name := "isKnown", desc := "(I)Z" } : Jvm.MethodName) ({ cls := "AshCity$Dig", name := "isKnown", desc := "(I)Z" } : Jvm.MethodName)) ∈ lw_all := lw_g (lw_at lw_m2 159 rfl) rfl
theorem q507 : (Jvm.Cond.selects "AshCity$Refilling" ({ cls := "AshCity$Dig", name := "reaches", desc := "(III)Z" } : Jvm.MethodName) ({ cls := "AshCity$Dig", name := "reaches", desc := "(III)Z" } : Jvm.MethodName)) ∈ lw_all := lw_g (lw_at lw_m2 166 rfl) rfl
theorem q518 : (Jvm.Cond.selects "AshCity$Refilling" ({ cls := "AshCity$Dig", name := "makes", desc := "(I)I" } : Jvm.MethodName) ({ cls := "AshCity$Refilling", name := "makes", desc := "(I)I" } : Jvm.MethodName)) ∈ lw_all := lw_g (lw_at lw_m2 177 rfl) rfl
theorem q519 : (Jvm.Cond.instanceMethod ({ cls := "AshCity$Refilling", name := "makes", desc := "(I)I" } : Jvm.MethodName)) ∈ lw_all := lw_g (lw_at lw_m2 178 rfl) rfl
theorem q520 : (Jvm.Cond.code ({ cls := "AshCity$Refilling", name := "makes", desc := "(I)I" } : Jvm.MethodName) prog_16_method_2_code (2 : Nat) (Option.some Jvm.ClassFile.FieldType.int)) ∈ lw_all := lw_g (lw_at lw_m2 179 rfl) rfl
theorem q1033 : (Jvm.Cond.selects "AshCity$Refilling" ({ cls := "AshCity$Dig", name := "finds", desc := "()Z" } : Jvm.MethodName) ({ cls := "AshCity$Refilling", name := "finds", desc := "()Z" } : Jvm.MethodName)) ∈ lw_all := lw_g (lw_at lw_m4 212 rfl) rfl
theorem q1034 : (Jvm.Cond.instanceMethod ({ cls := "AshCity$Refilling", name := "finds", desc := "()Z" } : Jvm.MethodName)) ∈ lw_all := lw_g (lw_at lw_m4 213 rfl) rfl
theorem q1035 : (Jvm.Cond.code ({ cls := "AshCity$Refilling", name := "finds", desc := "()Z" } : Jvm.MethodName) prog_16_method_4_code (1 : Nat) (Option.some Jvm.ClassFile.FieldType.boolean)) ∈ lw_all := lw_g (lw_at lw_m4 214 rfl) rfl
theorem q1073 : (Jvm.Cond.selects "AshCity$Refilling" ({ cls := "AshCity$Dig", name := "kind", desc := "()I" } : Jvm.MethodName) ({ cls := "AshCity$Refilling", name := "kind", desc := "()I" } : Jvm.MethodName)) ∈ lw_all := lw_g (lw_at lw_m5 12 rfl) rfl
theorem q1074 : (Jvm.Cond.instanceMethod ({ cls := "AshCity$Refilling", name := "kind", desc := "()I" } : Jvm.MethodName)) ∈ lw_all := lw_g (lw_at lw_m5 13 rfl) rfl
theorem q1075 : (Jvm.Cond.code ({ cls := "AshCity$Refilling", name := "kind", desc := "()I" } : Jvm.MethodName) prog_16_method_3_code (1 : Nat) (Option.some Jvm.ClassFile.FieldType.int)) ∈ lw_all := lw_g (lw_at lw_m5 14 rfl) rfl
theorem q2118 : (Jvm.Cond.castable "AshCity$Refilling" "AshCity$Dig") ∈ lw_tbl := lw_at lw_m9 97 rfl
theorem q110 : (Jvm.Cond.initialized "AshCity$Meaning") ∈ lw_all := lw_g (lw_at lw_m1 9 rfl) rfl
theorem q536 : (Jvm.Cond.instantiable "AshCity$Meaning" (5 : Nat)) ∈ lw_all := lw_g (lw_at lw_m2 195 rfl) rfl
theorem q538 : (Jvm.Cond.instanceMethod ({ cls := "AshCity$Meaning", name := "<init>", desc := "(IIIII)V" } : Jvm.MethodName)) ∈ lw_all := lw_g (lw_at lw_m2 197 rfl) rfl
theorem q539 : (Jvm.Cond.code ({ cls := "AshCity$Meaning", name := "<init>", desc := "(IIIII)V" } : Jvm.MethodName) prog_10_method_1_code (6 : Nat) (Option.none : Option Jvm.ClassFile.FieldType)) ∈ lw_all := lw_g (lw_at lw_m2 198 rfl) rfl
theorem q540 : (Jvm.Cond.methodLink "AshCity$Meaning" (1 : Nat) ({ cls := "java/lang/Object", name := "<init>", desc := "()V" } : Jvm.MethodName)) ∈ lw_all := lw_g (lw_at lw_m2 199 rfl) rfl
theorem q541 : (Jvm.Cond.fieldLink "AshCity$Meaning" (7 : Nat) "AshCity$Meaning" "numbering" "I") ∈ lw_all := lw_g (lw_at lw_m2 200 rfl) rfl
theorem q543 : (Jvm.Cond.fieldLink "AshCity$Meaning" (13 : Nat) "AshCity$Meaning" "number" "I") ∈ lw_all := lw_g (lw_at lw_m2 202 rfl) rfl
theorem q545 : (Jvm.Cond.fieldLink "AshCity$Meaning" (16 : Nat) "AshCity$Meaning" "place" "I") ∈ lw_all := lw_g (lw_at lw_m2 204 rfl) rfl
theorem q547 : (Jvm.Cond.fieldLink "AshCity$Meaning" (19 : Nat) "AshCity$Meaning" "from" "I") ∈ lw_all := lw_g (lw_at lw_m2 206 rfl) rfl
theorem q549 : (Jvm.Cond.fieldLink "AshCity$Meaning" (22 : Nat) "AshCity$Meaning" "to" "I") ∈ lw_all := lw_g (lw_at lw_m2 208 rfl) rfl
theorem q551 : (Jvm.Cond.laysFinal "AshCity$Meaning" "AshCity$Meaning" "numbering" "I") ∈ lw_all := lw_g (lw_at lw_m2 210 rfl) rfl
theorem q552 : (Jvm.Cond.soleField "AshCity$Meaning" "numbering") ∈ lw_all := lw_g (lw_at lw_m2 211 rfl) rfl
theorem q553 : (Jvm.Cond.laysFinal "AshCity$Meaning" "AshCity$Meaning" "number" "I") ∈ lw_all := lw_g (lw_at lw_m2 212 rfl) rfl
theorem q554 : (Jvm.Cond.soleField "AshCity$Meaning" "number") ∈ lw_all := lw_g (lw_at lw_m2 213 rfl) rfl
theorem q555 : (Jvm.Cond.laysFinal "AshCity$Meaning" "AshCity$Meaning" "place" "I") ∈ lw_all := lw_g (lw_at lw_m2 214 rfl) rfl
theorem q556 : (Jvm.Cond.soleField "AshCity$Meaning" "place") ∈ lw_all := lw_g (lw_at lw_m2 215 rfl) rfl
theorem q557 : (Jvm.Cond.laysFinal "AshCity$Meaning" "AshCity$Meaning" "from" "I") ∈ lw_all := lw_g (lw_at lw_m2 216 rfl) rfl
theorem q558 : (Jvm.Cond.soleField "AshCity$Meaning" "from") ∈ lw_all := lw_g (lw_at lw_m2 217 rfl) rfl
theorem q559 : (Jvm.Cond.laysFinal "AshCity$Meaning" "AshCity$Meaning" "to" "I") ∈ lw_all := lw_g (lw_at lw_m2 218 rfl) rfl
theorem q560 : (Jvm.Cond.soleField "AshCity$Meaning" "to") ∈ lw_all := lw_g (lw_at lw_m2 219 rfl) rfl
theorem q561 : (Jvm.Cond.superclass "AshCity$Meaning" "java/lang/Object") ∈ lw_all := lw_g (lw_at lw_m2 220 rfl) rfl
theorem q111 : (Jvm.Cond.initialized "AshCity$Rules") ∈ lw_all := lw_g (lw_at lw_m1 10 rfl) rfl
theorem q582 : (Jvm.Cond.instantiable "AshCity$Rules" (10 : Nat)) ∈ lw_all := lw_g (lw_at lw_m3 1 rfl) rfl
theorem q584 : (Jvm.Cond.instanceMethod ({ cls := "AshCity$Rules", name := "<init>", desc := "(II[BI)V" } : Jvm.MethodName)) ∈ lw_all := lw_g (lw_at lw_m3 3 rfl) rfl
theorem q585 : (Jvm.Cond.code ({ cls := "AshCity$Rules", name := "<init>", desc := "(II[BI)V" } : Jvm.MethodName) prog_18_method_1_code (6 : Nat) (Option.none : Option Jvm.ClassFile.FieldType)) ∈ lw_all := lw_g (lw_at lw_m3 4 rfl) rfl
theorem q586 : (Jvm.Cond.methodLink "AshCity$Rules" (3 : Nat) ({ cls := "java/lang/Object", name := "<init>", desc := "()V" } : Jvm.MethodName)) ∈ lw_all := lw_g (lw_at lw_m3 5 rfl) rfl
theorem q587 : (Jvm.Cond.classLink "AshCity$Rules" (9 : Nat) "AshCity$Clause") ∈ lw_all := lw_g (lw_at lw_m3 6 rfl) rfl
theorem q589 : (Jvm.Cond.fieldLink "AshCity$Rules" (11 : Nat) "AshCity$Rules" "clauses" "[LAshCity$Clause;") ∈ lw_all := lw_g (lw_at lw_m3 8 rfl) rfl
theorem q591 : (Jvm.Cond.fieldLink "AshCity$Rules" (17 : Nat) "AshCity$Rules" "isStruck" "[Z") ∈ lw_all := lw_g (lw_at lw_m3 10 rfl) rfl
theorem q593 : (Jvm.Cond.fieldLink "AshCity$Rules" (134 : Nat) "AshCity$Rules" "many" "I") ∈ lw_all := lw_g (lw_at lw_m3 12 rfl) rfl
theorem q595 : (Jvm.Cond.fieldLink "AshCity$Rules" (21 : Nat) "AshCity$Rules" "from" "I") ∈ lw_all := lw_g (lw_at lw_m3 14 rfl) rfl
theorem q596 : (Jvm.Cond.fieldLink "AshCity$Rules" (25 : Nat) "AshCity$Rules" "to" "I") ∈ lw_all := lw_g (lw_at lw_m3 15 rfl) rfl
theorem q597 : (Jvm.Cond.fieldLink "AshCity$Rules" (28 : Nat) "AshCity$Rules" "t" "[B") ∈ lw_all := lw_g (lw_at lw_m3 16 rfl) rfl
theorem q598 : (Jvm.Cond.fieldLink "AshCity$Rules" (32 : Nat) "AshCity$Rules" "at" "I") ∈ lw_all := lw_g (lw_at lw_m3 17 rfl) rfl
theorem q599 : (Jvm.Cond.fieldLink "AshCity$Rules" (56 : Nat) "AshCity$Rules" "open" "I") ∈ lw_all := lw_g (lw_at lw_m3 18 rfl) rfl
theorem q600 : (Jvm.Cond.fieldLink "AshCity$Rules" (35 : Nat) "AshCity$Rules" "fault" "I") ∈ lw_all := lw_g (lw_at lw_m3 19 rfl) rfl
theorem q601 : (Jvm.Cond.fieldLink "AshCity$Rules" (38 : Nat) "AshCity$Rules" "place" "I") ∈ lw_all := lw_g (lw_at lw_m3 20 rfl) rfl
theorem q602 : (Jvm.Cond.laysFinal "AshCity$Rules" "AshCity$Rules" "clauses" "[LAshCity$Clause;") ∈ lw_all := lw_g (lw_at lw_m3 21 rfl) rfl
theorem q603 : (Jvm.Cond.soleField "AshCity$Rules" "clauses") ∈ lw_all := lw_g (lw_at lw_m3 22 rfl) rfl
theorem q604 : (Jvm.Cond.laysFinal "AshCity$Rules" "AshCity$Rules" "isStruck" "[Z") ∈ lw_all := lw_g (lw_at lw_m3 23 rfl) rfl
theorem q605 : (Jvm.Cond.soleField "AshCity$Rules" "isStruck") ∈ lw_all := lw_g (lw_at lw_m3 24 rfl) rfl
theorem q606 : (Jvm.Cond.lays "AshCity$Rules" "AshCity$Rules" "many" "I") ∈ lw_all := lw_g (lw_at lw_m3 25 rfl) rfl
theorem q607 : (Jvm.Cond.soleField "AshCity$Rules" "many") ∈ lw_all := lw_g (lw_at lw_m3 26 rfl) rfl
theorem q608 : (Jvm.Cond.laysFinal "AshCity$Rules" "AshCity$Rules" "from" "I") ∈ lw_all := lw_g (lw_at lw_m3 27 rfl) rfl
theorem q609 : (Jvm.Cond.soleField "AshCity$Rules" "from") ∈ lw_all := lw_g (lw_at lw_m3 28 rfl) rfl
theorem q610 : (Jvm.Cond.laysFinal "AshCity$Rules" "AshCity$Rules" "to" "I") ∈ lw_all := lw_g (lw_at lw_m3 29 rfl) rfl
theorem q611 : (Jvm.Cond.soleField "AshCity$Rules" "to") ∈ lw_all := lw_g (lw_at lw_m3 30 rfl) rfl
theorem q612 : (Jvm.Cond.laysFinal "AshCity$Rules" "AshCity$Rules" "t" "[B") ∈ lw_all := lw_g (lw_at lw_m3 31 rfl) rfl
theorem q613 : (Jvm.Cond.soleField "AshCity$Rules" "t") ∈ lw_all := lw_g (lw_at lw_m3 32 rfl) rfl
theorem q614 : (Jvm.Cond.lays "AshCity$Rules" "AshCity$Rules" "at" "I") ∈ lw_all := lw_g (lw_at lw_m3 33 rfl) rfl
theorem q615 : (Jvm.Cond.soleField "AshCity$Rules" "at") ∈ lw_all := lw_g (lw_at lw_m3 34 rfl) rfl
theorem q616 : (Jvm.Cond.lays "AshCity$Rules" "AshCity$Rules" "open" "I") ∈ lw_all := lw_g (lw_at lw_m3 35 rfl) rfl
theorem q617 : (Jvm.Cond.soleField "AshCity$Rules" "open") ∈ lw_all := lw_g (lw_at lw_m3 36 rfl) rfl
theorem q618 : (Jvm.Cond.lays "AshCity$Rules" "AshCity$Rules" "fault" "I") ∈ lw_all := lw_g (lw_at lw_m3 37 rfl) rfl
theorem q619 : (Jvm.Cond.soleField "AshCity$Rules" "fault") ∈ lw_all := lw_g (lw_at lw_m3 38 rfl) rfl
theorem q620 : (Jvm.Cond.lays "AshCity$Rules" "AshCity$Rules" "place" "I") ∈ lw_all := lw_g (lw_at lw_m3 39 rfl) rfl
theorem q621 : (Jvm.Cond.soleField "AshCity$Rules" "place") ∈ lw_all := lw_g (lw_at lw_m3 40 rfl) rfl
theorem q622 : (Jvm.Cond.superclass "AshCity$Rules" "java/lang/Object") ∈ lw_all := lw_g (lw_at lw_m3 41 rfl) rfl
theorem q625 : (Jvm.Cond.instanceMethod ({ cls := "AshCity$Rules", name := "read", desc := "()I" } : Jvm.MethodName)) ∈ lw_all := lw_g (lw_at lw_m3 44 rfl) rfl
theorem q626 : (Jvm.Cond.selects "AshCity$Rules" ({ cls := "AshCity$Rules", name := "read", desc := "()I" } : Jvm.MethodName) ({ cls := "AshCity$Rules", name := "read", desc := "()I" } : Jvm.MethodName)) ∈ lw_all := lw_g (lw_at lw_m3 45 rfl) rfl
theorem q627 : (Jvm.Cond.code ({ cls := "AshCity$Rules", name := "read", desc := "()I" } : Jvm.MethodName) prog_18_method_17_code (2 : Nat) (Option.some Jvm.ClassFile.FieldType.int)) ∈ lw_all := lw_g (lw_at lw_m3 46 rfl) rfl
theorem q628 : (Jvm.Cond.methodLink "AshCity$Rules" (53 : Nat) ({ cls := "AshCity$Rules", name := "isGood", desc := "()Z" } : Jvm.MethodName)) ∈ lw_all := lw_g (lw_at lw_m3 47 rfl) rfl
theorem q629 : (Jvm.Cond.privateMethod ({ cls := "AshCity$Rules", name := "isGood", desc := "()Z" } : Jvm.MethodName)) ∈ lw_tbl := lw_at lw_m3 48 rfl
theorem q630 : (Jvm.Cond.instanceMethod ({ cls := "AshCity$Rules", name := "isGood", desc := "()Z" } : Jvm.MethodName)) ∈ lw_all := lw_g (lw_at lw_m3 49 rfl) rfl
theorem q631 : (Jvm.Cond.code ({ cls := "AshCity$Rules", name := "isGood", desc := "()Z" } : Jvm.MethodName) prog_18_method_3_code (1 : Nat) (Option.some Jvm.ClassFile.FieldType.boolean)) ∈ lw_all := lw_g (lw_at lw_m3 50 rfl) rfl
theorem q632 : (Jvm.Cond.methodLink "AshCity$Rules" (149 : Nat) ({ cls := "AshCity$Rules", name := "clause", desc := "()V" } : Jvm.MethodName)) ∈ lw_all := lw_g (lw_at lw_m3 51 rfl) rfl
theorem q633 : (Jvm.Cond.privateMethod ({ cls := "AshCity$Rules", name := "clause", desc := "()V" } : Jvm.MethodName)) ∈ lw_tbl := lw_at lw_m3 52 rfl
theorem q634 : (Jvm.Cond.instanceMethod ({ cls := "AshCity$Rules", name := "clause", desc := "()V" } : Jvm.MethodName)) ∈ lw_all := lw_g (lw_at lw_m3 53 rfl) rfl
theorem q635 : (Jvm.Cond.code ({ cls := "AshCity$Rules", name := "clause", desc := "()V" } : Jvm.MethodName) prog_18_method_16_code (3 : Nat) (Option.none : Option Jvm.ClassFile.FieldType)) ∈ lw_all := lw_g (lw_at lw_m3 54 rfl) rfl
theorem q636 : (Jvm.Cond.methodLink "AshCity$Rules" (41 : Nat) ({ cls := "AshCity$Rules", name := "here", desc := "()I" } : Jvm.MethodName)) ∈ lw_all := lw_g (lw_at lw_m3 55 rfl) rfl
theorem q637 : (Jvm.Cond.privateMethod ({ cls := "AshCity$Rules", name := "here", desc := "()I" } : Jvm.MethodName)) ∈ lw_tbl := lw_at lw_m3 56 rfl
theorem q638 : (Jvm.Cond.instanceMethod ({ cls := "AshCity$Rules", name := "here", desc := "()I" } : Jvm.MethodName)) ∈ lw_all := lw_g (lw_at lw_m3 57 rfl) rfl
theorem q639 : (Jvm.Cond.code ({ cls := "AshCity$Rules", name := "here", desc := "()I" } : Jvm.MethodName) prog_18_method_2_code (1 : Nat) (Option.some Jvm.ClassFile.FieldType.int)) ∈ lw_all := lw_g (lw_at lw_m3 58 rfl) rfl
theorem q640 : (Jvm.Cond.stringRef "AshCity$Rules" (132 : Nat) "navfx") ∈ lw_tbl := lw_at lw_m3 59 rfl
theorem q641 : (Jvm.Cond.methodLink "AshCity$Rules" (81 : Nat) ({ cls := "java/lang/String", name := "indexOf", desc := "(I)I" } : Jvm.MethodName)) ∈ lw_all := lw_g (lw_at lw_m3 60 rfl) rfl
theorem q727 : (Jvm.Cond.methodLink "AshCity$Rules" (49 : Nat) ({ cls := "AshCity$Rules", name := "bad", desc := "(II)V" } : Jvm.MethodName)) ∈ lw_all := lw_g (lw_at lw_m3 146 rfl) rfl
theorem q728 : (Jvm.Cond.privateMethod ({ cls := "AshCity$Rules", name := "bad", desc := "(II)V" } : Jvm.MethodName)) ∈ lw_tbl := lw_at lw_m3 147 rfl
theorem q729 : (Jvm.Cond.instanceMethod ({ cls := "AshCity$Rules", name := "bad", desc := "(II)V" } : Jvm.MethodName)) ∈ lw_all := lw_g (lw_at lw_m3 148 rfl) rfl
theorem q730 : (Jvm.Cond.code ({ cls := "AshCity$Rules", name := "bad", desc := "(II)V" } : Jvm.MethodName) prog_18_method_4_code (3 : Nat) (Option.none : Option Jvm.ClassFile.FieldType)) ∈ lw_all := lw_g (lw_at lw_m3 149 rfl) rfl
theorem q732 : (Jvm.Cond.methodLink "AshCity$Rules" (137 : Nat) ({ cls := "AshCity$Clause", name := "<init>", desc := "(I)V" } : Jvm.MethodName)) ∈ lw_all := lw_g (lw_at lw_m3 151 rfl) rfl
theorem q738 : (Jvm.Cond.fieldLinkNest "AshCity$Rules" (141 : Nat) "AshCity$Clause" "number" "I" "AshCity") ∈ lw_tbl := lw_at lw_m3 157 rfl
theorem q740 : (Jvm.Cond.fieldLinkNest "AshCity$Rules" (143 : Nat) "AshCity$Clause" "other" "I" "AshCity") ∈ lw_tbl := lw_at lw_m3 159 rfl
theorem q743 : (Jvm.Cond.fieldLinkNest "AshCity$Rules" (146 : Nat) "AshCity$Clause" "condition" "LAshCity$Condition;" "AshCity") ∈ lw_tbl := lw_at lw_m3 162 rfl
theorem q753 : (Jvm.Cond.methodLink "AshCity$Rules" (138 : Nat) ({ cls := "AshCity$Rules", name := "most", desc := "(I)I" } : Jvm.MethodName)) ∈ lw_all := lw_g (lw_at lw_m3 172 rfl) rfl
theorem q754 : (Jvm.Cond.static ({ cls := "AshCity$Rules", name := "most", desc := "(I)I" } : Jvm.MethodName)) ∈ lw_all := lw_g (lw_at lw_m3 173 rfl) rfl
theorem q755 : (Jvm.Cond.code ({ cls := "AshCity$Rules", name := "most", desc := "(I)I" } : Jvm.MethodName) prog_18_method_15_code (1 : Nat) (Option.some Jvm.ClassFile.FieldType.int)) ∈ lw_all := lw_g (lw_at lw_m3 174 rfl) rfl
theorem q756 : (Jvm.Cond.methodLink "AshCity$Rules" (73 : Nat) ({ cls := "AshCity$Rules", name := "number", desc := "(I)I" } : Jvm.MethodName)) ∈ lw_all := lw_g (lw_at lw_m3 175 rfl) rfl
theorem q757 : (Jvm.Cond.privateMethod ({ cls := "AshCity$Rules", name := "number", desc := "(I)I" } : Jvm.MethodName)) ∈ lw_tbl := lw_at lw_m3 176 rfl
theorem q758 : (Jvm.Cond.instanceMethod ({ cls := "AshCity$Rules", name := "number", desc := "(I)I" } : Jvm.MethodName)) ∈ lw_all := lw_g (lw_at lw_m3 177 rfl) rfl
theorem q759 : (Jvm.Cond.code ({ cls := "AshCity$Rules", name := "number", desc := "(I)I" } : Jvm.MethodName) prog_18_method_6_code (4 : Nat) (Option.some Jvm.ClassFile.FieldType.int)) ∈ lw_all := lw_g (lw_at lw_m3 178 rfl) rfl
theorem q760 : (Jvm.Cond.methodLink "AshCity$Rules" (45 : Nat) ({ cls := "AshCity$Rules", name := "seesDigit", desc := "()Z" } : Jvm.MethodName)) ∈ lw_all := lw_g (lw_at lw_m3 179 rfl) rfl
theorem q761 : (Jvm.Cond.privateMethod ({ cls := "AshCity$Rules", name := "seesDigit", desc := "()Z" } : Jvm.MethodName)) ∈ lw_tbl := lw_at lw_m3 180 rfl
theorem q762 : (Jvm.Cond.instanceMethod ({ cls := "AshCity$Rules", name := "seesDigit", desc := "()Z" } : Jvm.MethodName)) ∈ lw_all := lw_g (lw_at lw_m3 181 rfl) rfl
theorem q763 : (Jvm.Cond.code ({ cls := "AshCity$Rules", name := "seesDigit", desc := "()Z" } : Jvm.MethodName) prog_18_method_5_code (1 : Nat) (Option.some Jvm.ClassFile.FieldType.boolean)) ∈ lw_all := lw_g (lw_at lw_m3 182 rfl) rfl
theorem q764 : (Jvm.Cond.methodLink "AshCity$Rules" (66 : Nat) ({ cls := "AshCity$Rules", name := "must", desc := "(I)V" } : Jvm.MethodName)) ∈ lw_all := lw_g (lw_at lw_m3 183 rfl) rfl
theorem q765 : (Jvm.Cond.privateMethod ({ cls := "AshCity$Rules", name := "must", desc := "(I)V" } : Jvm.MethodName)) ∈ lw_tbl := lw_at lw_m3 184 rfl
theorem q766 : (Jvm.Cond.instanceMethod ({ cls := "AshCity$Rules", name := "must", desc := "(I)V" } : Jvm.MethodName)) ∈ lw_all := lw_g (lw_at lw_m3 185 rfl) rfl
theorem q767 : (Jvm.Cond.code ({ cls := "AshCity$Rules", name := "must", desc := "(I)V" } : Jvm.MethodName) prog_18_method_7_code (2 : Nat) (Option.none : Option Jvm.ClassFile.FieldType)) ∈ lw_all := lw_g (lw_at lw_m3 186 rfl) rfl
theorem q768 : (Jvm.Cond.methodLink "AshCity$Rules" (113 : Nat) ({ cls := "AshCity$Rules", name := "condition", desc := "()LAshCity$Condition;" } : Jvm.MethodName)) ∈ lw_all := lw_g (lw_at lw_m3 187 rfl) rfl
theorem q769 : (Jvm.Cond.privateMethod ({ cls := "AshCity$Rules", name := "condition", desc := "()LAshCity$Condition;" } : Jvm.MethodName)) ∈ lw_tbl := lw_at lw_m3 188 rfl
theorem q770 : (Jvm.Cond.instanceMethod ({ cls := "AshCity$Rules", name := "condition", desc := "()LAshCity$Condition;" } : Jvm.MethodName)) ∈ lw_all := lw_g (lw_at lw_m3 189 rfl) rfl
theorem q771 : (Jvm.Cond.code ({ cls := "AshCity$Rules", name := "condition", desc := "()LAshCity$Condition;" } : Jvm.MethodName) prog_18_method_14_code (3 : Nat) (Option.some (Jvm.ClassFile.FieldType.object "AshCity$Condition"))) ∈ lw_all := lw_g (lw_at lw_m3 190 rfl) rfl
theorem q772 : (Jvm.Cond.methodLink "AshCity$Rules" (59 : Nat) ({ cls := "AshCity$Rules", name := "opens", desc := "()V" } : Jvm.MethodName)) ∈ lw_all := lw_g (lw_at lw_m3 191 rfl) rfl
theorem q773 : (Jvm.Cond.privateMethod ({ cls := "AshCity$Rules", name := "opens", desc := "()V" } : Jvm.MethodName)) ∈ lw_tbl := lw_at lw_m3 192 rfl
theorem q774 : (Jvm.Cond.instanceMethod ({ cls := "AshCity$Rules", name := "opens", desc := "()V" } : Jvm.MethodName)) ∈ lw_all := lw_g (lw_at lw_m3 193 rfl) rfl
theorem q775 : (Jvm.Cond.code ({ cls := "AshCity$Rules", name := "opens", desc := "()V" } : Jvm.MethodName) prog_18_method_8_code (1 : Nat) (Option.none : Option Jvm.ClassFile.FieldType)) ∈ lw_all := lw_g (lw_at lw_m3 194 rfl) rfl
theorem q776 : (Jvm.Cond.classLink "AshCity$Rules" (121 : Nat) "AshCity$Some") ∈ lw_all := lw_g (lw_at lw_m3 195 rfl) rfl
theorem q778 : (Jvm.Cond.methodLink "AshCity$Rules" (129 : Nat) ({ cls := "AshCity$Rules", name := "pieces", desc := "()LAshCity$Condition;" } : Jvm.MethodName)) ∈ lw_all := lw_g (lw_at lw_m3 197 rfl) rfl
theorem q779 : (Jvm.Cond.privateMethod ({ cls := "AshCity$Rules", name := "pieces", desc := "()LAshCity$Condition;" } : Jvm.MethodName)) ∈ lw_tbl := lw_at lw_m3 198 rfl
theorem q780 : (Jvm.Cond.instanceMethod ({ cls := "AshCity$Rules", name := "pieces", desc := "()LAshCity$Condition;" } : Jvm.MethodName)) ∈ lw_all := lw_g (lw_at lw_m3 199 rfl) rfl
theorem q781 : (Jvm.Cond.code ({ cls := "AshCity$Rules", name := "pieces", desc := "()LAshCity$Condition;" } : Jvm.MethodName) prog_18_method_13_code (3 : Nat) (Option.some (Jvm.ClassFile.FieldType.object "AshCity$Condition"))) ∈ lw_all := lw_g (lw_at lw_m3 200 rfl) rfl
theorem q782 : (Jvm.Cond.methodLink "AshCity$Rules" (104 : Nat) ({ cls := "AshCity$Rules", name := "piece", desc := "()LAshCity$Condition;" } : Jvm.MethodName)) ∈ lw_all := lw_g (lw_at lw_m3 201 rfl) rfl
theorem q783 : (Jvm.Cond.privateMethod ({ cls := "AshCity$Rules", name := "piece", desc := "()LAshCity$Condition;" } : Jvm.MethodName)) ∈ lw_tbl := lw_at lw_m3 202 rfl
theorem q784 : (Jvm.Cond.instanceMethod ({ cls := "AshCity$Rules", name := "piece", desc := "()LAshCity$Condition;" } : Jvm.MethodName)) ∈ lw_all := lw_g (lw_at lw_m3 203 rfl) rfl
theorem q785 : (Jvm.Cond.code ({ cls := "AshCity$Rules", name := "piece", desc := "()LAshCity$Condition;" } : Jvm.MethodName) prog_18_method_12_code (4 : Nat) (Option.some (Jvm.ClassFile.FieldType.object "AshCity$Condition"))) ∈ lw_all := lw_g (lw_at lw_m3 204 rfl) rfl
theorem q786 : (Jvm.Cond.classLink "AshCity$Rules" (108 : Nat) "AshCity$Not") ∈ lw_all := lw_g (lw_at lw_m3 205 rfl) rfl
theorem q788 : (Jvm.Cond.methodLink "AshCity$Rules" (110 : Nat) ({ cls := "AshCity$Not", name := "<init>", desc := "(LAshCity$Condition;)V" } : Jvm.MethodName)) ∈ lw_all := lw_g (lw_at lw_m3 207 rfl) rfl
theorem q799 : (Jvm.Cond.methodLink "AshCity$Rules" (62 : Nat) ({ cls := "AshCity$Rules", name := "sum", desc := "()LAshCity$Sum;" } : Jvm.MethodName)) ∈ lw_all := lw_g (lw_at lw_m3 218 rfl) rfl
theorem q800 : (Jvm.Cond.privateMethod ({ cls := "AshCity$Rules", name := "sum", desc := "()LAshCity$Sum;" } : Jvm.MethodName)) ∈ lw_tbl := lw_at lw_m3 219 rfl
theorem q801 : (Jvm.Cond.instanceMethod ({ cls := "AshCity$Rules", name := "sum", desc := "()LAshCity$Sum;" } : Jvm.MethodName)) ∈ lw_all := lw_g (lw_at lw_m3 220 rfl) rfl
theorem q802 : (Jvm.Cond.code ({ cls := "AshCity$Rules", name := "sum", desc := "()LAshCity$Sum;" } : Jvm.MethodName) prog_18_method_11_code (4 : Nat) (Option.some (Jvm.ClassFile.FieldType.object "AshCity$Sum"))) ∈ lw_all := lw_g (lw_at lw_m3 221 rfl) rfl
theorem q803 : (Jvm.Cond.classLink "AshCity$Rules" (89 : Nat) "AshCity$Row") ∈ lw_all := lw_g (lw_at lw_m3 222 rfl) rfl
theorem q805 : (Jvm.Cond.methodLink "AshCity$Rules" (101 : Nat) ({ cls := "AshCity$Rules", name := "product", desc := "()LAshCity$Sum;" } : Jvm.MethodName)) ∈ lw_all := lw_g (lw_at lw_m3 224 rfl) rfl
theorem q806 : (Jvm.Cond.privateMethod ({ cls := "AshCity$Rules", name := "product", desc := "()LAshCity$Sum;" } : Jvm.MethodName)) ∈ lw_tbl := lw_at lw_m3 225 rfl
theorem q807 : (Jvm.Cond.instanceMethod ({ cls := "AshCity$Rules", name := "product", desc := "()LAshCity$Sum;" } : Jvm.MethodName)) ∈ lw_all := lw_g (lw_at lw_m3 226 rfl) rfl
theorem q808 : (Jvm.Cond.code ({ cls := "AshCity$Rules", name := "product", desc := "()LAshCity$Sum;" } : Jvm.MethodName) prog_18_method_10_code (4 : Nat) (Option.some (Jvm.ClassFile.FieldType.object "AshCity$Sum"))) ∈ lw_all := lw_g (lw_at lw_m3 227 rfl) rfl
theorem q809 : (Jvm.Cond.methodLink "AshCity$Rules" (91 : Nat) ({ cls := "AshCity$Rules", name := "factor", desc := "()LAshCity$Sum;" } : Jvm.MethodName)) ∈ lw_all := lw_g (lw_at lw_m3 228 rfl) rfl
theorem q810 : (Jvm.Cond.privateMethod ({ cls := "AshCity$Rules", name := "factor", desc := "()LAshCity$Sum;" } : Jvm.MethodName)) ∈ lw_tbl := lw_at lw_m3 229 rfl
theorem q811 : (Jvm.Cond.instanceMethod ({ cls := "AshCity$Rules", name := "factor", desc := "()LAshCity$Sum;" } : Jvm.MethodName)) ∈ lw_all := lw_g (lw_at lw_m3 230 rfl) rfl
theorem q812 : (Jvm.Cond.code ({ cls := "AshCity$Rules", name := "factor", desc := "()LAshCity$Sum;" } : Jvm.MethodName) prog_18_method_9_code (3 : Nat) (Option.some (Jvm.ClassFile.FieldType.object "AshCity$Sum"))) ∈ lw_all := lw_g (lw_at lw_m3 231 rfl) rfl
theorem q813 : (Jvm.Cond.classLink "AshCity$Rules" (70 : Nat) "AshCity$Number") ∈ lw_all := lw_g (lw_at lw_m3 232 rfl) rfl
theorem q815 : (Jvm.Cond.constant "AshCity$Rules" (72 : Nat) (99999 : Int32)) ∈ lw_all := lw_g (lw_at lw_m3 234 rfl) rfl
theorem q816 : (Jvm.Cond.methodLink "AshCity$Rules" (77 : Nat) ({ cls := "AshCity$Number", name := "<init>", desc := "(I)V" } : Jvm.MethodName)) ∈ lw_all := lw_g (lw_at lw_m3 235 rfl) rfl
theorem q827 : (Jvm.Cond.stringRef "AshCity$Rules" (79 : Nat) "whkmp") ∈ lw_tbl := lw_at lw_m4 6 rfl
theorem q828 : (Jvm.Cond.classLink "AshCity$Rules" (86 : Nat) "AshCity$Letter") ∈ lw_all := lw_g (lw_at lw_m4 7 rfl) rfl
theorem q830 : (Jvm.Cond.methodLink "AshCity$Rules" (88 : Nat) ({ cls := "AshCity$Letter", name := "<init>", desc := "(I)V" } : Jvm.MethodName)) ∈ lw_all := lw_g (lw_at lw_m4 9 rfl) rfl
theorem q838 : (Jvm.Cond.methodLink "AshCity$Rules" (94 : Nat) ({ cls := "AshCity$Row", name := "<init>", desc := "(ILAshCity$Sum;)V" } : Jvm.MethodName)) ∈ lw_all := lw_g (lw_at lw_m4 17 rfl) rfl
theorem q845 : (Jvm.Cond.fieldLinkNest "AshCity$Rules" (97 : Nat) "AshCity$Row" "next" "LAshCity$Row;" "AshCity") ∈ lw_tbl := lw_at lw_m4 24 rfl
theorem q853 : (Jvm.Cond.classLink "AshCity$Rules" (116 : Nat) "AshCity$Compared") ∈ lw_all := lw_g (lw_at lw_m4 32 rfl) rfl
theorem q855 : (Jvm.Cond.methodLink "AshCity$Rules" (118 : Nat) ({ cls := "AshCity$Compared", name := "<init>", desc := "(LAshCity$Sum;ILAshCity$Sum;)V" } : Jvm.MethodName)) ∈ lw_all := lw_g (lw_at lw_m4 34 rfl) rfl
theorem q869 : (Jvm.Cond.methodLink "AshCity$Rules" (123 : Nat) ({ cls := "AshCity$Some", name := "<init>", desc := "(LAshCity$Condition;I)V" } : Jvm.MethodName)) ∈ lw_all := lw_g (lw_at lw_m4 48 rfl) rfl
theorem q876 : (Jvm.Cond.fieldLinkNest "AshCity$Rules" (126 : Nat) "AshCity$Some" "next" "LAshCity$Some;" "AshCity") ∈ lw_tbl := lw_at lw_m4 55 rfl
theorem q924 : (Jvm.Cond.instanceMethod ({ cls := "AshCity$Rules", name := "isInForce", desc := "(I)Z" } : Jvm.MethodName)) ∈ lw_all := lw_g (lw_at lw_m4 103 rfl) rfl
theorem q925 : (Jvm.Cond.selects "AshCity$Rules" ({ cls := "AshCity$Rules", name := "isInForce", desc := "(I)Z" } : Jvm.MethodName) ({ cls := "AshCity$Rules", name := "isInForce", desc := "(I)Z" } : Jvm.MethodName)) ∈ lw_all := lw_g (lw_at lw_m4 104 rfl) rfl
theorem q926 : (Jvm.Cond.code ({ cls := "AshCity$Rules", name := "isInForce", desc := "(I)Z" } : Jvm.MethodName) prog_18_method_18_code (2 : Nat) (Option.some Jvm.ClassFile.FieldType.boolean)) ∈ lw_all := lw_g (lw_at lw_m4 105 rfl) rfl
theorem q927 : (Jvm.Cond.methodLinkNest "AshCity$Rules" (152 : Nat) ({ cls := "AshCity", name := "within", desc := "(III)Z" } : Jvm.MethodName) "AshCity") ∈ lw_tbl := lw_at lw_m4 106 rfl
theorem q112 : (Jvm.Cond.initialized "java/lang/String") ∈ lw_all := lw_g (lw_at lw_m1 11 rfl) rfl
theorem q642 : (Jvm.Cond.instanceMethod ({ cls := "java/lang/String", name := "indexOf", desc := "(I)I" } : Jvm.MethodName)) ∈ lw_all := lw_g (lw_at lw_m3 61 rfl) rfl
theorem q643 : (Jvm.Cond.selects "java/lang/String" ({ cls := "java/lang/String", name := "indexOf", desc := "(I)I" } : Jvm.MethodName) ({ cls := "java/lang/String", name := "indexOf", desc := "(I)I" } : Jvm.MethodName)) ∈ lw_all := lw_g (lw_at lw_m3 62 rfl) rfl
theorem q644 : (Jvm.Cond.code ({ cls := "java/lang/String", name := "indexOf", desc := "(I)I" } : Jvm.MethodName) prog_31_method_79_code (2 : Nat) (Option.some Jvm.ClassFile.FieldType.int)) ∈ lw_all := lw_g (lw_at lw_m3 63 rfl) rfl
theorem q645 : (Jvm.Cond.methodLink "java/lang/String" (633 : Nat) ({ cls := "java/lang/String", name := "indexOf", desc := "(II)I" } : Jvm.MethodName)) ∈ lw_all := lw_g (lw_at lw_m3 64 rfl) rfl
theorem q646 : (Jvm.Cond.instanceMethod ({ cls := "java/lang/String", name := "indexOf", desc := "(II)I" } : Jvm.MethodName)) ∈ lw_all := lw_g (lw_at lw_m3 65 rfl) rfl
theorem q647 : (Jvm.Cond.selects "java/lang/String" ({ cls := "java/lang/String", name := "indexOf", desc := "(II)I" } : Jvm.MethodName) ({ cls := "java/lang/String", name := "indexOf", desc := "(II)I" } : Jvm.MethodName)) ∈ lw_all := lw_g (lw_at lw_m3 66 rfl) rfl
theorem q648 : (Jvm.Cond.code ({ cls := "java/lang/String", name := "indexOf", desc := "(II)I" } : Jvm.MethodName) prog_31_method_80_code (3 : Nat) (Option.some Jvm.ClassFile.FieldType.int)) ∈ lw_all := lw_g (lw_at lw_m3 67 rfl) rfl
theorem q649 : (Jvm.Cond.methodLink "java/lang/String" (492 : Nat) ({ cls := "java/lang/String", name := "isLatin1", desc := "()Z" } : Jvm.MethodName)) ∈ lw_all := lw_g (lw_at lw_m3 68 rfl) rfl
theorem q650 : (Jvm.Cond.instanceMethod ({ cls := "java/lang/String", name := "isLatin1", desc := "()Z" } : Jvm.MethodName)) ∈ lw_all := lw_g (lw_at lw_m3 69 rfl) rfl
theorem q651 : (Jvm.Cond.selects "java/lang/String" ({ cls := "java/lang/String", name := "isLatin1", desc := "()Z" } : Jvm.MethodName) ({ cls := "java/lang/String", name := "isLatin1", desc := "()Z" } : Jvm.MethodName)) ∈ lw_all := lw_g (lw_at lw_m3 70 rfl) rfl
theorem q652 : (Jvm.Cond.code ({ cls := "java/lang/String", name := "isLatin1", desc := "()Z" } : Jvm.MethodName) prog_31_method_154_code (1 : Nat) (Option.some Jvm.ClassFile.FieldType.boolean)) ∈ lw_all := lw_g (lw_at lw_m3 71 rfl) rfl
theorem q653 : (Jvm.Cond.fieldLink "java/lang/String" (38 : Nat) "java/lang/String" "COMPACT_STRINGS" "Z") ∈ lw_all := lw_g (lw_at lw_m3 72 rfl) rfl
theorem q654 : (Jvm.Cond.laysStatic "java/lang/String" "COMPACT_STRINGS" "Z") ∈ lw_tbl := lw_at lw_m3 73 rfl
theorem q655 : (Jvm.Cond.methodLink "java/lang/String" (505 : Nat) ({ cls := "java/lang/String", name := "length", desc := "()I" } : Jvm.MethodName)) ∈ lw_all := lw_g (lw_at lw_m3 74 rfl) rfl
theorem q656 : (Jvm.Cond.instanceMethod ({ cls := "java/lang/String", name := "length", desc := "()I" } : Jvm.MethodName)) ∈ lw_all := lw_g (lw_at lw_m3 75 rfl) rfl
theorem q657 : (Jvm.Cond.selects "java/lang/String" ({ cls := "java/lang/String", name := "length", desc := "()I" } : Jvm.MethodName) ({ cls := "java/lang/String", name := "length", desc := "()I" } : Jvm.MethodName)) ∈ lw_all := lw_g (lw_at lw_m3 76 rfl) rfl
theorem q658 : (Jvm.Cond.code ({ cls := "java/lang/String", name := "length", desc := "()I" } : Jvm.MethodName) prog_31_method_54_code (1 : Nat) (Option.some Jvm.ClassFile.FieldType.int)) ∈ lw_all := lw_g (lw_at lw_m3 77 rfl) rfl
theorem q659 : (Jvm.Cond.methodLink "java/lang/String" (335 : Nat) ({ cls := "java/lang/String", name := "coder", desc := "()B" } : Jvm.MethodName)) ∈ lw_all := lw_g (lw_at lw_m3 78 rfl) rfl
theorem q660 : (Jvm.Cond.instanceMethod ({ cls := "java/lang/String", name := "coder", desc := "()B" } : Jvm.MethodName)) ∈ lw_all := lw_g (lw_at lw_m3 79 rfl) rfl
theorem q661 : (Jvm.Cond.selects "java/lang/String" ({ cls := "java/lang/String", name := "coder", desc := "()B" } : Jvm.MethodName) ({ cls := "java/lang/String", name := "coder", desc := "()B" } : Jvm.MethodName)) ∈ lw_all := lw_g (lw_at lw_m3 80 rfl) rfl
theorem q662 : (Jvm.Cond.code ({ cls := "java/lang/String", name := "coder", desc := "()B" } : Jvm.MethodName) prog_31_method_152_code (1 : Nat) (Option.some Jvm.ClassFile.FieldType.byte)) ∈ lw_all := lw_g (lw_at lw_m3 81 rfl) rfl
theorem q663 : (Jvm.Cond.methodLink "java/lang/String" (637 : Nat) ({ cls := "java/lang/StringLatin1", name := "indexOf", desc := "([BIII)I" } : Jvm.MethodName)) ∈ lw_all := lw_g (lw_at lw_m3 82 rfl) rfl
theorem q678 : (Jvm.Cond.methodLink "java/lang/String" (640 : Nat) ({ cls := "java/lang/StringUTF16", name := "indexOf", desc := "([BIII)I" } : Jvm.MethodName)) ∈ lw_all := lw_g (lw_at lw_m3 97 rfl) rfl
theorem q694 : (Jvm.Cond.static ({ cls := "java/lang/String", name := "checkBoundsBeginEnd", desc := "(III)V" } : Jvm.MethodName)) ∈ lw_all := lw_g (lw_at lw_m3 113 rfl) rfl
theorem q695 : (Jvm.Cond.code ({ cls := "java/lang/String", name := "checkBoundsBeginEnd", desc := "(III)V" } : Jvm.MethodName) prog_31_method_158_code (3 : Nat) (Option.none : Option Jvm.ClassFile.FieldType)) ∈ lw_all := lw_g (lw_at lw_m3 114 rfl) rfl
theorem q696 : (Jvm.Cond.fieldLink "java/lang/String" (1053 : Nat) "jdk/internal/util/Preconditions" "SIOOBE_FORMATTER" "Ljava/util/function/BiFunction;") ∈ lw_all := lw_g (lw_at lw_m3 115 rfl) rfl
theorem q698 : (Jvm.Cond.methodLink "java/lang/String" (1062 : Nat) ({ cls := "jdk/internal/util/Preconditions", name := "checkFromToIndex", desc := "(IIILjava/util/function/BiFunction;)I" } : Jvm.MethodName)) ∈ lw_all := lw_g (lw_at lw_m3 117 rfl) rfl
theorem q2119 : (Jvm.Cond.fieldLink "java/lang/String" (15 : Nat) "java/lang/String" "coder" "B") ∈ lw_all := lw_g (lw_at lw_m9 98 rfl) rfl
theorem q2120 : (Jvm.Cond.fieldLink "java/lang/String" (9 : Nat) "java/lang/String" "value" "[B") ∈ lw_all := lw_g (lw_at lw_m9 99 rfl) rfl
theorem q113 : (Jvm.Cond.initialized "java/lang/StringLatin1") ∈ lw_all := lw_g (lw_at lw_m1 12 rfl) rfl
theorem q664 : (Jvm.Cond.static ({ cls := "java/lang/StringLatin1", name := "indexOf", desc := "([BIII)I" } : Jvm.MethodName)) ∈ lw_all := lw_g (lw_at lw_m3 83 rfl) rfl
theorem q665 : (Jvm.Cond.code ({ cls := "java/lang/StringLatin1", name := "indexOf", desc := "([BIII)I" } : Jvm.MethodName) prog_32_method_22_code (4 : Nat) (Option.some Jvm.ClassFile.FieldType.int)) ∈ lw_all := lw_g (lw_at lw_m3 84 rfl) rfl
theorem q666 : (Jvm.Cond.methodLink "java/lang/StringLatin1" (88 : Nat) ({ cls := "java/lang/StringLatin1", name := "canEncode", desc := "(I)Z" } : Jvm.MethodName)) ∈ lw_all := lw_g (lw_at lw_m3 85 rfl) rfl
theorem q667 : (Jvm.Cond.static ({ cls := "java/lang/StringLatin1", name := "canEncode", desc := "(I)Z" } : Jvm.MethodName)) ∈ lw_all := lw_g (lw_at lw_m3 86 rfl) rfl
theorem q668 : (Jvm.Cond.code ({ cls := "java/lang/StringLatin1", name := "canEncode", desc := "(I)Z" } : Jvm.MethodName) prog_32_method_4_code (1 : Nat) (Option.some Jvm.ClassFile.FieldType.boolean)) ∈ lw_all := lw_g (lw_at lw_m3 87 rfl) rfl
theorem q669 : (Jvm.Cond.methodLink "java/lang/StringLatin1" (92 : Nat) ({ cls := "java/lang/Math", name := "max", desc := "(II)I" } : Jvm.MethodName)) ∈ lw_all := lw_g (lw_at lw_m3 88 rfl) rfl
theorem q672 : (Jvm.Cond.methodLink "java/lang/StringLatin1" (38 : Nat) ({ cls := "java/lang/Math", name := "min", desc := "(II)I" } : Jvm.MethodName)) ∈ lw_all := lw_g (lw_at lw_m3 91 rfl) rfl
theorem q675 : (Jvm.Cond.methodLink "java/lang/StringLatin1" (95 : Nat) ({ cls := "java/lang/StringLatin1", name := "indexOfChar", desc := "([BIII)I" } : Jvm.MethodName)) ∈ lw_all := lw_g (lw_at lw_m3 94 rfl) rfl
theorem q676 : (Jvm.Cond.static ({ cls := "java/lang/StringLatin1", name := "indexOfChar", desc := "([BIII)I" } : Jvm.MethodName)) ∈ lw_all := lw_g (lw_at lw_m3 95 rfl) rfl
theorem q677 : (Jvm.Cond.code ({ cls := "java/lang/StringLatin1", name := "indexOfChar", desc := "([BIII)I" } : Jvm.MethodName) prog_32_method_23_code (6 : Nat) (Option.some Jvm.ClassFile.FieldType.int)) ∈ lw_all := lw_g (lw_at lw_m3 96 rfl) rfl
theorem q114 : (Jvm.Cond.initialized "java/lang/Math") ∈ lw_all := lw_g (lw_at lw_m1 13 rfl) rfl
theorem q670 : (Jvm.Cond.static ({ cls := "java/lang/Math", name := "max", desc := "(II)I" } : Jvm.MethodName)) ∈ lw_all := lw_g (lw_at lw_m3 89 rfl) rfl
theorem q671 : (Jvm.Cond.code ({ cls := "java/lang/Math", name := "max", desc := "(II)I" } : Jvm.MethodName) prog_30_method_65_code (2 : Nat) (Option.some Jvm.ClassFile.FieldType.int)) ∈ lw_all := lw_g (lw_at lw_m3 90 rfl) rfl
theorem q673 : (Jvm.Cond.static ({ cls := "java/lang/Math", name := "min", desc := "(II)I" } : Jvm.MethodName)) ∈ lw_all := lw_g (lw_at lw_m3 92 rfl) rfl
theorem q674 : (Jvm.Cond.code ({ cls := "java/lang/Math", name := "min", desc := "(II)I" } : Jvm.MethodName) prog_30_method_69_code (2 : Nat) (Option.some Jvm.ClassFile.FieldType.int)) ∈ lw_all := lw_g (lw_at lw_m3 93 rfl) rfl
theorem q115 : (Jvm.Cond.initialized "java/lang/StringUTF16") ∈ lw_all := lw_g (lw_at lw_m1 14 rfl) rfl
theorem q679 : (Jvm.Cond.static ({ cls := "java/lang/StringUTF16", name := "indexOf", desc := "([BIII)I" } : Jvm.MethodName)) ∈ lw_all := lw_g (lw_at lw_m3 98 rfl) rfl
theorem q680 : (Jvm.Cond.code ({ cls := "java/lang/StringUTF16", name := "indexOf", desc := "([BIII)I" } : Jvm.MethodName) prog_33_method_40_code (4 : Nat) (Option.some Jvm.ClassFile.FieldType.int)) ∈ lw_all := lw_g (lw_at lw_m3 99 rfl) rfl
theorem q681 : (Jvm.Cond.methodLink "java/lang/StringUTF16" (224 : Nat) ({ cls := "java/lang/Math", name := "max", desc := "(II)I" } : Jvm.MethodName)) ∈ lw_all := lw_g (lw_at lw_m3 100 rfl) rfl
theorem q682 : (Jvm.Cond.methodLink "java/lang/StringUTF16" (183 : Nat) ({ cls := "java/lang/Math", name := "min", desc := "(II)I" } : Jvm.MethodName)) ∈ lw_all := lw_g (lw_at lw_m3 101 rfl) rfl
theorem q683 : (Jvm.Cond.constant "java/lang/StringUTF16" (227 : Nat) (65536 : Int32)) ∈ lw_all := lw_g (lw_at lw_m3 102 rfl) rfl
theorem q684 : (Jvm.Cond.methodLink "java/lang/StringUTF16" (228 : Nat) ({ cls := "java/lang/StringUTF16", name := "indexOfChar", desc := "([BIII)I" } : Jvm.MethodName)) ∈ lw_all := lw_g (lw_at lw_m3 103 rfl) rfl
theorem q685 : (Jvm.Cond.static ({ cls := "java/lang/StringUTF16", name := "indexOfChar", desc := "([BIII)I" } : Jvm.MethodName)) ∈ lw_all := lw_g (lw_at lw_m3 104 rfl) rfl
theorem q686 : (Jvm.Cond.code ({ cls := "java/lang/StringUTF16", name := "indexOfChar", desc := "([BIII)I" } : Jvm.MethodName) prog_33_method_47_code (4 : Nat) (Option.some Jvm.ClassFile.FieldType.int)) ∈ lw_all := lw_g (lw_at lw_m3 105 rfl) rfl
theorem q687 : (Jvm.Cond.methodLink "java/lang/StringUTF16" (96 : Nat) ({ cls := "java/lang/StringUTF16", name := "checkBoundsBeginEnd", desc := "(II[B)V" } : Jvm.MethodName)) ∈ lw_all := lw_g (lw_at lw_m3 106 rfl) rfl
theorem q688 : (Jvm.Cond.static ({ cls := "java/lang/StringUTF16", name := "checkBoundsBeginEnd", desc := "(II[B)V" } : Jvm.MethodName)) ∈ lw_all := lw_g (lw_at lw_m3 107 rfl) rfl
theorem q689 : (Jvm.Cond.code ({ cls := "java/lang/StringUTF16", name := "checkBoundsBeginEnd", desc := "(II[B)V" } : Jvm.MethodName) prog_33_method_93_code (3 : Nat) (Option.none : Option Jvm.ClassFile.FieldType)) ∈ lw_all := lw_g (lw_at lw_m3 108 rfl) rfl
theorem q690 : (Jvm.Cond.methodLink "java/lang/StringUTF16" (48 : Nat) ({ cls := "java/lang/StringUTF16", name := "length", desc := "([B)I" } : Jvm.MethodName)) ∈ lw_all := lw_g (lw_at lw_m3 109 rfl) rfl
theorem q691 : (Jvm.Cond.static ({ cls := "java/lang/StringUTF16", name := "length", desc := "([B)I" } : Jvm.MethodName)) ∈ lw_all := lw_g (lw_at lw_m3 110 rfl) rfl
theorem q692 : (Jvm.Cond.code ({ cls := "java/lang/StringUTF16", name := "length", desc := "([B)I" } : Jvm.MethodName) prog_33_method_6_code (1 : Nat) (Option.some Jvm.ClassFile.FieldType.int)) ∈ lw_all := lw_g (lw_at lw_m3 111 rfl) rfl
theorem q693 : (Jvm.Cond.methodLink "java/lang/StringUTF16" (241 : Nat) ({ cls := "java/lang/String", name := "checkBoundsBeginEnd", desc := "(III)V" } : Jvm.MethodName)) ∈ lw_all := lw_g (lw_at lw_m3 112 rfl) rfl
theorem q701 : (Jvm.Cond.methodLink "java/lang/StringUTF16" (244 : Nat) ({ cls := "java/lang/StringUTF16", name := "indexOfCharUnsafe", desc := "([BIII)I" } : Jvm.MethodName)) ∈ lw_all := lw_g (lw_at lw_m3 120 rfl) rfl
theorem q702 : (Jvm.Cond.static ({ cls := "java/lang/StringUTF16", name := "indexOfCharUnsafe", desc := "([BIII)I" } : Jvm.MethodName)) ∈ lw_all := lw_g (lw_at lw_m3 121 rfl) rfl
theorem q703 : (Jvm.Cond.code ({ cls := "java/lang/StringUTF16", name := "indexOfCharUnsafe", desc := "([BIII)I" } : Jvm.MethodName) prog_33_method_48_code (5 : Nat) (Option.some Jvm.ClassFile.FieldType.int)) ∈ lw_all := lw_g (lw_at lw_m3 122 rfl) rfl
theorem q704 : (Jvm.Cond.methodLink "java/lang/StringUTF16" (71 : Nat) ({ cls := "java/lang/StringUTF16", name := "getChar", desc := "([BI)C" } : Jvm.MethodName)) ∈ lw_all := lw_g (lw_at lw_m3 123 rfl) rfl
theorem q705 : (Jvm.Cond.static ({ cls := "java/lang/StringUTF16", name := "getChar", desc := "([BI)C" } : Jvm.MethodName)) ∈ lw_all := lw_g (lw_at lw_m3 124 rfl) rfl
theorem q706 : (Jvm.Cond.code ({ cls := "java/lang/StringUTF16", name := "getChar", desc := "([BI)C" } : Jvm.MethodName) prog_33_method_5_code (2 : Nat) (Option.some Jvm.ClassFile.FieldType.char)) ∈ lw_all := lw_g (lw_at lw_m3 125 rfl) rfl
theorem q707 : (Jvm.Cond.fieldLink "java/lang/StringUTF16" (44 : Nat) "java/lang/StringUTF16" "$assertionsDisabled" "Z") ∈ lw_all := lw_g (lw_at lw_m3 126 rfl) rfl
theorem q708 : (Jvm.Cond.laysStatic "java/lang/StringUTF16" "$assertionsDisabled" "Z") ∈ lw_tbl := lw_at lw_m3 127 rfl
theorem q709 : (Jvm.Cond.fieldLink "java/lang/StringUTF16" (59 : Nat) "java/lang/StringUTF16" "HI_BYTE_SHIFT" "I") ∈ lw_all := lw_g (lw_at lw_m3 128 rfl) rfl
theorem q710 : (Jvm.Cond.laysStatic "java/lang/StringUTF16" "HI_BYTE_SHIFT" "I") ∈ lw_tbl := lw_at lw_m3 129 rfl
theorem q711 : (Jvm.Cond.fieldLink "java/lang/StringUTF16" (63 : Nat) "java/lang/StringUTF16" "LO_BYTE_SHIFT" "I") ∈ lw_all := lw_g (lw_at lw_m3 130 rfl) rfl
theorem q712 : (Jvm.Cond.laysStatic "java/lang/StringUTF16" "LO_BYTE_SHIFT" "I") ∈ lw_tbl := lw_at lw_m3 131 rfl
theorem q713 : (Jvm.Cond.methodLink "java/lang/StringUTF16" (232 : Nat) ({ cls := "java/lang/StringUTF16", name := "indexOfSupplementary", desc := "([BIII)I" } : Jvm.MethodName)) ∈ lw_all := lw_g (lw_at lw_m3 132 rfl) rfl
theorem q714 : (Jvm.Cond.static ({ cls := "java/lang/StringUTF16", name := "indexOfSupplementary", desc := "([BIII)I" } : Jvm.MethodName)) ∈ lw_all := lw_g (lw_at lw_m3 133 rfl) rfl
theorem q715 : (Jvm.Cond.code ({ cls := "java/lang/StringUTF16", name := "indexOfSupplementary", desc := "([BIII)I" } : Jvm.MethodName) prog_33_method_49_code (7 : Nat) (Option.some Jvm.ClassFile.FieldType.int)) ∈ lw_all := lw_g (lw_at lw_m3 134 rfl) rfl
theorem q716 : (Jvm.Cond.methodLink "java/lang/StringUTF16" (164 : Nat) ({ cls := "java/lang/Character", name := "isValidCodePoint", desc := "(I)Z" } : Jvm.MethodName)) ∈ lw_all := lw_g (lw_at lw_m3 135 rfl) rfl
theorem q719 : (Jvm.Cond.methodLink "java/lang/StringUTF16" (157 : Nat) ({ cls := "java/lang/Character", name := "highSurrogate", desc := "(I)C" } : Jvm.MethodName)) ∈ lw_all := lw_g (lw_at lw_m3 138 rfl) rfl
theorem q723 : (Jvm.Cond.methodLink "java/lang/StringUTF16" (161 : Nat) ({ cls := "java/lang/Character", name := "lowSurrogate", desc := "(I)C" } : Jvm.MethodName)) ∈ lw_all := lw_g (lw_at lw_m3 142 rfl) rfl
theorem q116 : (Jvm.Cond.initialized "jdk/internal/util/Preconditions") ∈ lw_all := lw_g (lw_at lw_m1 15 rfl) rfl
theorem q697 : (Jvm.Cond.laysStatic "jdk/internal/util/Preconditions" "SIOOBE_FORMATTER" "Ljava/util/function/BiFunction;") ∈ lw_tbl := lw_at lw_m3 116 rfl
theorem q699 : (Jvm.Cond.static ({ cls := "jdk/internal/util/Preconditions", name := "checkFromToIndex", desc := "(IIILjava/util/function/BiFunction;)I" } : Jvm.MethodName)) ∈ lw_all := lw_g (lw_at lw_m3 118 rfl) rfl
theorem q700 : (Jvm.Cond.code ({ cls := "jdk/internal/util/Preconditions", name := "checkFromToIndex", desc := "(IIILjava/util/function/BiFunction;)I" } : Jvm.MethodName) prog_34_method_12_code (4 : Nat) (Option.some Jvm.ClassFile.FieldType.int)) ∈ lw_all := lw_g (lw_at lw_m3 119 rfl) rfl
theorem q117 : (Jvm.Cond.initialized "java/lang/Character") ∈ lw_all := lw_g (lw_at lw_m1 16 rfl) rfl
theorem q717 : (Jvm.Cond.static ({ cls := "java/lang/Character", name := "isValidCodePoint", desc := "(I)Z" } : Jvm.MethodName)) ∈ lw_all := lw_g (lw_at lw_m3 136 rfl) rfl
theorem q718 : (Jvm.Cond.code ({ cls := "java/lang/Character", name := "isValidCodePoint", desc := "(I)Z" } : Jvm.MethodName) prog_28_method_11_code (2 : Nat) (Option.some Jvm.ClassFile.FieldType.boolean)) ∈ lw_all := lw_g (lw_at lw_m3 137 rfl) rfl
theorem q720 : (Jvm.Cond.static ({ cls := "java/lang/Character", name := "highSurrogate", desc := "(I)C" } : Jvm.MethodName)) ∈ lw_all := lw_g (lw_at lw_m3 139 rfl) rfl
theorem q721 : (Jvm.Cond.code ({ cls := "java/lang/Character", name := "highSurrogate", desc := "(I)C" } : Jvm.MethodName) prog_28_method_28_code (1 : Nat) (Option.some Jvm.ClassFile.FieldType.char)) ∈ lw_all := lw_g (lw_at lw_m3 140 rfl) rfl
theorem q722 : (Jvm.Cond.constant "java/lang/Character" (110 : Nat) (55232 : Int32)) ∈ lw_all := lw_g (lw_at lw_m3 141 rfl) rfl
theorem q724 : (Jvm.Cond.static ({ cls := "java/lang/Character", name := "lowSurrogate", desc := "(I)C" } : Jvm.MethodName)) ∈ lw_all := lw_g (lw_at lw_m3 143 rfl) rfl
theorem q725 : (Jvm.Cond.code ({ cls := "java/lang/Character", name := "lowSurrogate", desc := "(I)C" } : Jvm.MethodName) prog_28_method_29_code (1 : Nat) (Option.some Jvm.ClassFile.FieldType.char)) ∈ lw_all := lw_g (lw_at lw_m3 144 rfl) rfl
theorem q726 : (Jvm.Cond.constant "java/lang/Character" (76 : Nat) (56320 : Int32)) ∈ lw_all := lw_g (lw_at lw_m3 145 rfl) rfl
theorem q118 : (Jvm.Cond.initialized "AshCity$Clause") ∈ lw_all := lw_g (lw_at lw_m1 17 rfl) rfl
theorem q731 : (Jvm.Cond.instantiable "AshCity$Clause" (4 : Nat)) ∈ lw_all := lw_g (lw_at lw_m3 150 rfl) rfl
theorem q733 : (Jvm.Cond.instanceMethod ({ cls := "AshCity$Clause", name := "<init>", desc := "(I)V" } : Jvm.MethodName)) ∈ lw_all := lw_g (lw_at lw_m3 152 rfl) rfl
theorem q734 : (Jvm.Cond.code ({ cls := "AshCity$Clause", name := "<init>", desc := "(I)V" } : Jvm.MethodName) prog_3_method_1_code (2 : Nat) (Option.none : Option Jvm.ClassFile.FieldType)) ∈ lw_all := lw_g (lw_at lw_m3 153 rfl) rfl
theorem q735 : (Jvm.Cond.methodLink "AshCity$Clause" (1 : Nat) ({ cls := "java/lang/Object", name := "<init>", desc := "()V" } : Jvm.MethodName)) ∈ lw_all := lw_g (lw_at lw_m3 154 rfl) rfl
theorem q736 : (Jvm.Cond.fieldLink "AshCity$Clause" (7 : Nat) "AshCity$Clause" "letter" "I") ∈ lw_all := lw_g (lw_at lw_m3 155 rfl) rfl
theorem q742 : (Jvm.Cond.fieldLink "AshCity$Clause" (13 : Nat) "AshCity$Clause" "condition" "LAshCity$Condition;") ∈ lw_all := lw_g (lw_at lw_m3 161 rfl) rfl
theorem q744 : (Jvm.Cond.laysFinal "AshCity$Clause" "AshCity$Clause" "letter" "I") ∈ lw_all := lw_g (lw_at lw_m3 163 rfl) rfl
theorem q745 : (Jvm.Cond.soleField "AshCity$Clause" "letter") ∈ lw_all := lw_g (lw_at lw_m3 164 rfl) rfl
theorem q746 : (Jvm.Cond.lays "AshCity$Clause" "AshCity$Clause" "number" "I") ∈ lw_all := lw_g (lw_at lw_m3 165 rfl) rfl
theorem q747 : (Jvm.Cond.soleField "AshCity$Clause" "number") ∈ lw_all := lw_g (lw_at lw_m3 166 rfl) rfl
theorem q748 : (Jvm.Cond.lays "AshCity$Clause" "AshCity$Clause" "other" "I") ∈ lw_all := lw_g (lw_at lw_m3 167 rfl) rfl
theorem q749 : (Jvm.Cond.soleField "AshCity$Clause" "other") ∈ lw_all := lw_g (lw_at lw_m3 168 rfl) rfl
theorem q750 : (Jvm.Cond.lays "AshCity$Clause" "AshCity$Clause" "condition" "LAshCity$Condition;") ∈ lw_all := lw_g (lw_at lw_m3 169 rfl) rfl
theorem q751 : (Jvm.Cond.soleField "AshCity$Clause" "condition") ∈ lw_all := lw_g (lw_at lw_m3 170 rfl) rfl
theorem q752 : (Jvm.Cond.superclass "AshCity$Clause" "java/lang/Object") ∈ lw_all := lw_g (lw_at lw_m3 171 rfl) rfl
theorem q929 : (Jvm.Cond.instanceMethod ({ cls := "AshCity$Clause", name := "holds", desc := "(LAshCity$Asked;)Z" } : Jvm.MethodName)) ∈ lw_all := lw_g (lw_at lw_m4 108 rfl) rfl
theorem q930 : (Jvm.Cond.selects "AshCity$Clause" ({ cls := "AshCity$Clause", name := "holds", desc := "(LAshCity$Asked;)Z" } : Jvm.MethodName) ({ cls := "AshCity$Clause", name := "holds", desc := "(LAshCity$Asked;)Z" } : Jvm.MethodName)) ∈ lw_all := lw_g (lw_at lw_m4 109 rfl) rfl
theorem q931 : (Jvm.Cond.code ({ cls := "AshCity$Clause", name := "holds", desc := "(LAshCity$Asked;)Z" } : Jvm.MethodName) prog_3_method_2_code (2 : Nat) (Option.some Jvm.ClassFile.FieldType.boolean)) ∈ lw_all := lw_g (lw_at lw_m4 110 rfl) rfl
theorem q932 : (Jvm.Cond.methodLink "AshCity$Clause" (17 : Nat) ({ cls := "AshCity$Condition", name := "holds", desc := "(LAshCity$Asked;)I" } : Jvm.MethodName)) ∈ lw_all := lw_g (lw_at lw_m4 111 rfl) rfl
theorem q119 : (Jvm.Cond.initialized "AshCity$Condition") ∈ lw_all := lw_g (lw_at lw_m1 18 rfl) rfl
theorem q792 : (Jvm.Cond.instanceMethod ({ cls := "AshCity$Condition", name := "<init>", desc := "()V" } : Jvm.MethodName)) ∈ lw_all := lw_g (lw_at lw_m3 211 rfl) rfl
theorem q793 : (Jvm.Cond.code ({ cls := "AshCity$Condition", name := "<init>", desc := "()V" } : Jvm.MethodName) prog_5_method_1_code (1 : Nat) (Option.none : Option Jvm.ClassFile.FieldType)) ∈ lw_all := lw_g (lw_at lw_m3 212 rfl) rfl
theorem q794 : (Jvm.Cond.methodLink "AshCity$Condition" (1 : Nat) ({ cls := "java/lang/Object", name := "<init>", desc := "()V" } : Jvm.MethodName)) ∈ lw_all := lw_g (lw_at lw_m3 213 rfl) rfl
theorem q933 : (Jvm.Cond.declares ({ cls := "AshCity$Condition", name := "holds", desc := "(LAshCity$Asked;)I" } : Jvm.MethodName)) ∈ lw_tbl := lw_at lw_m4 112 rfl
theorem q934 : (Jvm.Cond.sameMethod "AshCity$Condition" "AshCity$Condition" "holds" "(LAshCity$Asked;)I") ∈ lw_all := lw_g (lw_at lw_m4 113 rfl) rfl
theorem q120 : (Jvm.Cond.initialized "AshCity$Some") ∈ lw_all := lw_g (lw_at lw_m1 19 rfl) rfl
theorem q777 : (Jvm.Cond.instantiable "AshCity$Some" (3 : Nat)) ∈ lw_all := lw_g (lw_at lw_m3 196 rfl) rfl
theorem q870 : (Jvm.Cond.instanceMethod ({ cls := "AshCity$Some", name := "<init>", desc := "(LAshCity$Condition;I)V" } : Jvm.MethodName)) ∈ lw_all := lw_g (lw_at lw_m4 49 rfl) rfl
theorem q871 : (Jvm.Cond.code ({ cls := "AshCity$Some", name := "<init>", desc := "(LAshCity$Condition;I)V" } : Jvm.MethodName) prog_20_method_1_code (3 : Nat) (Option.none : Option Jvm.ClassFile.FieldType)) ∈ lw_all := lw_g (lw_at lw_m4 50 rfl) rfl
theorem q872 : (Jvm.Cond.methodLinkNest "AshCity$Some" (1 : Nat) ({ cls := "AshCity$Condition", name := "<init>", desc := "()V" } : Jvm.MethodName) "AshCity") ∈ lw_tbl := lw_at lw_m4 51 rfl
theorem q873 : (Jvm.Cond.fieldLink "AshCity$Some" (7 : Nat) "AshCity$Some" "part" "LAshCity$Condition;") ∈ lw_all := lw_g (lw_at lw_m4 52 rfl) rfl
theorem q874 : (Jvm.Cond.fieldLink "AshCity$Some" (13 : Nat) "AshCity$Some" "decides" "I") ∈ lw_all := lw_g (lw_at lw_m4 53 rfl) rfl
theorem q875 : (Jvm.Cond.fieldLink "AshCity$Some" (21 : Nat) "AshCity$Some" "next" "LAshCity$Some;") ∈ lw_all := lw_g (lw_at lw_m4 54 rfl) rfl
theorem q877 : (Jvm.Cond.laysFinal "AshCity$Some" "AshCity$Some" "part" "LAshCity$Condition;") ∈ lw_all := lw_g (lw_at lw_m4 56 rfl) rfl
theorem q878 : (Jvm.Cond.soleField "AshCity$Some" "part") ∈ lw_all := lw_g (lw_at lw_m4 57 rfl) rfl
theorem q879 : (Jvm.Cond.laysFinal "AshCity$Some" "AshCity$Some" "decides" "I") ∈ lw_all := lw_g (lw_at lw_m4 58 rfl) rfl
theorem q880 : (Jvm.Cond.soleField "AshCity$Some" "decides") ∈ lw_all := lw_g (lw_at lw_m4 59 rfl) rfl
theorem q881 : (Jvm.Cond.lays "AshCity$Some" "AshCity$Some" "next" "LAshCity$Some;") ∈ lw_all := lw_g (lw_at lw_m4 60 rfl) rfl
theorem q882 : (Jvm.Cond.soleField "AshCity$Some" "next") ∈ lw_all := lw_g (lw_at lw_m4 61 rfl) rfl
theorem q883 : (Jvm.Cond.superclass "AshCity$Some" "AshCity$Condition") ∈ lw_all := lw_g (lw_at lw_m4 62 rfl) rfl
theorem q962 : (Jvm.Cond.instanceMethod ({ cls := "AshCity$Some", name := "holds", desc := "(LAshCity$Asked;)I" } : Jvm.MethodName)) ∈ lw_all := lw_g (lw_at lw_m4 141 rfl) rfl
theorem q963 : (Jvm.Cond.code ({ cls := "AshCity$Some", name := "holds", desc := "(LAshCity$Asked;)I" } : Jvm.MethodName) prog_20_method_2_code (4 : Nat) (Option.some Jvm.ClassFile.FieldType.int)) ∈ lw_all := lw_g (lw_at lw_m4 142 rfl) rfl
theorem q964 : (Jvm.Cond.methodLink "AshCity$Some" (17 : Nat) ({ cls := "AshCity$Condition", name := "holds", desc := "(LAshCity$Asked;)I" } : Jvm.MethodName)) ∈ lw_all := lw_g (lw_at lw_m4 143 rfl) rfl
theorem q965 : (Jvm.Cond.selects "AshCity$Some" ({ cls := "AshCity$Condition", name := "holds", desc := "(LAshCity$Asked;)I" } : Jvm.MethodName) ({ cls := "AshCity$Some", name := "holds", desc := "(LAshCity$Asked;)I" } : Jvm.MethodName)) ∈ lw_all := lw_g (lw_at lw_m4 144 rfl) rfl
theorem q121 : (Jvm.Cond.initialized "AshCity$Not") ∈ lw_all := lw_g (lw_at lw_m1 20 rfl) rfl
theorem q787 : (Jvm.Cond.instantiable "AshCity$Not" (1 : Nat)) ∈ lw_all := lw_g (lw_at lw_m3 206 rfl) rfl
theorem q789 : (Jvm.Cond.instanceMethod ({ cls := "AshCity$Not", name := "<init>", desc := "(LAshCity$Condition;)V" } : Jvm.MethodName)) ∈ lw_all := lw_g (lw_at lw_m3 208 rfl) rfl
theorem q790 : (Jvm.Cond.code ({ cls := "AshCity$Not", name := "<init>", desc := "(LAshCity$Condition;)V" } : Jvm.MethodName) prog_11_method_1_code (2 : Nat) (Option.none : Option Jvm.ClassFile.FieldType)) ∈ lw_all := lw_g (lw_at lw_m3 209 rfl) rfl
theorem q791 : (Jvm.Cond.methodLinkNest "AshCity$Not" (1 : Nat) ({ cls := "AshCity$Condition", name := "<init>", desc := "()V" } : Jvm.MethodName) "AshCity") ∈ lw_tbl := lw_at lw_m3 210 rfl
theorem q795 : (Jvm.Cond.fieldLink "AshCity$Not" (7 : Nat) "AshCity$Not" "x" "LAshCity$Condition;") ∈ lw_all := lw_g (lw_at lw_m3 214 rfl) rfl
theorem q796 : (Jvm.Cond.laysFinal "AshCity$Not" "AshCity$Not" "x" "LAshCity$Condition;") ∈ lw_all := lw_g (lw_at lw_m3 215 rfl) rfl
theorem q797 : (Jvm.Cond.soleField "AshCity$Not" "x") ∈ lw_all := lw_g (lw_at lw_m3 216 rfl) rfl
theorem q798 : (Jvm.Cond.superclass "AshCity$Not" "AshCity$Condition") ∈ lw_all := lw_g (lw_at lw_m3 217 rfl) rfl
theorem q958 : (Jvm.Cond.selects "AshCity$Not" ({ cls := "AshCity$Condition", name := "holds", desc := "(LAshCity$Asked;)I" } : Jvm.MethodName) ({ cls := "AshCity$Not", name := "holds", desc := "(LAshCity$Asked;)I" } : Jvm.MethodName)) ∈ lw_all := lw_g (lw_at lw_m4 137 rfl) rfl
theorem q959 : (Jvm.Cond.instanceMethod ({ cls := "AshCity$Not", name := "holds", desc := "(LAshCity$Asked;)I" } : Jvm.MethodName)) ∈ lw_all := lw_g (lw_at lw_m4 138 rfl) rfl
theorem q960 : (Jvm.Cond.code ({ cls := "AshCity$Not", name := "holds", desc := "(LAshCity$Asked;)I" } : Jvm.MethodName) prog_11_method_2_code (3 : Nat) (Option.some Jvm.ClassFile.FieldType.int)) ∈ lw_all := lw_g (lw_at lw_m4 139 rfl) rfl
theorem q961 : (Jvm.Cond.methodLink "AshCity$Not" (13 : Nat) ({ cls := "AshCity$Condition", name := "holds", desc := "(LAshCity$Asked;)I" } : Jvm.MethodName)) ∈ lw_all := lw_g (lw_at lw_m4 140 rfl) rfl
theorem q122 : (Jvm.Cond.initialized "AshCity$Sum") ∈ lw_all := lw_g (lw_at lw_m1 21 rfl) rfl
theorem q820 : (Jvm.Cond.instanceMethod ({ cls := "AshCity$Sum", name := "<init>", desc := "()V" } : Jvm.MethodName)) ∈ lw_all := lw_g (lw_at lw_m3 239 rfl) rfl
theorem q821 : (Jvm.Cond.code ({ cls := "AshCity$Sum", name := "<init>", desc := "()V" } : Jvm.MethodName) prog_21_method_1_code (1 : Nat) (Option.none : Option Jvm.ClassFile.FieldType)) ∈ lw_all := lw_g (lw_at lw_m4 0 rfl) rfl
theorem q822 : (Jvm.Cond.methodLink "AshCity$Sum" (1 : Nat) ({ cls := "java/lang/Object", name := "<init>", desc := "()V" } : Jvm.MethodName)) ∈ lw_all := lw_g (lw_at lw_m4 1 rfl) rfl
theorem q939 : (Jvm.Cond.declares ({ cls := "AshCity$Sum", name := "worth", desc := "(LAshCity$Asked;)I" } : Jvm.MethodName)) ∈ lw_tbl := lw_at lw_m4 118 rfl
theorem q940 : (Jvm.Cond.sameMethod "AshCity$Sum" "AshCity$Sum" "worth" "(LAshCity$Asked;)I") ∈ lw_all := lw_g (lw_at lw_m4 119 rfl) rfl
theorem q123 : (Jvm.Cond.initialized "AshCity$Row") ∈ lw_all := lw_g (lw_at lw_m1 22 rfl) rfl
theorem q804 : (Jvm.Cond.instantiable "AshCity$Row" (3 : Nat)) ∈ lw_all := lw_g (lw_at lw_m3 223 rfl) rfl
theorem q839 : (Jvm.Cond.instanceMethod ({ cls := "AshCity$Row", name := "<init>", desc := "(ILAshCity$Sum;)V" } : Jvm.MethodName)) ∈ lw_all := lw_g (lw_at lw_m4 18 rfl) rfl
theorem q840 : (Jvm.Cond.code ({ cls := "AshCity$Row", name := "<init>", desc := "(ILAshCity$Sum;)V" } : Jvm.MethodName) prog_17_method_1_code (3 : Nat) (Option.none : Option Jvm.ClassFile.FieldType)) ∈ lw_all := lw_g (lw_at lw_m4 19 rfl) rfl
theorem q841 : (Jvm.Cond.methodLinkNest "AshCity$Row" (1 : Nat) ({ cls := "AshCity$Sum", name := "<init>", desc := "()V" } : Jvm.MethodName) "AshCity") ∈ lw_tbl := lw_at lw_m4 20 rfl
theorem q842 : (Jvm.Cond.fieldLink "AshCity$Row" (7 : Nat) "AshCity$Row" "sign" "I") ∈ lw_all := lw_g (lw_at lw_m4 21 rfl) rfl
theorem q843 : (Jvm.Cond.fieldLink "AshCity$Row" (13 : Nat) "AshCity$Row" "part" "LAshCity$Sum;") ∈ lw_all := lw_g (lw_at lw_m4 22 rfl) rfl
theorem q844 : (Jvm.Cond.fieldLink "AshCity$Row" (27 : Nat) "AshCity$Row" "next" "LAshCity$Row;") ∈ lw_all := lw_g (lw_at lw_m4 23 rfl) rfl
theorem q846 : (Jvm.Cond.laysFinal "AshCity$Row" "AshCity$Row" "sign" "I") ∈ lw_all := lw_g (lw_at lw_m4 25 rfl) rfl
theorem q847 : (Jvm.Cond.soleField "AshCity$Row" "sign") ∈ lw_all := lw_g (lw_at lw_m4 26 rfl) rfl
theorem q848 : (Jvm.Cond.laysFinal "AshCity$Row" "AshCity$Row" "part" "LAshCity$Sum;") ∈ lw_all := lw_g (lw_at lw_m4 27 rfl) rfl
theorem q849 : (Jvm.Cond.soleField "AshCity$Row" "part") ∈ lw_all := lw_g (lw_at lw_m4 28 rfl) rfl
theorem q850 : (Jvm.Cond.lays "AshCity$Row" "AshCity$Row" "next" "LAshCity$Row;") ∈ lw_all := lw_g (lw_at lw_m4 29 rfl) rfl
theorem q851 : (Jvm.Cond.soleField "AshCity$Row" "next") ∈ lw_all := lw_g (lw_at lw_m4 30 rfl) rfl
theorem q852 : (Jvm.Cond.superclass "AshCity$Row" "AshCity$Sum") ∈ lw_all := lw_g (lw_at lw_m4 31 rfl) rfl
theorem q901 : (Jvm.Cond.fieldLinkNest "AshCity$Row" (17 : Nat) "AshCity$Asked" "isRefused" "Z" "AshCity") ∈ lw_tbl := lw_at lw_m4 80 rfl
theorem q951 : (Jvm.Cond.selects "AshCity$Row" ({ cls := "AshCity$Sum", name := "worth", desc := "(LAshCity$Asked;)I" } : Jvm.MethodName) ({ cls := "AshCity$Row", name := "worth", desc := "(LAshCity$Asked;)I" } : Jvm.MethodName)) ∈ lw_all := lw_g (lw_at lw_m4 130 rfl) rfl
theorem q952 : (Jvm.Cond.instanceMethod ({ cls := "AshCity$Row", name := "worth", desc := "(LAshCity$Asked;)I" } : Jvm.MethodName)) ∈ lw_all := lw_g (lw_at lw_m4 131 rfl) rfl
theorem q953 : (Jvm.Cond.code ({ cls := "AshCity$Row", name := "worth", desc := "(LAshCity$Asked;)I" } : Jvm.MethodName) prog_17_method_3_code (4 : Nat) (Option.some Jvm.ClassFile.FieldType.int)) ∈ lw_all := lw_g (lw_at lw_m4 132 rfl) rfl
theorem q954 : (Jvm.Cond.methodLink "AshCity$Row" (23 : Nat) ({ cls := "AshCity$Sum", name := "worth", desc := "(LAshCity$Asked;)I" } : Jvm.MethodName)) ∈ lw_all := lw_g (lw_at lw_m4 133 rfl) rfl
theorem q955 : (Jvm.Cond.methodLink "AshCity$Row" (31 : Nat) ({ cls := "AshCity$Row", name := "worked", desc := "(IIILAshCity$Asked;)I" } : Jvm.MethodName)) ∈ lw_all := lw_g (lw_at lw_m4 134 rfl) rfl
theorem q956 : (Jvm.Cond.static ({ cls := "AshCity$Row", name := "worked", desc := "(IIILAshCity$Asked;)I" } : Jvm.MethodName)) ∈ lw_all := lw_g (lw_at lw_m4 135 rfl) rfl
theorem q957 : (Jvm.Cond.code ({ cls := "AshCity$Row", name := "worked", desc := "(IIILAshCity$Asked;)I" } : Jvm.MethodName) prog_17_method_2_code (4 : Nat) (Option.some Jvm.ClassFile.FieldType.int)) ∈ lw_all := lw_g (lw_at lw_m4 136 rfl) rfl
theorem q124 : (Jvm.Cond.initialized "AshCity$Number") ∈ lw_all := lw_g (lw_at lw_m1 23 rfl) rfl
theorem q814 : (Jvm.Cond.instantiable "AshCity$Number" (1 : Nat)) ∈ lw_all := lw_g (lw_at lw_m3 233 rfl) rfl
theorem q817 : (Jvm.Cond.instanceMethod ({ cls := "AshCity$Number", name := "<init>", desc := "(I)V" } : Jvm.MethodName)) ∈ lw_all := lw_g (lw_at lw_m3 236 rfl) rfl
theorem q818 : (Jvm.Cond.code ({ cls := "AshCity$Number", name := "<init>", desc := "(I)V" } : Jvm.MethodName) prog_12_method_1_code (2 : Nat) (Option.none : Option Jvm.ClassFile.FieldType)) ∈ lw_all := lw_g (lw_at lw_m3 237 rfl) rfl
theorem q819 : (Jvm.Cond.methodLinkNest "AshCity$Number" (1 : Nat) ({ cls := "AshCity$Sum", name := "<init>", desc := "()V" } : Jvm.MethodName) "AshCity") ∈ lw_tbl := lw_at lw_m3 238 rfl
theorem q823 : (Jvm.Cond.fieldLink "AshCity$Number" (7 : Nat) "AshCity$Number" "n" "I") ∈ lw_all := lw_g (lw_at lw_m4 2 rfl) rfl
theorem q824 : (Jvm.Cond.laysFinal "AshCity$Number" "AshCity$Number" "n" "I") ∈ lw_all := lw_g (lw_at lw_m4 3 rfl) rfl
theorem q825 : (Jvm.Cond.soleField "AshCity$Number" "n") ∈ lw_all := lw_g (lw_at lw_m4 4 rfl) rfl
theorem q826 : (Jvm.Cond.superclass "AshCity$Number" "AshCity$Sum") ∈ lw_all := lw_g (lw_at lw_m4 5 rfl) rfl
theorem q948 : (Jvm.Cond.selects "AshCity$Number" ({ cls := "AshCity$Sum", name := "worth", desc := "(LAshCity$Asked;)I" } : Jvm.MethodName) ({ cls := "AshCity$Number", name := "worth", desc := "(LAshCity$Asked;)I" } : Jvm.MethodName)) ∈ lw_all := lw_g (lw_at lw_m4 127 rfl) rfl
theorem q949 : (Jvm.Cond.instanceMethod ({ cls := "AshCity$Number", name := "worth", desc := "(LAshCity$Asked;)I" } : Jvm.MethodName)) ∈ lw_all := lw_g (lw_at lw_m4 128 rfl) rfl
theorem q950 : (Jvm.Cond.code ({ cls := "AshCity$Number", name := "worth", desc := "(LAshCity$Asked;)I" } : Jvm.MethodName) prog_12_method_2_code (2 : Nat) (Option.some Jvm.ClassFile.FieldType.int)) ∈ lw_all := lw_g (lw_at lw_m4 129 rfl) rfl
theorem q125 : (Jvm.Cond.initialized "AshCity$Letter") ∈ lw_all := lw_g (lw_at lw_m1 24 rfl) rfl
theorem q829 : (Jvm.Cond.instantiable "AshCity$Letter" (1 : Nat)) ∈ lw_all := lw_g (lw_at lw_m4 8 rfl) rfl
theorem q831 : (Jvm.Cond.instanceMethod ({ cls := "AshCity$Letter", name := "<init>", desc := "(I)V" } : Jvm.MethodName)) ∈ lw_all := lw_g (lw_at lw_m4 10 rfl) rfl
theorem q832 : (Jvm.Cond.code ({ cls := "AshCity$Letter", name := "<init>", desc := "(I)V" } : Jvm.MethodName) prog_9_method_1_code (2 : Nat) (Option.none : Option Jvm.ClassFile.FieldType)) ∈ lw_all := lw_g (lw_at lw_m4 11 rfl) rfl
theorem q833 : (Jvm.Cond.methodLinkNest "AshCity$Letter" (1 : Nat) ({ cls := "AshCity$Sum", name := "<init>", desc := "()V" } : Jvm.MethodName) "AshCity") ∈ lw_tbl := lw_at lw_m4 12 rfl
theorem q834 : (Jvm.Cond.fieldLink "AshCity$Letter" (7 : Nat) "AshCity$Letter" "letter" "I") ∈ lw_all := lw_g (lw_at lw_m4 13 rfl) rfl
theorem q835 : (Jvm.Cond.laysFinal "AshCity$Letter" "AshCity$Letter" "letter" "I") ∈ lw_all := lw_g (lw_at lw_m4 14 rfl) rfl
theorem q836 : (Jvm.Cond.soleField "AshCity$Letter" "letter") ∈ lw_all := lw_g (lw_at lw_m4 15 rfl) rfl
theorem q837 : (Jvm.Cond.superclass "AshCity$Letter" "AshCity$Sum") ∈ lw_all := lw_g (lw_at lw_m4 16 rfl) rfl
theorem q941 : (Jvm.Cond.selects "AshCity$Letter" ({ cls := "AshCity$Sum", name := "worth", desc := "(LAshCity$Asked;)I" } : Jvm.MethodName) ({ cls := "AshCity$Letter", name := "worth", desc := "(LAshCity$Asked;)I" } : Jvm.MethodName)) ∈ lw_all := lw_g (lw_at lw_m4 120 rfl) rfl
theorem q942 : (Jvm.Cond.instanceMethod ({ cls := "AshCity$Letter", name := "worth", desc := "(LAshCity$Asked;)I" } : Jvm.MethodName)) ∈ lw_all := lw_g (lw_at lw_m4 121 rfl) rfl
theorem q943 : (Jvm.Cond.code ({ cls := "AshCity$Letter", name := "worth", desc := "(LAshCity$Asked;)I" } : Jvm.MethodName) prog_9_method_2_code (2 : Nat) (Option.some Jvm.ClassFile.FieldType.int)) ∈ lw_all := lw_g (lw_at lw_m4 122 rfl) rfl
theorem q944 : (Jvm.Cond.methodLink "AshCity$Letter" (13 : Nat) ({ cls := "AshCity$Asked", name := "value", desc := "(I)I" } : Jvm.MethodName)) ∈ lw_all := lw_g (lw_at lw_m4 123 rfl) rfl
theorem q126 : (Jvm.Cond.initialized "AshCity$Compared") ∈ lw_all := lw_g (lw_at lw_m1 25 rfl) rfl
theorem q854 : (Jvm.Cond.instantiable "AshCity$Compared" (3 : Nat)) ∈ lw_all := lw_g (lw_at lw_m4 33 rfl) rfl
theorem q856 : (Jvm.Cond.instanceMethod ({ cls := "AshCity$Compared", name := "<init>", desc := "(LAshCity$Sum;ILAshCity$Sum;)V" } : Jvm.MethodName)) ∈ lw_all := lw_g (lw_at lw_m4 35 rfl) rfl
theorem q857 : (Jvm.Cond.code ({ cls := "AshCity$Compared", name := "<init>", desc := "(LAshCity$Sum;ILAshCity$Sum;)V" } : Jvm.MethodName) prog_4_method_1_code (4 : Nat) (Option.none : Option Jvm.ClassFile.FieldType)) ∈ lw_all := lw_g (lw_at lw_m4 36 rfl) rfl
theorem q858 : (Jvm.Cond.methodLinkNest "AshCity$Compared" (1 : Nat) ({ cls := "AshCity$Condition", name := "<init>", desc := "()V" } : Jvm.MethodName) "AshCity") ∈ lw_tbl := lw_at lw_m4 37 rfl
theorem q859 : (Jvm.Cond.fieldLink "AshCity$Compared" (7 : Nat) "AshCity$Compared" "x" "LAshCity$Sum;") ∈ lw_all := lw_g (lw_at lw_m4 38 rfl) rfl
theorem q860 : (Jvm.Cond.fieldLink "AshCity$Compared" (17 : Nat) "AshCity$Compared" "y" "LAshCity$Sum;") ∈ lw_all := lw_g (lw_at lw_m4 39 rfl) rfl
theorem q861 : (Jvm.Cond.fieldLink "AshCity$Compared" (13 : Nat) "AshCity$Compared" "sign" "I") ∈ lw_all := lw_g (lw_at lw_m4 40 rfl) rfl
theorem q862 : (Jvm.Cond.laysFinal "AshCity$Compared" "AshCity$Compared" "x" "LAshCity$Sum;") ∈ lw_all := lw_g (lw_at lw_m4 41 rfl) rfl
theorem q863 : (Jvm.Cond.soleField "AshCity$Compared" "x") ∈ lw_all := lw_g (lw_at lw_m4 42 rfl) rfl
theorem q864 : (Jvm.Cond.laysFinal "AshCity$Compared" "AshCity$Compared" "y" "LAshCity$Sum;") ∈ lw_all := lw_g (lw_at lw_m4 43 rfl) rfl
theorem q865 : (Jvm.Cond.soleField "AshCity$Compared" "y") ∈ lw_all := lw_g (lw_at lw_m4 44 rfl) rfl
theorem q866 : (Jvm.Cond.laysFinal "AshCity$Compared" "AshCity$Compared" "sign" "I") ∈ lw_all := lw_g (lw_at lw_m4 45 rfl) rfl
theorem q867 : (Jvm.Cond.soleField "AshCity$Compared" "sign") ∈ lw_all := lw_g (lw_at lw_m4 46 rfl) rfl
theorem q868 : (Jvm.Cond.superclass "AshCity$Compared" "AshCity$Condition") ∈ lw_all := lw_g (lw_at lw_m4 47 rfl) rfl
theorem q900 : (Jvm.Cond.fieldLinkNest "AshCity$Compared" (20 : Nat) "AshCity$Asked" "isRefused" "Z" "AshCity") ∈ lw_tbl := lw_at lw_m4 79 rfl
theorem q935 : (Jvm.Cond.selects "AshCity$Compared" ({ cls := "AshCity$Condition", name := "holds", desc := "(LAshCity$Asked;)I" } : Jvm.MethodName) ({ cls := "AshCity$Compared", name := "holds", desc := "(LAshCity$Asked;)I" } : Jvm.MethodName)) ∈ lw_all := lw_g (lw_at lw_m4 114 rfl) rfl
theorem q936 : (Jvm.Cond.instanceMethod ({ cls := "AshCity$Compared", name := "holds", desc := "(LAshCity$Asked;)I" } : Jvm.MethodName)) ∈ lw_all := lw_g (lw_at lw_m4 115 rfl) rfl
theorem q937 : (Jvm.Cond.code ({ cls := "AshCity$Compared", name := "holds", desc := "(LAshCity$Asked;)I" } : Jvm.MethodName) prog_4_method_2_code (5 : Nat) (Option.some Jvm.ClassFile.FieldType.int)) ∈ lw_all := lw_g (lw_at lw_m4 116 rfl) rfl
theorem q938 : (Jvm.Cond.methodLink "AshCity$Compared" (26 : Nat) ({ cls := "AshCity$Sum", name := "worth", desc := "(LAshCity$Asked;)I" } : Jvm.MethodName)) ∈ lw_all := lw_g (lw_at lw_m4 117 rfl) rfl
theorem q127 : (Jvm.Cond.initialized "AshCity$Asked") ∈ lw_all := lw_g (lw_at lw_m1 26 rfl) rfl
theorem q889 : (Jvm.Cond.instantiable "AshCity$Asked" (6 : Nat)) ∈ lw_all := lw_g (lw_at lw_m4 68 rfl) rfl
theorem q891 : (Jvm.Cond.instanceMethod ({ cls := "AshCity$Asked", name := "<init>", desc := "(IIIII)V" } : Jvm.MethodName)) ∈ lw_all := lw_g (lw_at lw_m4 70 rfl) rfl
theorem q892 : (Jvm.Cond.code ({ cls := "AshCity$Asked", name := "<init>", desc := "(IIIII)V" } : Jvm.MethodName) prog_2_method_1_code (6 : Nat) (Option.none : Option Jvm.ClassFile.FieldType)) ∈ lw_all := lw_g (lw_at lw_m4 71 rfl) rfl
theorem q893 : (Jvm.Cond.methodLink "AshCity$Asked" (1 : Nat) ({ cls := "java/lang/Object", name := "<init>", desc := "()V" } : Jvm.MethodName)) ∈ lw_all := lw_g (lw_at lw_m4 72 rfl) rfl
theorem q894 : (Jvm.Cond.fieldLink "AshCity$Asked" (7 : Nat) "AshCity$Asked" "week" "I") ∈ lw_all := lw_g (lw_at lw_m4 73 rfl) rfl
theorem q896 : (Jvm.Cond.fieldLink "AshCity$Asked" (13 : Nat) "AshCity$Asked" "hand" "I") ∈ lw_all := lw_g (lw_at lw_m4 75 rfl) rfl
theorem q897 : (Jvm.Cond.fieldLink "AshCity$Asked" (16 : Nat) "AshCity$Asked" "kind" "I") ∈ lw_all := lw_g (lw_at lw_m4 76 rfl) rfl
theorem q898 : (Jvm.Cond.fieldLink "AshCity$Asked" (19 : Nat) "AshCity$Asked" "marks" "I") ∈ lw_all := lw_g (lw_at lw_m4 77 rfl) rfl
theorem q899 : (Jvm.Cond.fieldLink "AshCity$Asked" (22 : Nat) "AshCity$Asked" "placeKind" "I") ∈ lw_all := lw_g (lw_at lw_m4 78 rfl) rfl
theorem q902 : (Jvm.Cond.laysFinal "AshCity$Asked" "AshCity$Asked" "week" "I") ∈ lw_all := lw_g (lw_at lw_m4 81 rfl) rfl
theorem q903 : (Jvm.Cond.soleField "AshCity$Asked" "week") ∈ lw_all := lw_g (lw_at lw_m4 82 rfl) rfl
theorem q904 : (Jvm.Cond.laysFinal "AshCity$Asked" "AshCity$Asked" "hand" "I") ∈ lw_all := lw_g (lw_at lw_m4 83 rfl) rfl
theorem q905 : (Jvm.Cond.soleField "AshCity$Asked" "hand") ∈ lw_all := lw_g (lw_at lw_m4 84 rfl) rfl
theorem q906 : (Jvm.Cond.laysFinal "AshCity$Asked" "AshCity$Asked" "kind" "I") ∈ lw_all := lw_g (lw_at lw_m4 85 rfl) rfl
theorem q907 : (Jvm.Cond.soleField "AshCity$Asked" "kind") ∈ lw_all := lw_g (lw_at lw_m4 86 rfl) rfl
theorem q908 : (Jvm.Cond.laysFinal "AshCity$Asked" "AshCity$Asked" "marks" "I") ∈ lw_all := lw_g (lw_at lw_m4 87 rfl) rfl
theorem q909 : (Jvm.Cond.soleField "AshCity$Asked" "marks") ∈ lw_all := lw_g (lw_at lw_m4 88 rfl) rfl
theorem q910 : (Jvm.Cond.laysFinal "AshCity$Asked" "AshCity$Asked" "placeKind" "I") ∈ lw_all := lw_g (lw_at lw_m4 89 rfl) rfl
theorem q911 : (Jvm.Cond.soleField "AshCity$Asked" "placeKind") ∈ lw_all := lw_g (lw_at lw_m4 90 rfl) rfl
theorem q912 : (Jvm.Cond.lays "AshCity$Asked" "AshCity$Asked" "isRefused" "Z") ∈ lw_all := lw_g (lw_at lw_m4 91 rfl) rfl
theorem q913 : (Jvm.Cond.soleField "AshCity$Asked" "isRefused") ∈ lw_all := lw_g (lw_at lw_m4 92 rfl) rfl
theorem q914 : (Jvm.Cond.superclass "AshCity$Asked" "java/lang/Object") ∈ lw_all := lw_g (lw_at lw_m4 93 rfl) rfl
theorem q945 : (Jvm.Cond.instanceMethod ({ cls := "AshCity$Asked", name := "value", desc := "(I)I" } : Jvm.MethodName)) ∈ lw_all := lw_g (lw_at lw_m4 124 rfl) rfl
theorem q946 : (Jvm.Cond.selects "AshCity$Asked" ({ cls := "AshCity$Asked", name := "value", desc := "(I)I" } : Jvm.MethodName) ({ cls := "AshCity$Asked", name := "value", desc := "(I)I" } : Jvm.MethodName)) ∈ lw_all := lw_g (lw_at lw_m4 125 rfl) rfl
theorem q947 : (Jvm.Cond.code ({ cls := "AshCity$Asked", name := "value", desc := "(I)I" } : Jvm.MethodName) prog_2_method_2_code (2 : Nat) (Option.some Jvm.ClassFile.FieldType.int)) ∈ lw_all := lw_g (lw_at lw_m4 126 rfl) rfl
theorem q128 : (Jvm.Cond.initialized "AshCity$Find") ∈ lw_all := lw_g (lw_at lw_m1 27 rfl) rfl
theorem q974 : (Jvm.Cond.instantiable "AshCity$Find" (9 : Nat)) ∈ lw_all := lw_g (lw_at lw_m4 153 rfl) rfl
theorem q976 : (Jvm.Cond.instanceMethod ({ cls := "AshCity$Find", name := "<init>", desc := "(IIIIIIIII)V" } : Jvm.MethodName)) ∈ lw_all := lw_g (lw_at lw_m4 155 rfl) rfl
theorem q977 : (Jvm.Cond.code ({ cls := "AshCity$Find", name := "<init>", desc := "(IIIIIIIII)V" } : Jvm.MethodName) prog_8_method_1_code (10 : Nat) (Option.none : Option Jvm.ClassFile.FieldType)) ∈ lw_all := lw_g (lw_at lw_m4 156 rfl) rfl
theorem q978 : (Jvm.Cond.methodLink "AshCity$Find" (1 : Nat) ({ cls := "java/lang/Object", name := "<init>", desc := "()V" } : Jvm.MethodName)) ∈ lw_all := lw_g (lw_at lw_m4 157 rfl) rfl
theorem q979 : (Jvm.Cond.fieldLink "AshCity$Find" (7 : Nat) "AshCity$Find" "hand" "I") ∈ lw_all := lw_g (lw_at lw_m4 158 rfl) rfl
theorem q981 : (Jvm.Cond.fieldLink "AshCity$Find" (13 : Nat) "AshCity$Find" "from" "I") ∈ lw_all := lw_g (lw_at lw_m4 160 rfl) rfl
theorem q983 : (Jvm.Cond.fieldLink "AshCity$Find" (16 : Nat) "AshCity$Find" "to" "I") ∈ lw_all := lw_g (lw_at lw_m4 162 rfl) rfl
theorem q985 : (Jvm.Cond.fieldLink "AshCity$Find" (19 : Nat) "AshCity$Find" "number" "I") ∈ lw_all := lw_g (lw_at lw_m4 164 rfl) rfl
theorem q987 : (Jvm.Cond.fieldLink "AshCity$Find" (22 : Nat) "AshCity$Find" "top" "I") ∈ lw_all := lw_g (lw_at lw_m4 166 rfl) rfl
theorem q989 : (Jvm.Cond.fieldLink "AshCity$Find" (25 : Nat) "AshCity$Find" "bottom" "I") ∈ lw_all := lw_g (lw_at lw_m4 168 rfl) rfl
theorem q991 : (Jvm.Cond.fieldLink "AshCity$Find" (28 : Nat) "AshCity$Find" "kind" "I") ∈ lw_all := lw_g (lw_at lw_m4 170 rfl) rfl
theorem q993 : (Jvm.Cond.fieldLink "AshCity$Find" (31 : Nat) "AshCity$Find" "marks" "I") ∈ lw_all := lw_g (lw_at lw_m4 172 rfl) rfl
theorem q996 : (Jvm.Cond.fieldLink "AshCity$Find" (34 : Nat) "AshCity$Find" "told" "I") ∈ lw_all := lw_g (lw_at lw_m4 175 rfl) rfl
theorem q998 : (Jvm.Cond.laysFinal "AshCity$Find" "AshCity$Find" "hand" "I") ∈ lw_all := lw_g (lw_at lw_m4 177 rfl) rfl
theorem q999 : (Jvm.Cond.soleField "AshCity$Find" "hand") ∈ lw_all := lw_g (lw_at lw_m4 178 rfl) rfl
theorem q1000 : (Jvm.Cond.laysFinal "AshCity$Find" "AshCity$Find" "from" "I") ∈ lw_all := lw_g (lw_at lw_m4 179 rfl) rfl
theorem q1001 : (Jvm.Cond.soleField "AshCity$Find" "from") ∈ lw_all := lw_g (lw_at lw_m4 180 rfl) rfl
theorem q1002 : (Jvm.Cond.laysFinal "AshCity$Find" "AshCity$Find" "to" "I") ∈ lw_all := lw_g (lw_at lw_m4 181 rfl) rfl
theorem q1003 : (Jvm.Cond.soleField "AshCity$Find" "to") ∈ lw_all := lw_g (lw_at lw_m4 182 rfl) rfl
theorem q1004 : (Jvm.Cond.laysFinal "AshCity$Find" "AshCity$Find" "number" "I") ∈ lw_all := lw_g (lw_at lw_m4 183 rfl) rfl
theorem q1005 : (Jvm.Cond.soleField "AshCity$Find" "number") ∈ lw_all := lw_g (lw_at lw_m4 184 rfl) rfl
theorem q1006 : (Jvm.Cond.laysFinal "AshCity$Find" "AshCity$Find" "top" "I") ∈ lw_all := lw_g (lw_at lw_m4 185 rfl) rfl
theorem q1007 : (Jvm.Cond.soleField "AshCity$Find" "top") ∈ lw_all := lw_g (lw_at lw_m4 186 rfl) rfl
theorem q1008 : (Jvm.Cond.laysFinal "AshCity$Find" "AshCity$Find" "bottom" "I") ∈ lw_all := lw_g (lw_at lw_m4 187 rfl) rfl
theorem q1009 : (Jvm.Cond.soleField "AshCity$Find" "bottom") ∈ lw_all := lw_g (lw_at lw_m4 188 rfl) rfl
theorem q1010 : (Jvm.Cond.laysFinal "AshCity$Find" "AshCity$Find" "kind" "I") ∈ lw_all := lw_g (lw_at lw_m4 189 rfl) rfl
theorem q1011 : (Jvm.Cond.soleField "AshCity$Find" "kind") ∈ lw_all := lw_g (lw_at lw_m4 190 rfl) rfl
theorem q1012 : (Jvm.Cond.laysFinal "AshCity$Find" "AshCity$Find" "marks" "I") ∈ lw_all := lw_g (lw_at lw_m4 191 rfl) rfl
theorem q1013 : (Jvm.Cond.soleField "AshCity$Find" "marks") ∈ lw_all := lw_g (lw_at lw_m4 192 rfl) rfl
theorem q1014 : (Jvm.Cond.laysFinal "AshCity$Find" "AshCity$Find" "told" "I") ∈ lw_all := lw_g (lw_at lw_m4 193 rfl) rfl
theorem q1015 : (Jvm.Cond.soleField "AshCity$Find" "told") ∈ lw_all := lw_g (lw_at lw_m4 194 rfl) rfl
theorem q1016 : (Jvm.Cond.superclass "AshCity$Find" "java/lang/Object") ∈ lw_all := lw_g (lw_at lw_m4 195 rfl) rfl
theorem q129 : (Jvm.Cond.initialized "java/lang/Integer") ∈ lw_all := lw_g (lw_at lw_m1 28 rfl) rfl
theorem q1050 : (Jvm.Cond.static ({ cls := "java/lang/Integer", name := "bitCount", desc := "(I)I" } : Jvm.MethodName)) ∈ lw_all := lw_g (lw_at lw_m4 229 rfl) rfl
theorem q1051 : (Jvm.Cond.code ({ cls := "java/lang/Integer", name := "bitCount", desc := "(I)I" } : Jvm.MethodName) prog_29_method_49_code (1 : Nat) (Option.some Jvm.ClassFile.FieldType.int)) ∈ lw_all := lw_g (lw_at lw_m4 230 rfl) rfl
theorem q1052 : (Jvm.Cond.constant "java/lang/Integer" (265 : Nat) (1431655765 : Int32)) ∈ lw_all := lw_g (lw_at lw_m4 231 rfl) rfl
theorem q1053 : (Jvm.Cond.constant "java/lang/Integer" (266 : Nat) (858993459 : Int32)) ∈ lw_all := lw_g (lw_at lw_m4 232 rfl) rfl
theorem q1054 : (Jvm.Cond.constant "java/lang/Integer" (267 : Nat) (252645135 : Int32)) ∈ lw_all := lw_g (lw_at lw_m4 233 rfl) rfl
theorem q130 : (Jvm.Cond.initialized "AshCity$Thing") ∈ lw_all := lw_g (lw_at lw_m1 29 rfl) rfl
theorem q994 : (Jvm.Cond.fieldLinkNest "AshCity$Thing" (19 : Nat) "AshCity$Find" "marks" "I" "AshCity") ∈ lw_tbl := lw_at lw_m4 173 rfl
theorem q1083 : (Jvm.Cond.instantiable "AshCity$Thing" (4 : Nat)) ∈ lw_all := lw_g (lw_at lw_m5 22 rfl) rfl
theorem q1085 : (Jvm.Cond.instanceMethod ({ cls := "AshCity$Thing", name := "<init>", desc := "(III)V" } : Jvm.MethodName)) ∈ lw_all := lw_g (lw_at lw_m5 24 rfl) rfl
theorem q1086 : (Jvm.Cond.code ({ cls := "AshCity$Thing", name := "<init>", desc := "(III)V" } : Jvm.MethodName) prog_22_method_1_code (4 : Nat) (Option.none : Option Jvm.ClassFile.FieldType)) ∈ lw_all := lw_g (lw_at lw_m5 25 rfl) rfl
theorem q1087 : (Jvm.Cond.methodLink "AshCity$Thing" (1 : Nat) ({ cls := "java/lang/Object", name := "<init>", desc := "()V" } : Jvm.MethodName)) ∈ lw_all := lw_g (lw_at lw_m5 26 rfl) rfl
theorem q1088 : (Jvm.Cond.fieldLink "AshCity$Thing" (7 : Nat) "AshCity$Thing" "museum" "I") ∈ lw_all := lw_g (lw_at lw_m5 27 rfl) rfl
theorem q1090 : (Jvm.Cond.fieldLink "AshCity$Thing" (13 : Nat) "AshCity$Thing" "kind" "I") ∈ lw_all := lw_g (lw_at lw_m5 29 rfl) rfl
theorem q1092 : (Jvm.Cond.fieldLink "AshCity$Thing" (16 : Nat) "AshCity$Thing" "marks" "I") ∈ lw_all := lw_g (lw_at lw_m5 31 rfl) rfl
theorem q1094 : (Jvm.Cond.laysFinal "AshCity$Thing" "AshCity$Thing" "museum" "I") ∈ lw_all := lw_g (lw_at lw_m5 33 rfl) rfl
theorem q1095 : (Jvm.Cond.soleField "AshCity$Thing" "museum") ∈ lw_all := lw_g (lw_at lw_m5 34 rfl) rfl
theorem q1096 : (Jvm.Cond.laysFinal "AshCity$Thing" "AshCity$Thing" "kind" "I") ∈ lw_all := lw_g (lw_at lw_m5 35 rfl) rfl
theorem q1097 : (Jvm.Cond.soleField "AshCity$Thing" "kind") ∈ lw_all := lw_g (lw_at lw_m5 36 rfl) rfl
theorem q1098 : (Jvm.Cond.laysFinal "AshCity$Thing" "AshCity$Thing" "marks" "I") ∈ lw_all := lw_g (lw_at lw_m5 37 rfl) rfl
theorem q1099 : (Jvm.Cond.soleField "AshCity$Thing" "marks") ∈ lw_all := lw_g (lw_at lw_m5 38 rfl) rfl
theorem q1100 : (Jvm.Cond.lays "AshCity$Thing" "AshCity$Thing" "isGone" "Z") ∈ lw_all := lw_g (lw_at lw_m5 39 rfl) rfl
theorem q1101 : (Jvm.Cond.soleField "AshCity$Thing" "isGone") ∈ lw_all := lw_g (lw_at lw_m5 40 rfl) rfl
theorem q1102 : (Jvm.Cond.superclass "AshCity$Thing" "java/lang/Object") ∈ lw_all := lw_g (lw_at lw_m5 41 rfl) rfl
theorem q1119 : (Jvm.Cond.instanceMethod ({ cls := "AshCity$Thing", name := "agrees", desc := "(LAshCity$Find;)I" } : Jvm.MethodName)) ∈ lw_all := lw_g (lw_at lw_m5 58 rfl) rfl
theorem q1120 : (Jvm.Cond.selects "AshCity$Thing" ({ cls := "AshCity$Thing", name := "agrees", desc := "(LAshCity$Find;)I" } : Jvm.MethodName) ({ cls := "AshCity$Thing", name := "agrees", desc := "(LAshCity$Find;)I" } : Jvm.MethodName)) ∈ lw_all := lw_g (lw_at lw_m5 59 rfl) rfl
theorem q1121 : (Jvm.Cond.code ({ cls := "AshCity$Thing", name := "agrees", desc := "(LAshCity$Find;)I" } : Jvm.MethodName) prog_22_method_2_code (2 : Nat) (Option.some Jvm.ClassFile.FieldType.int)) ∈ lw_all := lw_g (lw_at lw_m5 60 rfl) rfl
theorem q1122 : (Jvm.Cond.methodLinkNest "AshCity$Thing" (22 : Nat) ({ cls := "AshCity", name := "sizeOf", desc := "(I)I" } : Jvm.MethodName) "AshCity") ∈ lw_tbl := lw_at lw_m5 61 rfl
theorem q131 : (Jvm.Cond.initialized "AshCity$Wall") ∈ lw_all := lw_g (lw_at lw_m1 30 rfl) rfl
theorem q1156 : (Jvm.Cond.instantiable "AshCity$Wall" (2 : Nat)) ∈ lw_all := lw_g (lw_at lw_m5 95 rfl) rfl
theorem q1158 : (Jvm.Cond.instanceMethod ({ cls := "AshCity$Wall", name := "<init>", desc := "(II)V" } : Jvm.MethodName)) ∈ lw_all := lw_g (lw_at lw_m5 97 rfl) rfl
theorem q1159 : (Jvm.Cond.code ({ cls := "AshCity$Wall", name := "<init>", desc := "(II)V" } : Jvm.MethodName) prog_24_method_1_code (3 : Nat) (Option.none : Option Jvm.ClassFile.FieldType)) ∈ lw_all := lw_g (lw_at lw_m5 98 rfl) rfl
theorem q1160 : (Jvm.Cond.methodLink "AshCity$Wall" (1 : Nat) ({ cls := "java/lang/Object", name := "<init>", desc := "()V" } : Jvm.MethodName)) ∈ lw_all := lw_g (lw_at lw_m5 99 rfl) rfl
theorem q1161 : (Jvm.Cond.fieldLink "AshCity$Wall" (7 : Nat) "AshCity$Wall" "place" "I") ∈ lw_all := lw_g (lw_at lw_m5 100 rfl) rfl
theorem q1162 : (Jvm.Cond.fieldLink "AshCity$Wall" (13 : Nat) "AshCity$Wall" "worth" "I") ∈ lw_all := lw_g (lw_at lw_m5 101 rfl) rfl
theorem q1164 : (Jvm.Cond.laysFinal "AshCity$Wall" "AshCity$Wall" "place" "I") ∈ lw_all := lw_g (lw_at lw_m5 103 rfl) rfl
theorem q1165 : (Jvm.Cond.soleField "AshCity$Wall" "place") ∈ lw_all := lw_g (lw_at lw_m5 104 rfl) rfl
theorem q1166 : (Jvm.Cond.laysFinal "AshCity$Wall" "AshCity$Wall" "worth" "I") ∈ lw_all := lw_g (lw_at lw_m5 105 rfl) rfl
theorem q1167 : (Jvm.Cond.soleField "AshCity$Wall" "worth") ∈ lw_all := lw_g (lw_at lw_m5 106 rfl) rfl
theorem q1168 : (Jvm.Cond.superclass "AshCity$Wall" "java/lang/Object") ∈ lw_all := lw_g (lw_at lw_m5 107 rfl) rfl
theorem q132 : (Jvm.Cond.initialized "AshCity$Drawing") ∈ lw_all := lw_g (lw_at lw_m1 31 rfl) rfl
theorem q1177 : (Jvm.Cond.instantiable "AshCity$Drawing" (6 : Nat)) ∈ lw_all := lw_g (lw_at lw_m5 116 rfl) rfl
theorem q1179 : (Jvm.Cond.instanceMethod ({ cls := "AshCity$Drawing", name := "<init>", desc := "(IIIIZI)V" } : Jvm.MethodName)) ∈ lw_all := lw_g (lw_at lw_m5 118 rfl) rfl
theorem q1180 : (Jvm.Cond.code ({ cls := "AshCity$Drawing", name := "<init>", desc := "(IIIIZI)V" } : Jvm.MethodName) prog_7_method_1_code (7 : Nat) (Option.none : Option Jvm.ClassFile.FieldType)) ∈ lw_all := lw_g (lw_at lw_m5 119 rfl) rfl
theorem q1181 : (Jvm.Cond.methodLink "AshCity$Drawing" (1 : Nat) ({ cls := "java/lang/Object", name := "<init>", desc := "()V" } : Jvm.MethodName)) ∈ lw_all := lw_g (lw_at lw_m5 120 rfl) rfl
theorem q1182 : (Jvm.Cond.fieldLink "AshCity$Drawing" (7 : Nat) "AshCity$Drawing" "number" "I") ∈ lw_all := lw_g (lw_at lw_m5 121 rfl) rfl
theorem q1184 : (Jvm.Cond.fieldLink "AshCity$Drawing" (13 : Nat) "AshCity$Drawing" "wall" "I") ∈ lw_all := lw_g (lw_at lw_m5 123 rfl) rfl
theorem q1186 : (Jvm.Cond.fieldLink "AshCity$Drawing" (16 : Nat) "AshCity$Drawing" "week" "I") ∈ lw_all := lw_g (lw_at lw_m5 125 rfl) rfl
theorem q1188 : (Jvm.Cond.fieldLink "AshCity$Drawing" (19 : Nat) "AshCity$Drawing" "features" "I") ∈ lw_all := lw_g (lw_at lw_m5 127 rfl) rfl
theorem q1190 : (Jvm.Cond.fieldLink "AshCity$Drawing" (26 : Nat) "AshCity$Drawing" "told" "I") ∈ lw_all := lw_g (lw_at lw_m5 129 rfl) rfl
theorem q1192 : (Jvm.Cond.fieldLink "AshCity$Drawing" (22 : Nat) "AshCity$Drawing" "isCopy" "Z") ∈ lw_all := lw_g (lw_at lw_m5 131 rfl) rfl
theorem q1194 : (Jvm.Cond.laysFinal "AshCity$Drawing" "AshCity$Drawing" "number" "I") ∈ lw_all := lw_g (lw_at lw_m5 133 rfl) rfl
theorem q1195 : (Jvm.Cond.soleField "AshCity$Drawing" "number") ∈ lw_all := lw_g (lw_at lw_m5 134 rfl) rfl
theorem q1196 : (Jvm.Cond.laysFinal "AshCity$Drawing" "AshCity$Drawing" "wall" "I") ∈ lw_all := lw_g (lw_at lw_m5 135 rfl) rfl
theorem q1197 : (Jvm.Cond.soleField "AshCity$Drawing" "wall") ∈ lw_all := lw_g (lw_at lw_m5 136 rfl) rfl
theorem q1198 : (Jvm.Cond.laysFinal "AshCity$Drawing" "AshCity$Drawing" "week" "I") ∈ lw_all := lw_g (lw_at lw_m5 137 rfl) rfl
theorem q1199 : (Jvm.Cond.soleField "AshCity$Drawing" "week") ∈ lw_all := lw_g (lw_at lw_m5 138 rfl) rfl
theorem q1200 : (Jvm.Cond.laysFinal "AshCity$Drawing" "AshCity$Drawing" "features" "I") ∈ lw_all := lw_g (lw_at lw_m5 139 rfl) rfl
theorem q1201 : (Jvm.Cond.soleField "AshCity$Drawing" "features") ∈ lw_all := lw_g (lw_at lw_m5 140 rfl) rfl
theorem q1202 : (Jvm.Cond.laysFinal "AshCity$Drawing" "AshCity$Drawing" "told" "I") ∈ lw_all := lw_g (lw_at lw_m5 141 rfl) rfl
theorem q1203 : (Jvm.Cond.soleField "AshCity$Drawing" "told") ∈ lw_all := lw_g (lw_at lw_m5 142 rfl) rfl
theorem q1204 : (Jvm.Cond.laysFinal "AshCity$Drawing" "AshCity$Drawing" "isCopy" "Z") ∈ lw_all := lw_g (lw_at lw_m5 143 rfl) rfl
theorem q1205 : (Jvm.Cond.soleField "AshCity$Drawing" "isCopy") ∈ lw_all := lw_g (lw_at lw_m5 144 rfl) rfl
theorem q1206 : (Jvm.Cond.superclass "AshCity$Drawing" "java/lang/Object") ∈ lw_all := lw_g (lw_at lw_m5 145 rfl) rfl
theorem q1216 : (Jvm.Cond.instanceMethod ({ cls := "AshCity$Drawing", name := "shows", desc := "(I)Z" } : Jvm.MethodName)) ∈ lw_all := lw_g (lw_at lw_m5 155 rfl) rfl
theorem q1217 : (Jvm.Cond.selects "AshCity$Drawing" ({ cls := "AshCity$Drawing", name := "shows", desc := "(I)Z" } : Jvm.MethodName) ({ cls := "AshCity$Drawing", name := "shows", desc := "(I)Z" } : Jvm.MethodName)) ∈ lw_all := lw_g (lw_at lw_m5 156 rfl) rfl
theorem q1218 : (Jvm.Cond.code ({ cls := "AshCity$Drawing", name := "shows", desc := "(I)Z" } : Jvm.MethodName) prog_7_method_2_code (2 : Nat) (Option.some Jvm.ClassFile.FieldType.boolean)) ∈ lw_all := lw_g (lw_at lw_m5 157 rfl) rfl
theorem q133 : (Jvm.Cond.initialized "AshCity$Sign") ∈ lw_all := lw_g (lw_at lw_m1 32 rfl) rfl
theorem q1259 : (Jvm.Cond.instantiable "AshCity$Sign" (4 : Nat)) ∈ lw_all := lw_g (lw_at lw_m5 198 rfl) rfl
theorem q1261 : (Jvm.Cond.instanceMethod ({ cls := "AshCity$Sign", name := "<init>", desc := "(IIII)V" } : Jvm.MethodName)) ∈ lw_all := lw_g (lw_at lw_m5 200 rfl) rfl
theorem q1262 : (Jvm.Cond.code ({ cls := "AshCity$Sign", name := "<init>", desc := "(IIII)V" } : Jvm.MethodName) prog_19_method_1_code (5 : Nat) (Option.none : Option Jvm.ClassFile.FieldType)) ∈ lw_all := lw_g (lw_at lw_m5 201 rfl) rfl
theorem q1263 : (Jvm.Cond.methodLink "AshCity$Sign" (1 : Nat) ({ cls := "java/lang/Object", name := "<init>", desc := "()V" } : Jvm.MethodName)) ∈ lw_all := lw_g (lw_at lw_m5 202 rfl) rfl
theorem q1264 : (Jvm.Cond.fieldLink "AshCity$Sign" (7 : Nat) "AshCity$Sign" "name" "I") ∈ lw_all := lw_g (lw_at lw_m5 203 rfl) rfl
theorem q1266 : (Jvm.Cond.fieldLink "AshCity$Sign" (13 : Nat) "AshCity$Sign" "kind" "I") ∈ lw_all := lw_g (lw_at lw_m5 205 rfl) rfl
theorem q1268 : (Jvm.Cond.fieldLink "AshCity$Sign" (16 : Nat) "AshCity$Sign" "place" "I") ∈ lw_all := lw_g (lw_at lw_m5 207 rfl) rfl
theorem q1270 : (Jvm.Cond.fieldLink "AshCity$Sign" (19 : Nat) "AshCity$Sign" "week" "I") ∈ lw_all := lw_g (lw_at lw_m5 209 rfl) rfl
theorem q1272 : (Jvm.Cond.laysFinal "AshCity$Sign" "AshCity$Sign" "name" "I") ∈ lw_all := lw_g (lw_at lw_m5 211 rfl) rfl
theorem q1273 : (Jvm.Cond.soleField "AshCity$Sign" "name") ∈ lw_all := lw_g (lw_at lw_m5 212 rfl) rfl
theorem q1274 : (Jvm.Cond.laysFinal "AshCity$Sign" "AshCity$Sign" "kind" "I") ∈ lw_all := lw_g (lw_at lw_m5 213 rfl) rfl
theorem q1275 : (Jvm.Cond.soleField "AshCity$Sign" "kind") ∈ lw_all := lw_g (lw_at lw_m5 214 rfl) rfl
theorem q1276 : (Jvm.Cond.laysFinal "AshCity$Sign" "AshCity$Sign" "place" "I") ∈ lw_all := lw_g (lw_at lw_m5 215 rfl) rfl
theorem q1277 : (Jvm.Cond.soleField "AshCity$Sign" "place") ∈ lw_all := lw_g (lw_at lw_m5 216 rfl) rfl
theorem q1278 : (Jvm.Cond.laysFinal "AshCity$Sign" "AshCity$Sign" "week" "I") ∈ lw_all := lw_g (lw_at lw_m5 217 rfl) rfl
theorem q1279 : (Jvm.Cond.soleField "AshCity$Sign" "week") ∈ lw_all := lw_g (lw_at lw_m5 218 rfl) rfl
theorem q1280 : (Jvm.Cond.superclass "AshCity$Sign" "java/lang/Object") ∈ lw_all := lw_g (lw_at lw_m5 219 rfl) rfl
theorem q134 : (Jvm.Cond.initialized "AshCity$Work") ∈ lw_all := lw_g (lw_at lw_m1 33 rfl) rfl
theorem q1289 : (Jvm.Cond.instantiable "AshCity$Work" (3 : Nat)) ∈ lw_all := lw_g (lw_at lw_m5 228 rfl) rfl
theorem q1291 : (Jvm.Cond.instanceMethod ({ cls := "AshCity$Work", name := "<init>", desc := "(III)V" } : Jvm.MethodName)) ∈ lw_all := lw_g (lw_at lw_m5 230 rfl) rfl
theorem q1292 : (Jvm.Cond.code ({ cls := "AshCity$Work", name := "<init>", desc := "(III)V" } : Jvm.MethodName) prog_25_method_1_code (4 : Nat) (Option.none : Option Jvm.ClassFile.FieldType)) ∈ lw_all := lw_g (lw_at lw_m5 231 rfl) rfl
theorem q1293 : (Jvm.Cond.methodLink "AshCity$Work" (1 : Nat) ({ cls := "java/lang/Object", name := "<init>", desc := "()V" } : Jvm.MethodName)) ∈ lw_all := lw_g (lw_at lw_m5 232 rfl) rfl
theorem q1294 : (Jvm.Cond.fieldLink "AshCity$Work" (7 : Nat) "AshCity$Work" "wall" "I") ∈ lw_all := lw_g (lw_at lw_m5 233 rfl) rfl
theorem q1296 : (Jvm.Cond.fieldLink "AshCity$Work" (13 : Nat) "AshCity$Work" "cost" "I") ∈ lw_all := lw_g (lw_at lw_m5 235 rfl) rfl
theorem q1298 : (Jvm.Cond.fieldLink "AshCity$Work" (16 : Nat) "AshCity$Work" "hundredths" "I") ∈ lw_all := lw_g (lw_at lw_m5 237 rfl) rfl
theorem q1300 : (Jvm.Cond.laysFinal "AshCity$Work" "AshCity$Work" "wall" "I") ∈ lw_all := lw_g (lw_at lw_m5 239 rfl) rfl
theorem q1301 : (Jvm.Cond.soleField "AshCity$Work" "wall") ∈ lw_all := lw_g (lw_at lw_m6 0 rfl) rfl
theorem q1302 : (Jvm.Cond.laysFinal "AshCity$Work" "AshCity$Work" "cost" "I") ∈ lw_all := lw_g (lw_at lw_m6 1 rfl) rfl
theorem q1303 : (Jvm.Cond.soleField "AshCity$Work" "cost") ∈ lw_all := lw_g (lw_at lw_m6 2 rfl) rfl
theorem q1304 : (Jvm.Cond.laysFinal "AshCity$Work" "AshCity$Work" "hundredths" "I") ∈ lw_all := lw_g (lw_at lw_m6 3 rfl) rfl
theorem q1305 : (Jvm.Cond.soleField "AshCity$Work" "hundredths") ∈ lw_all := lw_g (lw_at lw_m6 4 rfl) rfl
theorem q1306 : (Jvm.Cond.superclass "AshCity$Work" "java/lang/Object") ∈ lw_all := lw_g (lw_at lw_m6 5 rfl) rfl
theorem q141 : (Jvm.Cond.instanceMethod ({ cls := "java/lang/Object", name := "<init>", desc := "()V" } : Jvm.MethodName)) ∈ lw_all := lw_g (lw_at lw_m1 40 rfl) rfl
theorem q142 : (Jvm.Cond.code ({ cls := "java/lang/Object", name := "<init>", desc := "()V" } : Jvm.MethodName) object_method_1_code (1 : Nat) (Option.none : Option Jvm.ClassFile.FieldType)) ∈ lw_all := lw_g (lw_at lw_m1 41 rfl) rfl
theorem q101 : (Jvm.Cond.initialized "AshCityLaw") ∈ lw_all := lw_g (lw_at lw_m1 0 rfl) rfl
theorem q135 : (Jvm.Cond.classLink "AshCityLaw" (7 : Nat) "AshCity") ∈ lw_all := lw_g (lw_at lw_m1 34 rfl) rfl
theorem q137 : (Jvm.Cond.methodLink "AshCityLaw" (9 : Nat) ({ cls := "AshCity", name := "<init>", desc := "()V" } : Jvm.MethodName)) ∈ lw_all := lw_g (lw_at lw_m1 36 rfl) rfl
theorem q306 : (Jvm.Cond.methodLink "AshCityLaw" (13 : Nat) ({ cls := "AshCity", name := "city", desc := "(II)Z" } : Jvm.MethodName)) ∈ lw_all := lw_g (lw_at lw_m1 205 rfl) rfl
theorem q313 : (Jvm.Cond.methodLink "AshCityLaw" (18 : Nat) ({ cls := "AshCity", name := "now", desc := "(I)Z" } : Jvm.MethodName)) ∈ lw_all := lw_g (lw_at lw_m1 212 rfl) rfl
theorem q323 : (Jvm.Cond.methodLink "AshCityLaw" (23 : Nat) ({ cls := "AshCity", name := "place", desc := "(III)I" } : Jvm.MethodName)) ∈ lw_all := lw_g (lw_at lw_m1 222 rfl) rfl
theorem q376 : (Jvm.Cond.methodLink "AshCityLaw" (28 : Nat) ({ cls := "AshCity", name := "placeOf", desc := "(I)I" } : Jvm.MethodName)) ∈ lw_all := lw_g (lw_at lw_m2 35 rfl) rfl
theorem q385 : (Jvm.Cond.methodLink "AshCityLaw" (33 : Nat) ({ cls := "AshCity", name := "dig", desc := "(IIIIIIII)I" } : Jvm.MethodName)) ∈ lw_all := lw_g (lw_at lw_m2 44 rfl) rfl
theorem q480 : (Jvm.Cond.methodLink "AshCityLaw" (38 : Nat) ({ cls := "AshCity", name := "strike", desc := "(I)Z" } : Jvm.MethodName)) ∈ lw_all := lw_g (lw_at lw_m2 139 rfl) rfl
theorem q484 : (Jvm.Cond.methodLink "AshCityLaw" (42 : Nat) ({ cls := "AshCity", name := "ground", desc := "(IIII)I" } : Jvm.MethodName)) ∈ lw_all := lw_g (lw_at lw_m2 143 rfl) rfl
theorem q524 : (Jvm.Cond.methodLink "AshCityLaw" (47 : Nat) ({ cls := "AshCity", name := "first", desc := "(IIII)I" } : Jvm.MethodName)) ∈ lw_all := lw_g (lw_at lw_m2 183 rfl) rfl
theorem q528 : (Jvm.Cond.methodLink "AshCityLaw" (51 : Nat) ({ cls := "AshCity", name := "means", desc := "(IIIII)Z" } : Jvm.MethodName)) ∈ lw_all := lw_g (lw_at lw_m2 187 rfl) rfl
theorem q562 : (Jvm.Cond.methodLink "AshCityLaw" (56 : Nat) ({ cls := "AshCity", name := "meaning", desc := "(III)I" } : Jvm.MethodName)) ∈ lw_all := lw_g (lw_at lw_m2 221 rfl) rfl
theorem q570 : (Jvm.Cond.methodLink "AshCityLaw" (60 : Nat) ({ cls := "AshCity", name := "feed", desc := "(IIIII)I" } : Jvm.MethodName)) ∈ lw_all := lw_g (lw_at lw_m2 229 rfl) rfl
theorem q578 : (Jvm.Cond.methodLink "AshCityLaw" (65 : Nat) ({ cls := "AshCity", name := "rules", desc := "(III)I" } : Jvm.MethodName)) ∈ lw_all := lw_g (lw_at lw_m2 237 rfl) rfl
theorem q884 : (Jvm.Cond.methodLink "AshCityLaw" (69 : Nat) ({ cls := "AshCity", name := "number", desc := "(IIIIII)I" } : Jvm.MethodName)) ∈ lw_all := lw_g (lw_at lw_m4 63 rfl) rfl
theorem q970 : (Jvm.Cond.methodLink "AshCityLaw" (74 : Nat) ({ cls := "AshCity", name := "find", desc := "(IIIIIIII)I" } : Jvm.MethodName)) ∈ lw_all := lw_g (lw_at lw_m4 149 rfl) rfl
theorem q1017 : (Jvm.Cond.methodLink "AshCityLaw" (78 : Nat) ({ cls := "AshCity", name := "may", desc := "(II)I" } : Jvm.MethodName)) ∈ lw_all := lw_g (lw_at lw_m4 196 rfl) rfl
theorem q1042 : (Jvm.Cond.methodLink "AshCityLaw" (83 : Nat) ({ cls := "AshCity", name := "sure", desc := "(I)I" } : Jvm.MethodName)) ∈ lw_all := lw_g (lw_at lw_m4 221 rfl) rfl
theorem q1055 : (Jvm.Cond.methodLink "AshCityLaw" (87 : Nat) ({ cls := "AshCity", name := "nowhere", desc := "(II)I" } : Jvm.MethodName)) ∈ lw_all := lw_g (lw_at lw_m4 234 rfl) rfl
theorem q1059 : (Jvm.Cond.methodLink "AshCityLaw" (182 : Nat) ({ cls := "AshCity", name := "beside", desc := "(I)I" } : Jvm.MethodName)) ∈ lw_all := lw_g (lw_at lw_m4 238 rfl) rfl
theorem q1063 : (Jvm.Cond.methodLink "AshCityLaw" (91 : Nat) ({ cls := "AshCity", name := "barred", desc := "(I)I" } : Jvm.MethodName)) ∈ lw_all := lw_g (lw_at lw_m5 2 rfl) rfl
theorem q1079 : (Jvm.Cond.methodLink "AshCityLaw" (95 : Nat) ({ cls := "AshCity", name := "thing", desc := "(III)I" } : Jvm.MethodName)) ∈ lw_all := lw_g (lw_at lw_m5 18 rfl) rfl
theorem q1103 : (Jvm.Cond.methodLink "AshCityLaw" (99 : Nat) ({ cls := "AshCity", name := "gone", desc := "(IZ)Z" } : Jvm.MethodName)) ∈ lw_all := lw_g (lw_at lw_m5 42 rfl) rfl
theorem q1107 : (Jvm.Cond.methodLink "AshCityLaw" (104 : Nat) ({ cls := "AshCity", name := "like", desc := "(II)I" } : Jvm.MethodName)) ∈ lw_all := lw_g (lw_at lw_m5 46 rfl) rfl
theorem q1123 : (Jvm.Cond.methodLink "AshCityLaw" (108 : Nat) ({ cls := "AshCity", name := "join", desc := "(I)I" } : Jvm.MethodName)) ∈ lw_all := lw_g (lw_at lw_m5 62 rfl) rfl
theorem q1136 : (Jvm.Cond.methodLink "AshCityLaw" (112 : Nat) ({ cls := "AshCity", name := "joined", desc := "(I)I" } : Jvm.MethodName)) ∈ lw_all := lw_g (lw_at lw_m5 75 rfl) rfl
theorem q1140 : (Jvm.Cond.methodLink "AshCityLaw" (116 : Nat) ({ cls := "AshCity", name := "lost", desc := "(II)I" } : Jvm.MethodName)) ∈ lw_all := lw_g (lw_at lw_m5 79 rfl) rfl
theorem q1152 : (Jvm.Cond.methodLink "AshCityLaw" (120 : Nat) ({ cls := "AshCity", name := "wall", desc := "(II)I" } : Jvm.MethodName)) ∈ lw_all := lw_g (lw_at lw_m5 91 rfl) rfl
theorem q1169 : (Jvm.Cond.methodLink "AshCityLaw" (124 : Nat) ({ cls := "AshCity", name := "draw", desc := "(III)I" } : Jvm.MethodName)) ∈ lw_all := lw_g (lw_at lw_m5 108 rfl) rfl
theorem q1207 : (Jvm.Cond.methodLink "AshCityLaw" (128 : Nat) ({ cls := "AshCity", name := "copy", desc := "(II)I" } : Jvm.MethodName)) ∈ lw_all := lw_g (lw_at lw_m5 146 rfl) rfl
theorem q1211 : (Jvm.Cond.methodLink "AshCityLaw" (132 : Nat) ({ cls := "AshCity", name := "stood", desc := "(IIII)I" } : Jvm.MethodName)) ∈ lw_all := lw_g (lw_at lw_m5 150 rfl) rfl
theorem q1219 : (Jvm.Cond.methodLink "AshCityLaw" (136 : Nat) ({ cls := "AshCity", name := "ash", desc := "(III)Z" } : Jvm.MethodName)) ∈ lw_all := lw_g (lw_at lw_m5 158 rfl) rfl
theorem q1223 : (Jvm.Cond.methodLink "AshCityLaw" (141 : Nat) ({ cls := "AshCity", name := "above", desc := "(II)Z" } : Jvm.MethodName)) ∈ lw_all := lw_g (lw_at lw_m5 162 rfl) rfl
theorem q1227 : (Jvm.Cond.methodLink "AshCityLaw" (145 : Nat) ({ cls := "AshCity", name := "hour", desc := "(II)I" } : Jvm.MethodName)) ∈ lw_all := lw_g (lw_at lw_m5 166 rfl) rfl
theorem q1235 : (Jvm.Cond.methodLink "AshCityLaw" (149 : Nat) ({ cls := "AshCity", name := "height", desc := "(II)Z" } : Jvm.MethodName)) ∈ lw_all := lw_g (lw_at lw_m5 174 rfl) rfl
theorem q1239 : (Jvm.Cond.methodLink "AshCityLaw" (153 : Nat) ({ cls := "AshCity", name := "hollow", desc := "(II)I" } : Jvm.MethodName)) ∈ lw_all := lw_g (lw_at lw_m5 178 rfl) rfl
theorem q1243 : (Jvm.Cond.methodLink "AshCityLaw" (157 : Nat) ({ cls := "AshCity", name := "way", desc := "(I)I" } : Jvm.MethodName)) ∈ lw_all := lw_g (lw_at lw_m5 182 rfl) rfl
theorem q1255 : (Jvm.Cond.methodLink "AshCityLaw" (161 : Nat) ({ cls := "AshCity", name := "sign", desc := "(IIII)Z" } : Jvm.MethodName)) ∈ lw_all := lw_g (lw_at lw_m5 194 rfl) rfl
theorem q1281 : (Jvm.Cond.methodLink "AshCityLaw" (166 : Nat) ({ cls := "AshCity", name := "who", desc := "(II)I" } : Jvm.MethodName)) ∈ lw_all := lw_g (lw_at lw_m5 220 rfl) rfl
theorem q1285 : (Jvm.Cond.methodLink "AshCityLaw" (170 : Nat) ({ cls := "AshCity", name := "work", desc := "(III)I" } : Jvm.MethodName)) ∈ lw_all := lw_g (lw_at lw_m5 224 rfl) rfl
theorem q1307 : (Jvm.Cond.methodLink "AshCityLaw" (174 : Nat) ({ cls := "AshCity", name := "best", desc := "(I)I" } : Jvm.MethodName)) ∈ lw_all := lw_g (lw_at lw_m6 6 rfl) rfl
theorem q1325 : (Jvm.Cond.methodLink "AshCityLaw" (178 : Nat) ({ cls := "AshCity", name := "saves", desc := "(I)I" } : Jvm.MethodName)) ∈ lw_all := lw_g (lw_at lw_m6 24 rfl) rfl
theorem q1329 : (Jvm.Cond.methodLink "AshCityLaw" (186 : Nat) ({ cls := "AshCity", name := "check", desc := "(I)I" } : Jvm.MethodName)) ∈ lw_all := lw_g (lw_at lw_m6 28 rfl) rfl
theorem q1337 : (Jvm.Cond.methodLink "AshCityLaw" (190 : Nat) ({ cls := "AshCity", name := "count", desc := "(I)I" } : Jvm.MethodName)) ∈ lw_all := lw_g (lw_at lw_m6 36 rfl) rfl
theorem q1341 : (Jvm.Cond.classLink "AshCityLaw" (10 : Nat) "AshCityModel") ∈ lw_all := lw_g (lw_at lw_m6 40 rfl) rfl
theorem q1343 : (Jvm.Cond.methodLink "AshCityLaw" (12 : Nat) ({ cls := "AshCityModel", name := "<init>", desc := "()V" } : Jvm.MethodName)) ∈ lw_all := lw_g (lw_at lw_m6 42 rfl) rfl
theorem q1685 : (Jvm.Cond.methodLink "AshCityLaw" (17 : Nat) ({ cls := "AshCityModel", name := "city", desc := "(II)Z" } : Jvm.MethodName)) ∈ lw_all := lw_g (lw_at lw_m7 144 rfl) rfl
theorem q1692 : (Jvm.Cond.methodLink "AshCityLaw" (22 : Nat) ({ cls := "AshCityModel", name := "now", desc := "(I)Z" } : Jvm.MethodName)) ∈ lw_all := lw_g (lw_at lw_m7 151 rfl) rfl
theorem q1696 : (Jvm.Cond.methodLink "AshCityLaw" (27 : Nat) ({ cls := "AshCityModel", name := "place", desc := "(III)I" } : Jvm.MethodName)) ∈ lw_all := lw_g (lw_at lw_m7 155 rfl) rfl
theorem q1712 : (Jvm.Cond.methodLink "AshCityLaw" (32 : Nat) ({ cls := "AshCityModel", name := "placeOf", desc := "(I)I" } : Jvm.MethodName)) ∈ lw_all := lw_g (lw_at lw_m7 171 rfl) rfl
theorem q1716 : (Jvm.Cond.methodLink "AshCityLaw" (37 : Nat) ({ cls := "AshCityModel", name := "dig", desc := "(IIIIIIII)I" } : Jvm.MethodName)) ∈ lw_all := lw_g (lw_at lw_m7 175 rfl) rfl
theorem q1723 : (Jvm.Cond.methodLink "AshCityLaw" (41 : Nat) ({ cls := "AshCityModel", name := "strike", desc := "(I)Z" } : Jvm.MethodName)) ∈ lw_all := lw_g (lw_at lw_m7 182 rfl) rfl
theorem q1731 : (Jvm.Cond.methodLink "AshCityLaw" (46 : Nat) ({ cls := "AshCityModel", name := "ground", desc := "(IIII)I" } : Jvm.MethodName)) ∈ lw_all := lw_g (lw_at lw_m7 190 rfl) rfl
theorem q1754 : (Jvm.Cond.methodLink "AshCityLaw" (50 : Nat) ({ cls := "AshCityModel", name := "first", desc := "(IIII)I" } : Jvm.MethodName)) ∈ lw_all := lw_g (lw_at lw_m7 213 rfl) rfl
theorem q1758 : (Jvm.Cond.methodLink "AshCityLaw" (55 : Nat) ({ cls := "AshCityModel", name := "means", desc := "(IIIII)Z" } : Jvm.MethodName)) ∈ lw_all := lw_g (lw_at lw_m7 217 rfl) rfl
theorem q1766 : (Jvm.Cond.methodLink "AshCityLaw" (59 : Nat) ({ cls := "AshCityModel", name := "meaning", desc := "(III)I" } : Jvm.MethodName)) ∈ lw_all := lw_g (lw_at lw_m7 225 rfl) rfl
theorem q1774 : (Jvm.Cond.methodLink "AshCityLaw" (64 : Nat) ({ cls := "AshCityModel", name := "feed", desc := "(IIIII)I" } : Jvm.MethodName)) ∈ lw_all := lw_g (lw_at lw_m7 233 rfl) rfl
theorem q1782 : (Jvm.Cond.methodLink "AshCityLaw" (68 : Nat) ({ cls := "AshCityModel", name := "rules", desc := "(III)I" } : Jvm.MethodName)) ∈ lw_all := lw_g (lw_at lw_m8 1 rfl) rfl
theorem q1872 : (Jvm.Cond.methodLink "AshCityLaw" (73 : Nat) ({ cls := "AshCityModel", name := "number", desc := "(IIIIII)I" } : Jvm.MethodName)) ∈ lw_all := lw_g (lw_at lw_m8 91 rfl) rfl
theorem q1903 : (Jvm.Cond.methodLink "AshCityLaw" (77 : Nat) ({ cls := "AshCityModel", name := "find", desc := "(IIIIIIII)I" } : Jvm.MethodName)) ∈ lw_all := lw_g (lw_at lw_m8 122 rfl) rfl
theorem q1907 : (Jvm.Cond.methodLink "AshCityLaw" (82 : Nat) ({ cls := "AshCityModel", name := "may", desc := "(II)I" } : Jvm.MethodName)) ∈ lw_all := lw_g (lw_at lw_m8 126 rfl) rfl
theorem q1931 : (Jvm.Cond.methodLink "AshCityLaw" (86 : Nat) ({ cls := "AshCityModel", name := "sure", desc := "(I)I" } : Jvm.MethodName)) ∈ lw_all := lw_g (lw_at lw_m8 150 rfl) rfl
theorem q1939 : (Jvm.Cond.methodLink "AshCityLaw" (90 : Nat) ({ cls := "AshCityModel", name := "nowhere", desc := "(II)I" } : Jvm.MethodName)) ∈ lw_all := lw_g (lw_at lw_m8 158 rfl) rfl
theorem q1943 : (Jvm.Cond.methodLink "AshCityLaw" (185 : Nat) ({ cls := "AshCityModel", name := "beside", desc := "(I)I" } : Jvm.MethodName)) ∈ lw_all := lw_g (lw_at lw_m8 162 rfl) rfl
theorem q1947 : (Jvm.Cond.methodLink "AshCityLaw" (94 : Nat) ({ cls := "AshCityModel", name := "barred", desc := "(I)I" } : Jvm.MethodName)) ∈ lw_all := lw_g (lw_at lw_m8 166 rfl) rfl
theorem q1951 : (Jvm.Cond.methodLink "AshCityLaw" (98 : Nat) ({ cls := "AshCityModel", name := "thing", desc := "(III)I" } : Jvm.MethodName)) ∈ lw_all := lw_g (lw_at lw_m8 170 rfl) rfl
theorem q1955 : (Jvm.Cond.methodLink "AshCityLaw" (103 : Nat) ({ cls := "AshCityModel", name := "gone", desc := "(IZ)Z" } : Jvm.MethodName)) ∈ lw_all := lw_g (lw_at lw_m8 174 rfl) rfl
theorem q1963 : (Jvm.Cond.methodLink "AshCityLaw" (107 : Nat) ({ cls := "AshCityModel", name := "like", desc := "(II)I" } : Jvm.MethodName)) ∈ lw_all := lw_g (lw_at lw_m8 182 rfl) rfl
theorem q1979 : (Jvm.Cond.methodLink "AshCityLaw" (111 : Nat) ({ cls := "AshCityModel", name := "join", desc := "(I)I" } : Jvm.MethodName)) ∈ lw_all := lw_g (lw_at lw_m8 198 rfl) rfl
theorem q1991 : (Jvm.Cond.methodLink "AshCityLaw" (115 : Nat) ({ cls := "AshCityModel", name := "joined", desc := "(I)I" } : Jvm.MethodName)) ∈ lw_all := lw_g (lw_at lw_m8 210 rfl) rfl
theorem q1995 : (Jvm.Cond.methodLink "AshCityLaw" (119 : Nat) ({ cls := "AshCityModel", name := "lost", desc := "(II)I" } : Jvm.MethodName)) ∈ lw_all := lw_g (lw_at lw_m8 214 rfl) rfl
theorem q2007 : (Jvm.Cond.methodLink "AshCityLaw" (123 : Nat) ({ cls := "AshCityModel", name := "wall", desc := "(II)I" } : Jvm.MethodName)) ∈ lw_all := lw_g (lw_at lw_m8 226 rfl) rfl
theorem q2011 : (Jvm.Cond.methodLink "AshCityLaw" (127 : Nat) ({ cls := "AshCityModel", name := "draw", desc := "(III)I" } : Jvm.MethodName)) ∈ lw_all := lw_g (lw_at lw_m8 230 rfl) rfl
theorem q2023 : (Jvm.Cond.methodLink "AshCityLaw" (131 : Nat) ({ cls := "AshCityModel", name := "copy", desc := "(II)I" } : Jvm.MethodName)) ∈ lw_all := lw_g (lw_at lw_m9 2 rfl) rfl
theorem q2027 : (Jvm.Cond.methodLink "AshCityLaw" (135 : Nat) ({ cls := "AshCityModel", name := "stood", desc := "(IIII)I" } : Jvm.MethodName)) ∈ lw_all := lw_g (lw_at lw_m9 6 rfl) rfl
theorem q2039 : (Jvm.Cond.methodLink "AshCityLaw" (140 : Nat) ({ cls := "AshCityModel", name := "ash", desc := "(III)Z" } : Jvm.MethodName)) ∈ lw_all := lw_g (lw_at lw_m9 18 rfl) rfl
theorem q2043 : (Jvm.Cond.methodLink "AshCityLaw" (144 : Nat) ({ cls := "AshCityModel", name := "above", desc := "(II)Z" } : Jvm.MethodName)) ∈ lw_all := lw_g (lw_at lw_m9 22 rfl) rfl
theorem q2047 : (Jvm.Cond.methodLink "AshCityLaw" (148 : Nat) ({ cls := "AshCityModel", name := "hour", desc := "(II)I" } : Jvm.MethodName)) ∈ lw_all := lw_g (lw_at lw_m9 26 rfl) rfl
theorem q2055 : (Jvm.Cond.methodLink "AshCityLaw" (152 : Nat) ({ cls := "AshCityModel", name := "height", desc := "(II)Z" } : Jvm.MethodName)) ∈ lw_all := lw_g (lw_at lw_m9 34 rfl) rfl
theorem q2059 : (Jvm.Cond.methodLink "AshCityLaw" (156 : Nat) ({ cls := "AshCityModel", name := "hollow", desc := "(II)I" } : Jvm.MethodName)) ∈ lw_all := lw_g (lw_at lw_m9 38 rfl) rfl
theorem q2063 : (Jvm.Cond.methodLink "AshCityLaw" (160 : Nat) ({ cls := "AshCityModel", name := "way", desc := "(I)I" } : Jvm.MethodName)) ∈ lw_all := lw_g (lw_at lw_m9 42 rfl) rfl
theorem q2075 : (Jvm.Cond.methodLink "AshCityLaw" (165 : Nat) ({ cls := "AshCityModel", name := "sign", desc := "(IIII)Z" } : Jvm.MethodName)) ∈ lw_all := lw_g (lw_at lw_m9 54 rfl) rfl
theorem q2079 : (Jvm.Cond.methodLink "AshCityLaw" (169 : Nat) ({ cls := "AshCityModel", name := "who", desc := "(II)I" } : Jvm.MethodName)) ∈ lw_all := lw_g (lw_at lw_m9 58 rfl) rfl
theorem q2083 : (Jvm.Cond.methodLink "AshCityLaw" (173 : Nat) ({ cls := "AshCityModel", name := "work", desc := "(III)I" } : Jvm.MethodName)) ∈ lw_all := lw_g (lw_at lw_m9 62 rfl) rfl
theorem q2087 : (Jvm.Cond.methodLink "AshCityLaw" (177 : Nat) ({ cls := "AshCityModel", name := "best", desc := "(I)I" } : Jvm.MethodName)) ∈ lw_all := lw_g (lw_at lw_m9 66 rfl) rfl
theorem q2100 : (Jvm.Cond.methodLink "AshCityLaw" (181 : Nat) ({ cls := "AshCityModel", name := "saves", desc := "(I)I" } : Jvm.MethodName)) ∈ lw_all := lw_g (lw_at lw_m9 79 rfl) rfl
theorem q2104 : (Jvm.Cond.methodLink "AshCityLaw" (189 : Nat) ({ cls := "AshCityModel", name := "check", desc := "(I)I" } : Jvm.MethodName)) ∈ lw_all := lw_g (lw_at lw_m9 83 rfl) rfl
theorem q2112 : (Jvm.Cond.methodLink "AshCityLaw" (193 : Nat) ({ cls := "AshCityModel", name := "count", desc := "(I)I" } : Jvm.MethodName)) ∈ lw_all := lw_g (lw_at lw_m9 91 rfl) rfl
theorem in_X0 : ∀ w ∈ wsX00, w ∈ lw_all := lw_in wsX00 [211, 213, 215, 217, 219, 221, 223, 225, 227, 229, 231, 233, 235, 237, 239, 241, 243, 245, 247, 249, 251, 253, 255, 257, 259, 261, 263, 265, 267, 269, 271, 273, 275, 277, 279, 281, 283, 285, 287, 289, 291, 293, 295, 297, 299, 301] (by decide +kernel) (by decide +kernel)
theorem in_X1 : ∀ w ∈ wsX10, w ∈ lw_all := lw_in wsX10 [1462, 1464, 1466, 1468, 1470, 1472, 1474, 1476, 1478, 1480, 1482, 1484, 1486, 1488, 1490, 1492, 1494, 1496, 1498, 1500, 1502, 1504, 1506, 1508, 1510, 1512, 1514, 1516, 1518, 1520, 1522, 1524, 1526, 1528, 1530, 1532, 1534, 1536, 1538, 1540, 1542, 1544, 1546, 1548, 1550, 1552, 1554, 1556, 1558, 1560, 1562, 1564, 1566, 1568, 1570, 1572, 1574, 1576, 1578, 1580, 1582, 1584, 1586, 1588, 1590, 1592, 1594, 1596, 1598, 1600, 1602, 1604, 1606, 1608, 1610, 1612, 1614, 1616, 1618, 1620, 1622, 1624, 1626, 1628, 1630, 1632, 1634, 1636, 1638, 1640, 1642, 1644, 1646, 1648, 1650, 1652, 1654, 1656, 1658, 1660, 1662, 1664, 1666, 1668, 1670, 1672, 1674, 1676, 1678, 1680, 1682] (by decide +kernel) (by decide +kernel)
theorem in_X2 : ∀ w ∈ wsX20, w ∈ lw_all := lw_in wsX20 [345, 347, 349, 351] (by decide +kernel) (by decide +kernel)
theorem in_X3 : ∀ w ∈ wsX30, w ∈ lw_all := lw_in wsX30 [369, 371, 373] (by decide +kernel) (by decide +kernel)
theorem in_X5 : ∀ w ∈ wsX50, w ∈ lw_all := lw_in wsX50 [422, 424, 426, 428, 430, 432, 434, 436, 438] (by decide +kernel) (by decide +kernel)
theorem in_X6 : ∀ w ∈ wsX60, w ∈ lw_all := lw_in wsX60 [447, 448, 449, 450, 451, 452, 453, 454, 455] (by decide +kernel) (by decide +kernel)
theorem in_X7 : ∀ w ∈ wsX70, w ∈ lw_all := lw_in wsX70 [463, 464, 465, 466, 467, 468, 469, 470, 471] (by decide +kernel) (by decide +kernel)
theorem in_X8 : ∀ w ∈ wsX80, w ∈ lw_all := lw_in wsX80 [551, 553, 555, 557, 559] (by decide +kernel) (by decide +kernel)
theorem in_X9 : ∀ w ∈ wsX90, w ∈ lw_all := lw_in wsX90 [602, 604, 606, 608, 610, 612, 614, 616, 618, 620] (by decide +kernel) (by decide +kernel)
theorem in_X10 : ∀ w ∈ wsX100, w ∈ lw_all := lw_in wsX100 [744, 746, 748, 750] (by decide +kernel) (by decide +kernel)
theorem in_X12 : ∀ w ∈ wsX120, w ∈ lw_all := lw_in wsX120 [877, 879, 881] (by decide +kernel) (by decide +kernel)
theorem in_X13 : ∀ w ∈ wsX130, w ∈ lw_all := lw_in wsX130 [796] (by decide +kernel) (by decide +kernel)
theorem in_X15 : ∀ w ∈ wsX150, w ∈ lw_all := lw_in wsX150 [846, 848, 850] (by decide +kernel) (by decide +kernel)
theorem in_X16 : ∀ w ∈ wsX160, w ∈ lw_all := lw_in wsX160 [824] (by decide +kernel) (by decide +kernel)
theorem in_X17 : ∀ w ∈ wsX170, w ∈ lw_all := lw_in wsX170 [835] (by decide +kernel) (by decide +kernel)
theorem in_X18 : ∀ w ∈ wsX180, w ∈ lw_all := lw_in wsX180 [862, 864, 866] (by decide +kernel) (by decide +kernel)
theorem in_X19 : ∀ w ∈ wsX190, w ∈ lw_all := lw_in wsX190 [902, 904, 906, 908, 910, 912] (by decide +kernel) (by decide +kernel)
theorem in_X20 : ∀ w ∈ wsX200, w ∈ lw_all := lw_in wsX200 [998, 1000, 1002, 1004, 1006, 1008, 1010, 1012, 1014] (by decide +kernel) (by decide +kernel)
theorem in_X21 : ∀ w ∈ wsX210, w ∈ lw_all := lw_in wsX210 [1094, 1096, 1098, 1100] (by decide +kernel) (by decide +kernel)
theorem in_X22 : ∀ w ∈ wsX220, w ∈ lw_all := lw_in wsX220 [1164, 1166] (by decide +kernel) (by decide +kernel)
theorem in_X23 : ∀ w ∈ wsX230, w ∈ lw_all := lw_in wsX230 [1194, 1196, 1198, 1200, 1202, 1204] (by decide +kernel) (by decide +kernel)
theorem in_X24 : ∀ w ∈ wsX240, w ∈ lw_all := lw_in wsX240 [1272, 1274, 1276, 1278] (by decide +kernel) (by decide +kernel)
theorem in_X25 : ∀ w ∈ wsX250, w ∈ lw_all := lw_in wsX250 [1300, 1302, 1304] (by decide +kernel) (by decide +kernel)
