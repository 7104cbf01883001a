set_option maxRecDepth 100000
def RJ0 : String := "java/lang/Throwable"
def TJ0 : u_T := fun k => match k with
  | 0 => ("java/lang/Throwable", "cause", "Ljava/lang/Throwable;", false)
  | 1 => ("java/lang/Throwable", "stackTrace", "[Ljava/lang/StackTraceElement;", false)
  | 2 => ("java/lang/Throwable", "suppressedExceptions", "Ljava/util/List;", false)
  | 3 => ("java/lang/Throwable", "detailMessage", "Ljava/lang/String;", false)
  | _ => ("java/lang/Throwable", "backtrace", "Ljava/lang/Object;", false)
def tyJ0 : Nat → FieldType := fun k => match k with
  | 0 => .object "java/lang/Throwable"
  | 1 => .array (.object "java/lang/StackTraceElement")
  | 2 => .object "java/util/List"
  | 3 => .object "java/lang/String"
  | _ => .object "java/lang/Object"
abbrev wsJ00 : List Cond := u_ws RJ0 TJ0 5
theorem nmJ0 : ∀ a, a < 5 → ∀ b, b < 5 → a ≠ b → (TJ0 a).2.1 ≠ (TJ0 b).2.1 := by decide +kernel
theorem tyJ0_ok : ∀ k, k < 5 → parseFieldDescriptor (TJ0 k).2.2.1 = some (tyJ0 k) := by decide +kernel
def RJ1 : String := "java/lang/Exception"
def RJ2 : String := "java/lang/String"
def RJ3 : String := "java/lang/StringLatin1"
def RJ4 : String := "jdk/internal/util/Preconditions"
def RJ5 : String := "java/lang/StringUTF16"
def RJ6 : String := "java/lang/Math"
def RJ7 : String := "java/lang/Object"
def RX0 : String := "WaysAtlas"
def TX0 : u_T := fun k => match k with
  | 0 => ("WaysAtlas", "scanner", "LWaysAtlas$Scanner;", true)
  | 1 => ("WaysAtlas", "reader", "LWaysAtlas$Reader;", true)
  | 2 => ("WaysAtlas", "program", "LWaysAtlas$Program;", false)
  | 3 => ("WaysAtlas", "fault", "I", false)
  | 4 => ("WaysAtlas", "plan", "LWaysAtlas$Plan;", false)
  | 5 => ("WaysAtlas", "quiet", "LWaysAtlas$Plan;", true)
  | 6 => ("WaysAtlas", "byCode", "LWaysAtlas$Run;", false)
  | 7 => ("WaysAtlas", "byTree", "LWaysAtlas$Run;", false)
  | 8 => ("WaysAtlas", "beside", "LWaysAtlas$Run;", false)
  | _ => ("WaysAtlas", "other", "LWaysAtlas$Run;", false)
def tyX0 : Nat → FieldType := fun k => match k with
  | 0 => .object "WaysAtlas$Scanner"
  | 1 => .object "WaysAtlas$Reader"
  | 2 => .object "WaysAtlas$Program"
  | 3 => .int
  | 4 => .object "WaysAtlas$Plan"
  | 5 => .object "WaysAtlas$Plan"
  | 6 => .object "WaysAtlas$Run"
  | 7 => .object "WaysAtlas$Run"
  | 8 => .object "WaysAtlas$Run"
  | _ => .object "WaysAtlas$Run"
abbrev wsX00 : List Cond := u_ws RX0 TX0 10
theorem nmX0 : ∀ a, a < 10 → ∀ b, b < 10 → a ≠ b → (TX0 a).2.1 ≠ (TX0 b).2.1 := by decide +kernel
theorem tyX0_ok : ∀ k, k < 10 → parseFieldDescriptor (TX0 k).2.2.1 = some (tyX0 k) := by decide +kernel
def RX1 : String := "WaysAtlas$Scanner"
def TX1 : u_T := fun k => match k with
  | 0 => ("WaysAtlas$Scanner", "text", "[B", true)
  | 1 => ("WaysAtlas$Scanner", "size", "I", false)
  | 2 => ("WaysAtlas$Scanner", "kinds", "[I", true)
  | 3 => ("WaysAtlas$Scanner", "places", "[I", true)
  | 4 => ("WaysAtlas$Scanner", "values", "[I", true)
  | 5 => ("WaysAtlas$Scanner", "many", "I", false)
  | _ => ("WaysAtlas$Scanner", "at", "I", false)
def tyX1 : Nat → FieldType := fun k => match k with
  | 0 => .array .byte
  | 1 => .int
  | 2 => .array .int
  | 3 => .array .int
  | 4 => .array .int
  | 5 => .int
  | _ => .int
abbrev wsX10 : List Cond := u_ws RX1 TX1 7
theorem nmX1 : ∀ a, a < 7 → ∀ b, b < 7 → a ≠ b → (TX1 a).2.1 ≠ (TX1 b).2.1 := by decide +kernel
theorem tyX1_ok : ∀ k, k < 7 → parseFieldDescriptor (TX1 k).2.2.1 = some (tyX1 k) := by decide +kernel
def RX10 : String := "WaysAtlas$Fault"
def TX10 : u_T := fun k => match k with
  | 0 => ("java/lang/Throwable", "cause", "Ljava/lang/Throwable;", false)
  | 1 => ("java/lang/Throwable", "stackTrace", "[Ljava/lang/StackTraceElement;", false)
  | 2 => ("java/lang/Throwable", "suppressedExceptions", "Ljava/util/List;", false)
  | 3 => ("java/lang/Throwable", "detailMessage", "Ljava/lang/String;", false)
  | 4 => ("java/lang/Throwable", "backtrace", "Ljava/lang/Object;", false)
  | 5 => ("java/lang/Throwable", "depth", "I", false)
  | 6 => ("WaysAtlas$Fault", "kind", "I", true)
  | _ => ("WaysAtlas$Fault", "place", "I", true)
def tyX10 : Nat → FieldType := fun k => match k with
  | 0 => .object "java/lang/Throwable"
  | 1 => .array (.object "java/lang/StackTraceElement")
  | 2 => .object "java/util/List"
  | 3 => .object "java/lang/String"
  | 4 => .object "java/lang/Object"
  | 5 => .int
  | 6 => .int
  | _ => .int
abbrev wsX100 : List Cond := u_ws RX10 TX10 8
theorem nmX10 : ∀ a, a < 8 → ∀ b, b < 8 → a ≠ b → (TX10 a).2.1 ≠ (TX10 b).2.1 := by decide +kernel
theorem tyX10_ok : ∀ k, k < 8 → parseFieldDescriptor (TX10 k).2.2.1 = some (tyX10 k) := by decide +kernel
def RX11 : String := "WaysAtlas$Method"
def TX11 : u_T := fun k => match k with
  | 0 => ("WaysAtlas$Method", "number", "I", true)
  | 1 => ("WaysAtlas$Method", "block", "[LWaysAtlas$Statement;", false)
  | _ => ("WaysAtlas$Method", "from", "I", false)
def tyX11 : Nat → FieldType := fun k => match k with
  | 0 => .int
  | 1 => .array (.object "WaysAtlas$Statement")
  | _ => .int
abbrev wsX110 : List Cond := u_ws RX11 TX11 3
theorem nmX11 : ∀ a, a < 3 → ∀ b, b < 3 → a ≠ b → (TX11 a).2.1 ≠ (TX11 b).2.1 := by decide +kernel
theorem tyX11_ok : ∀ k, k < 3 → parseFieldDescriptor (TX11 k).2.2.1 = some (tyX11 k) := by decide +kernel
def RX12 : String := "WaysAtlas$Node"
def RX13 : String := "WaysAtlas$Sign"
def TX13 : u_T := fun k => match k with
  | 0 => ("WaysAtlas$Sign", "sign", "I", true)
  | 1 => ("WaysAtlas$Sign", "left", "LWaysAtlas$Node;", true)
  | _ => ("WaysAtlas$Sign", "right", "LWaysAtlas$Node;", true)
def tyX13 : Nat → FieldType := fun k => match k with
  | 0 => .int
  | 1 => .object "WaysAtlas$Node"
  | _ => .object "WaysAtlas$Node"
abbrev wsX130 : List Cond := u_ws RX13 TX13 3
theorem nmX13 : ∀ a, a < 3 → ∀ b, b < 3 → a ≠ b → (TX13 a).2.1 ≠ (TX13 b).2.1 := by decide +kernel
theorem tyX13_ok : ∀ k, k < 3 → parseFieldDescriptor (TX13 k).2.2.1 = some (tyX13 k) := by decide +kernel
def RX14 : String := "WaysAtlas$Number"
def TX14 : u_T := fun k => match k with
  | _ => ("WaysAtlas$Number", "v", "I", true)
def tyX14 : Nat → FieldType := fun k => match k with
  | _ => .int
abbrev wsX140 : List Cond := u_ws RX14 TX14 1
theorem nmX14 : ∀ a, a < 1 → ∀ b, b < 1 → a ≠ b → (TX14 a).2.1 ≠ (TX14 b).2.1 := by decide +kernel
theorem tyX14_ok : ∀ k, k < 1 → parseFieldDescriptor (TX14 k).2.2.1 = some (tyX14 k) := by decide +kernel
def RX15 : String := "WaysAtlas$Var"
def TX15 : u_T := fun k => match k with
  | _ => ("WaysAtlas$Var", "v", "I", true)
def tyX15 : Nat → FieldType := fun k => match k with
  | _ => .int
abbrev wsX150 : List Cond := u_ws RX15 TX15 1
theorem nmX15 : ∀ a, a < 1 → ∀ b, b < 1 → a ≠ b → (TX15 a).2.1 ≠ (TX15 b).2.1 := by decide +kernel
theorem tyX15_ok : ∀ k, k < 1 → parseFieldDescriptor (TX15 k).2.2.1 = some (tyX15 k) := by decide +kernel
def RX16 : String := "WaysAtlas$Place"
def TX16 : u_T := fun k => match k with
  | 0 => ("WaysAtlas$Place", "row", "I", true)
  | _ => ("WaysAtlas$Place", "at", "LWaysAtlas$Node;", true)
def tyX16 : Nat → FieldType := fun k => match k with
  | 0 => .int
  | _ => .object "WaysAtlas$Node"
abbrev wsX160 : List Cond := u_ws RX16 TX16 2
theorem nmX16 : ∀ a, a < 2 → ∀ b, b < 2 → a ≠ b → (TX16 a).2.1 ≠ (TX16 b).2.1 := by decide +kernel
theorem tyX16_ok : ∀ k, k < 2 → parseFieldDescriptor (TX16 k).2.2.1 = some (tyX16 k) := by decide +kernel
def RX17 : String := "WaysAtlas$Statement"
def RX18 : String := "WaysAtlas$Call"
def TX18 : u_T := fun k => match k with
  | 0 => ("WaysAtlas$Statement", "number", "I", true)
  | 1 => ("WaysAtlas$Call", "into", "I", true)
  | 2 => ("WaysAtlas$Call", "method", "I", true)
  | 3 => ("WaysAtlas$Call", "a", "LWaysAtlas$Node;", true)
  | _ => ("WaysAtlas$Call", "b", "LWaysAtlas$Node;", true)
def tyX18 : Nat → FieldType := fun k => match k with
  | 0 => .int
  | 1 => .int
  | 2 => .int
  | 3 => .object "WaysAtlas$Node"
  | _ => .object "WaysAtlas$Node"
abbrev wsX180 : List Cond := u_ws RX18 TX18 5
theorem nmX18 : ∀ a, a < 5 → ∀ b, b < 5 → a ≠ b → (TX18 a).2.1 ≠ (TX18 b).2.1 := by decide +kernel
theorem tyX18_ok : ∀ k, k < 5 → parseFieldDescriptor (TX18 k).2.2.1 = some (tyX18 k) := by decide +kernel
def RX19 : String := "WaysAtlas$Plain"
def RX2 : String := "WaysAtlas$Reader"
def TX2 : u_T := fun k => match k with
  | 0 => ("WaysAtlas$Reader", "s", "LWaysAtlas$Scanner;", true)
  | 1 => ("WaysAtlas$Reader", "p", "LWaysAtlas$Program;", false)
  | 2 => ("WaysAtlas$Reader", "at", "I", false)
  | 3 => ("WaysAtlas$Reader", "blocks", "I", false)
  | 4 => ("WaysAtlas$Reader", "nested", "I", false)
  | 5 => ("WaysAtlas$Reader", "loops", "I", false)
  | 6 => ("WaysAtlas$Reader", "taking", "LWaysAtlas$Guard;", false)
  | 7 => ("WaysAtlas$Reader", "wrong", "I", false)
  | 8 => ("WaysAtlas$Reader", "pile", "[LWaysAtlas$Statement;", true)
  | 9 => ("WaysAtlas$Reader", "piled", "I", false)
  | 10 => ("WaysAtlas$Reader", "told", "[I", true)
  | 11 => ("WaysAtlas$Reader", "toldAt", "[I", true)
  | _ => ("WaysAtlas$Reader", "tells", "I", false)
def tyX2 : Nat → FieldType := fun k => match k with
  | 0 => .object "WaysAtlas$Scanner"
  | 1 => .object "WaysAtlas$Program"
  | 2 => .int
  | 3 => .int
  | 4 => .int
  | 5 => .int
  | 6 => .object "WaysAtlas$Guard"
  | 7 => .int
  | 8 => .array (.object "WaysAtlas$Statement")
  | 9 => .int
  | 10 => .array .int
  | 11 => .array .int
  | _ => .int
abbrev wsX20 : List Cond := u_ws RX2 TX2 13
theorem nmX2 : ∀ a, a < 13 → ∀ b, b < 13 → a ≠ b → (TX2 a).2.1 ≠ (TX2 b).2.1 := by decide +kernel
theorem tyX2_ok : ∀ k, k < 13 → parseFieldDescriptor (TX2 k).2.2.1 = some (tyX2 k) := by decide +kernel
def RX20 : String := "WaysAtlas$SetVar"
def TX20 : u_T := fun k => match k with
  | 0 => ("WaysAtlas$Statement", "number", "I", true)
  | 1 => ("WaysAtlas$SetVar", "v", "I", true)
  | _ => ("WaysAtlas$SetVar", "of", "LWaysAtlas$Node;", true)
def tyX20 : Nat → FieldType := fun k => match k with
  | 0 => .int
  | 1 => .int
  | _ => .object "WaysAtlas$Node"
abbrev wsX200 : List Cond := u_ws RX20 TX20 3
theorem nmX20 : ∀ a, a < 3 → ∀ b, b < 3 → a ≠ b → (TX20 a).2.1 ≠ (TX20 b).2.1 := by decide +kernel
theorem tyX20_ok : ∀ k, k < 3 → parseFieldDescriptor (TX20 k).2.2.1 = some (tyX20 k) := by decide +kernel
def RX21 : String := "WaysAtlas$PutRow"
def TX21 : u_T := fun k => match k with
  | 0 => ("WaysAtlas$Statement", "number", "I", true)
  | 1 => ("WaysAtlas$PutRow", "place", "LWaysAtlas$Place;", true)
  | _ => ("WaysAtlas$PutRow", "of", "LWaysAtlas$Node;", true)
def tyX21 : Nat → FieldType := fun k => match k with
  | 0 => .int
  | 1 => .object "WaysAtlas$Place"
  | _ => .object "WaysAtlas$Node"
abbrev wsX210 : List Cond := u_ws RX21 TX21 3
theorem nmX21 : ∀ a, a < 3 → ∀ b, b < 3 → a ≠ b → (TX21 a).2.1 ≠ (TX21 b).2.1 := by decide +kernel
theorem tyX21_ok : ∀ k, k < 3 → parseFieldDescriptor (TX21 k).2.2.1 = some (tyX21 k) := by decide +kernel
def RX22 : String := "WaysAtlas$NewRow"
def TX22 : u_T := fun k => match k with
  | 0 => ("WaysAtlas$Statement", "number", "I", true)
  | 1 => ("WaysAtlas$NewRow", "row", "I", true)
  | _ => ("WaysAtlas$NewRow", "of", "LWaysAtlas$Node;", true)
def tyX22 : Nat → FieldType := fun k => match k with
  | 0 => .int
  | 1 => .int
  | _ => .object "WaysAtlas$Node"
abbrev wsX220 : List Cond := u_ws RX22 TX22 3
theorem nmX22 : ∀ a, a < 3 → ∀ b, b < 3 → a ≠ b → (TX22 a).2.1 ≠ (TX22 b).2.1 := by decide +kernel
theorem tyX22_ok : ∀ k, k < 3 → parseFieldDescriptor (TX22 k).2.2.1 = some (tyX22 k) := by decide +kernel
def RX23 : String := "WaysAtlas$SameRow"
def TX23 : u_T := fun k => match k with
  | 0 => ("WaysAtlas$Statement", "number", "I", true)
  | 1 => ("WaysAtlas$SameRow", "row", "I", true)
  | _ => ("WaysAtlas$SameRow", "other", "I", true)
def tyX23 : Nat → FieldType := fun k => match k with
  | 0 => .int
  | 1 => .int
  | _ => .int
abbrev wsX230 : List Cond := u_ws RX23 TX23 3
theorem nmX23 : ∀ a, a < 3 → ∀ b, b < 3 → a ≠ b → (TX23 a).2.1 ≠ (TX23 b).2.1 := by decide +kernel
theorem tyX23_ok : ∀ k, k < 3 → parseFieldDescriptor (TX23 k).2.2.1 = some (tyX23 k) := by decide +kernel
def RX24 : String := "WaysAtlas$Mark"
def TX24 : u_T := fun k => match k with
  | 0 => ("WaysAtlas$Statement", "number", "I", true)
  | _ => ("WaysAtlas$Mark", "v", "I", true)
def tyX24 : Nat → FieldType := fun k => match k with
  | 0 => .int
  | _ => .int
abbrev wsX240 : List Cond := u_ws RX24 TX24 2
theorem nmX24 : ∀ a, a < 2 → ∀ b, b < 2 → a ≠ b → (TX24 a).2.1 ≠ (TX24 b).2.1 := by decide +kernel
theorem tyX24_ok : ∀ k, k < 2 → parseFieldDescriptor (TX24 k).2.2.1 = some (tyX24 k) := by decide +kernel
def RX25 : String := "WaysAtlas$Return"
def TX25 : u_T := fun k => match k with
  | 0 => ("WaysAtlas$Statement", "number", "I", true)
  | _ => ("WaysAtlas$Return", "of", "LWaysAtlas$Node;", true)
def tyX25 : Nat → FieldType := fun k => match k with
  | 0 => .int
  | _ => .object "WaysAtlas$Node"
abbrev wsX250 : List Cond := u_ws RX25 TX25 2
theorem nmX25 : ∀ a, a < 2 → ∀ b, b < 2 → a ≠ b → (TX25 a).2.1 ≠ (TX25 b).2.1 := by decide +kernel
theorem tyX25_ok : ∀ k, k < 2 → parseFieldDescriptor (TX25 k).2.2.1 = some (tyX25 k) := by decide +kernel
def RX26 : String := "WaysAtlas$If"
def TX26 : u_T := fun k => match k with
  | 0 => ("WaysAtlas$Statement", "number", "I", true)
  | 1 => ("WaysAtlas$If", "left", "LWaysAtlas$Node;", true)
  | 2 => ("WaysAtlas$If", "sign", "I", true)
  | 3 => ("WaysAtlas$If", "right", "LWaysAtlas$Node;", true)
  | 4 => ("WaysAtlas$If", "then", "[LWaysAtlas$Statement;", false)
  | _ => ("WaysAtlas$If", "other", "[LWaysAtlas$Statement;", false)
def tyX26 : Nat → FieldType := fun k => match k with
  | 0 => .int
  | 1 => .object "WaysAtlas$Node"
  | 2 => .int
  | 3 => .object "WaysAtlas$Node"
  | 4 => .array (.object "WaysAtlas$Statement")
  | _ => .array (.object "WaysAtlas$Statement")
abbrev wsX260 : List Cond := u_ws RX26 TX26 6
theorem nmX26 : ∀ a, a < 6 → ∀ b, b < 6 → a ≠ b → (TX26 a).2.1 ≠ (TX26 b).2.1 := by decide +kernel
theorem tyX26_ok : ∀ k, k < 6 → parseFieldDescriptor (TX26 k).2.2.1 = some (tyX26 k) := by decide +kernel
def RX27 : String := "WaysAtlas$Loop"
def TX27 : u_T := fun k => match k with
  | 0 => ("WaysAtlas$Statement", "number", "I", true)
  | 1 => ("WaysAtlas$Loop", "of", "LWaysAtlas$Node;", true)
  | _ => ("WaysAtlas$Loop", "block", "[LWaysAtlas$Statement;", false)
def tyX27 : Nat → FieldType := fun k => match k with
  | 0 => .int
  | 1 => .object "WaysAtlas$Node"
  | _ => .array (.object "WaysAtlas$Statement")
abbrev wsX270 : List Cond := u_ws RX27 TX27 3
theorem nmX27 : ∀ a, a < 3 → ∀ b, b < 3 → a ≠ b → (TX27 a).2.1 ≠ (TX27 b).2.1 := by decide +kernel
theorem tyX27_ok : ∀ k, k < 3 → parseFieldDescriptor (TX27 k).2.2.1 = some (tyX27 k) := by decide +kernel
def RX28 : String := "WaysAtlas$Leave"
def TX28 : u_T := fun k => match k with
  | 0 => ("WaysAtlas$Statement", "number", "I", true)
  | _ => ("WaysAtlas$Leave", "way", "I", true)
def tyX28 : Nat → FieldType := fun k => match k with
  | 0 => .int
  | _ => .int
abbrev wsX280 : List Cond := u_ws RX28 TX28 2
theorem nmX28 : ∀ a, a < 2 → ∀ b, b < 2 → a ≠ b → (TX28 a).2.1 ≠ (TX28 b).2.1 := by decide +kernel
theorem tyX28_ok : ∀ k, k < 2 → parseFieldDescriptor (TX28 k).2.2.1 = some (tyX28 k) := by decide +kernel
def RX29 : String := "WaysAtlas$Throw"
def TX29 : u_T := fun k => match k with
  | 0 => ("WaysAtlas$Statement", "number", "I", true)
  | _ => ("WaysAtlas$Throw", "kind", "I", true)
def tyX29 : Nat → FieldType := fun k => match k with
  | 0 => .int
  | _ => .int
abbrev wsX290 : List Cond := u_ws RX29 TX29 2
theorem nmX29 : ∀ a, a < 2 → ∀ b, b < 2 → a ≠ b → (TX29 a).2.1 ≠ (TX29 b).2.1 := by decide +kernel
theorem tyX29_ok : ∀ k, k < 2 → parseFieldDescriptor (TX29 k).2.2.1 = some (tyX29 k) := by decide +kernel
def RX3 : String := "WaysAtlas$Program"
def TX3 : u_T := fun k => match k with
  | 0 => ("WaysAtlas$Program", "methods", "[LWaysAtlas$Method;", true)
  | 1 => ("WaysAtlas$Program", "many", "I", false)
  | 2 => ("WaysAtlas$Program", "above", "[I", true)
  | 3 => ("WaysAtlas$Program", "kinds", "I", false)
  | 4 => ("WaysAtlas$Program", "statements", "[LWaysAtlas$Statement;", true)
  | 5 => ("WaysAtlas$Program", "size", "I", false)
  | 6 => ("WaysAtlas$Program", "handlerOf", "[LWaysAtlas$Guard;", true)
  | 7 => ("WaysAtlas$Program", "handler", "[I", true)
  | 8 => ("WaysAtlas$Program", "handlers", "I", false)
  | _ => ("WaysAtlas$Program", "code", "LWaysAtlas$Lower;", false)
def tyX3 : Nat → FieldType := fun k => match k with
  | 0 => .array (.object "WaysAtlas$Method")
  | 1 => .int
  | 2 => .array .int
  | 3 => .int
  | 4 => .array (.object "WaysAtlas$Statement")
  | 5 => .int
  | 6 => .array (.object "WaysAtlas$Guard")
  | 7 => .array .int
  | 8 => .int
  | _ => .object "WaysAtlas$Lower"
abbrev wsX30 : List Cond := u_ws RX3 TX3 10
theorem nmX3 : ∀ a, a < 10 → ∀ b, b < 10 → a ≠ b → (TX3 a).2.1 ≠ (TX3 b).2.1 := by decide +kernel
theorem tyX3_ok : ∀ k, k < 10 → parseFieldDescriptor (TX3 k).2.2.1 = some (tyX3 k) := by decide +kernel
def RX30 : String := "WaysAtlas$Again"
def TX30 : u_T := fun k => match k with
  | 0 => ("WaysAtlas$Statement", "number", "I", true)
  | 1 => ("WaysAtlas$Again", "kind", "I", true)
  | _ => ("WaysAtlas$Again", "of", "LWaysAtlas$Guard;", true)
def tyX30 : Nat → FieldType := fun k => match k with
  | 0 => .int
  | 1 => .int
  | _ => .object "WaysAtlas$Guard"
abbrev wsX300 : List Cond := u_ws RX30 TX30 3
theorem nmX30 : ∀ a, a < 3 → ∀ b, b < 3 → a ≠ b → (TX30 a).2.1 ≠ (TX30 b).2.1 := by decide +kernel
theorem tyX30_ok : ∀ k, k < 3 → parseFieldDescriptor (TX30 k).2.2.1 = some (tyX30 k) := by decide +kernel
def RX31 : String := "WaysAtlas$Guard"
def TX31 : u_T := fun k => match k with
  | 0 => ("WaysAtlas$Statement", "number", "I", true)
  | 1 => ("WaysAtlas$Guard", "resources", "I", true)
  | 2 => ("WaysAtlas$Guard", "block", "[LWaysAtlas$Statement;", false)
  | 3 => ("WaysAtlas$Guard", "kinds", "[I", false)
  | 4 => ("WaysAtlas$Guard", "catches", "[[LWaysAtlas$Statement;", false)
  | 5 => ("WaysAtlas$Guard", "many", "I", false)
  | _ => ("WaysAtlas$Guard", "finish", "[LWaysAtlas$Statement;", false)
def tyX31 : Nat → FieldType := fun k => match k with
  | 0 => .int
  | 1 => .int
  | 2 => .array (.object "WaysAtlas$Statement")
  | 3 => .array .int
  | 4 => .array (.array (.object "WaysAtlas$Statement"))
  | 5 => .int
  | _ => .array (.object "WaysAtlas$Statement")
abbrev wsX310 : List Cond := u_ws RX31 TX31 7
theorem nmX31 : ∀ a, a < 7 → ∀ b, b < 7 → a ≠ b → (TX31 a).2.1 ≠ (TX31 b).2.1 := by decide +kernel
theorem tyX31_ok : ∀ k, k < 7 → parseFieldDescriptor (TX31 k).2.2.1 = some (tyX31 k) := by decide +kernel
def RX32 : String := "WaysAtlas$Scope"
def TX32 : u_T := fun k => match k with
  | 0 => ("WaysAtlas$Scope", "sort", "I", true)
  | 1 => ("WaysAtlas$Scope", "of", "LWaysAtlas$Statement;", true)
  | 2 => ("WaysAtlas$Scope", "outer", "LWaysAtlas$Scope;", true)
  | 3 => ("WaysAtlas$Scope", "gaps", "[I", false)
  | 4 => ("WaysAtlas$Scope", "gapMany", "I", false)
  | 5 => ("WaysAtlas$Scope", "jumps", "[I", false)
  | 6 => ("WaysAtlas$Scope", "many", "I", false)
  | _ => ("WaysAtlas$Scope", "goal", "I", false)
def tyX32 : Nat → FieldType := fun k => match k with
  | 0 => .int
  | 1 => .object "WaysAtlas$Statement"
  | 2 => .object "WaysAtlas$Scope"
  | 3 => .array .int
  | 4 => .int
  | 5 => .array .int
  | 6 => .int
  | _ => .int
abbrev wsX320 : List Cond := u_ws RX32 TX32 8
theorem nmX32 : ∀ a, a < 8 → ∀ b, b < 8 → a ≠ b → (TX32 a).2.1 ≠ (TX32 b).2.1 := by decide +kernel
theorem tyX32_ok : ∀ k, k < 8 → parseFieldDescriptor (TX32 k).2.2.1 = some (tyX32 k) := by decide +kernel
def RX33 : String := "WaysAtlas$Lower"
def TX33 : u_T := fun k => match k with
  | 0 => ("WaysAtlas$Lower", "ops", "[I", false)
  | 1 => ("WaysAtlas$Lower", "size", "I", false)
  | 2 => ("WaysAtlas$Lower", "table", "[I", false)
  | 3 => ("WaysAtlas$Lower", "rows", "I", false)
  | 4 => ("WaysAtlas$Lower", "isShared", "Z", true)
  | _ => ("WaysAtlas$Lower", "scope", "LWaysAtlas$Scope;", false)
def tyX33 : Nat → FieldType := fun k => match k with
  | 0 => .array .int
  | 1 => .int
  | 2 => .array .int
  | 3 => .int
  | 4 => .boolean
  | _ => .object "WaysAtlas$Scope"
abbrev wsX330 : List Cond := u_ws RX33 TX33 6
theorem nmX33 : ∀ a, a < 6 → ∀ b, b < 6 → a ≠ b → (TX33 a).2.1 ≠ (TX33 b).2.1 := by decide +kernel
theorem tyX33_ok : ∀ k, k < 6 → parseFieldDescriptor (TX33 k).2.2.1 = some (tyX33 k) := by decide +kernel
def RX4 : String := "WaysAtlas$Plan"
def TX4 : u_T := fun k => match k with
  | 0 => ("WaysAtlas$Plan", "part", "[I", true)
  | 1 => ("WaysAtlas$Plan", "time", "[I", true)
  | 2 => ("WaysAtlas$Plan", "kind", "[I", true)
  | _ => ("WaysAtlas$Plan", "many", "I", false)
def tyX4 : Nat → FieldType := fun k => match k with
  | 0 => .array .int
  | 1 => .array .int
  | 2 => .array .int
  | _ => .int
abbrev wsX40 : List Cond := u_ws RX4 TX4 4
theorem nmX4 : ∀ a, a < 4 → ∀ b, b < 4 → a ≠ b → (TX4 a).2.1 ≠ (TX4 b).2.1 := by decide +kernel
theorem tyX4_ok : ∀ k, k < 4 → parseFieldDescriptor (TX4 k).2.2.1 = some (tyX4 k) := by decide +kernel
def RX5 : String := "WaysAtlas$Run"
def TX5 : u_T := fun k => match k with
  | 0 => ("WaysAtlas$Run", "program", "LWaysAtlas$Program;", false)
  | 1 => ("WaysAtlas$Run", "plan", "LWaysAtlas$Plan;", false)
  | 2 => ("WaysAtlas$Run", "frames", "[LWaysAtlas$Frame;", true)
  | 3 => ("WaysAtlas$Run", "deep", "I", false)
  | 4 => ("WaysAtlas$Run", "deepest", "I", false)
  | 5 => ("WaysAtlas$Run", "steps", "I", false)
  | 6 => ("WaysAtlas$Run", "most", "I", false)
  | 7 => ("WaysAtlas$Run", "tape", "[I", true)
  | 8 => ("WaysAtlas$Run", "marks", "I", false)
  | 9 => ("WaysAtlas$Run", "kind", "[I", true)
  | 10 => ("WaysAtlas$Run", "cause", "[I", true)
  | 11 => ("WaysAtlas$Run", "first", "[I", true)
  | 12 => ("WaysAtlas$Run", "next", "[I", true)
  | 13 => ("WaysAtlas$Run", "statement", "[I", true)
  | 14 => ("WaysAtlas$Run", "under", "[I", true)
  | 15 => ("WaysAtlas$Run", "trace", "[I", true)
  | 16 => ("WaysAtlas$Run", "failures", "I", false)
  | 17 => ("WaysAtlas$Run", "opened", "I", false)
  | 18 => ("WaysAtlas$Run", "closed", "[I", true)
  | 19 => ("WaysAtlas$Run", "closes", "I", false)
  | 20 => ("WaysAtlas$Run", "lost", "I", false)
  | 21 => ("WaysAtlas$Run", "entered", "[I", true)
  | 22 => ("WaysAtlas$Run", "passed", "[I", true)
  | 23 => ("WaysAtlas$Run", "passings", "[I", true)
  | 24 => ("WaysAtlas$Run", "passingMany", "I", false)
  | 25 => ("WaysAtlas$Run", "rowSize", "[I", true)
  | 26 => ("WaysAtlas$Run", "cells", "[I", true)
  | 27 => ("WaysAtlas$Run", "rowMany", "I", false)
  | 28 => ("WaysAtlas$Run", "ended", "I", false)
  | 29 => ("WaysAtlas$Run", "given", "I", false)
  | 30 => ("WaysAtlas$Run", "failure", "I", false)
  | 31 => ("WaysAtlas$Run", "failing", "I", false)
  | 32 => ("WaysAtlas$Run", "thrown", "LWaysAtlas$Thrown;", true)
  | _ => ("WaysAtlas$Run", "spent", "LWaysAtlas$Spent;", true)
def tyX5 : Nat → FieldType := fun k => match k with
  | 0 => .object "WaysAtlas$Program"
  | 1 => .object "WaysAtlas$Plan"
  | 2 => .array (.object "WaysAtlas$Frame")
  | 3 => .int
  | 4 => .int
  | 5 => .int
  | 6 => .int
  | 7 => .array .int
  | 8 => .int
  | 9 => .array .int
  | 10 => .array .int
  | 11 => .array .int
  | 12 => .array .int
  | 13 => .array .int
  | 14 => .array .int
  | 15 => .array .int
  | 16 => .int
  | 17 => .int
  | 18 => .array .int
  | 19 => .int
  | 20 => .int
  | 21 => .array .int
  | 22 => .array .int
  | 23 => .array .int
  | 24 => .int
  | 25 => .array .int
  | 26 => .array .int
  | 27 => .int
  | 28 => .int
  | 29 => .int
  | 30 => .int
  | 31 => .int
  | 32 => .object "WaysAtlas$Thrown"
  | _ => .object "WaysAtlas$Spent"
abbrev wsX50 : List Cond := u_ws RX5 TX5 34
theorem nmX5 : ∀ a, a < 34 → ∀ b, b < 34 → a ≠ b → (TX5 a).2.1 ≠ (TX5 b).2.1 := by decide +kernel
theorem tyX5_ok : ∀ k, k < 34 → parseFieldDescriptor (TX5 k).2.2.1 = some (tyX5 k) := by decide +kernel
def RX6 : String := "WaysAtlas$Thrown"
def TX6 : u_T := fun k => match k with
  | 0 => ("java/lang/Throwable", "cause", "Ljava/lang/Throwable;", false)
  | 1 => ("java/lang/Throwable", "stackTrace", "[Ljava/lang/StackTraceElement;", false)
  | 2 => ("java/lang/Throwable", "suppressedExceptions", "Ljava/util/List;", false)
  | 3 => ("java/lang/Throwable", "detailMessage", "Ljava/lang/String;", false)
  | 4 => ("java/lang/Throwable", "backtrace", "Ljava/lang/Object;", false)
  | 5 => ("java/lang/Throwable", "depth", "I", false)
  | _ => ("WaysAtlas$Thrown", "failure", "I", false)
def tyX6 : Nat → FieldType := fun k => match k with
  | 0 => .object "java/lang/Throwable"
  | 1 => .array (.object "java/lang/StackTraceElement")
  | 2 => .object "java/util/List"
  | 3 => .object "java/lang/String"
  | 4 => .object "java/lang/Object"
  | 5 => .int
  | _ => .int
abbrev wsX60 : List Cond := u_ws RX6 TX6 7
theorem nmX6 : ∀ a, a < 7 → ∀ b, b < 7 → a ≠ b → (TX6 a).2.1 ≠ (TX6 b).2.1 := by decide +kernel
theorem tyX6_ok : ∀ k, k < 7 → parseFieldDescriptor (TX6 k).2.2.1 = some (tyX6 k) := by decide +kernel
def RX7 : String := "WaysAtlas$Spent"
def TX7 : u_T := fun k => match k with
  | 0 => ("java/lang/Throwable", "cause", "Ljava/lang/Throwable;", false)
  | 1 => ("java/lang/Throwable", "stackTrace", "[Ljava/lang/StackTraceElement;", false)
  | 2 => ("java/lang/Throwable", "suppressedExceptions", "Ljava/util/List;", false)
  | 3 => ("java/lang/Throwable", "detailMessage", "Ljava/lang/String;", false)
  | 4 => ("java/lang/Throwable", "backtrace", "Ljava/lang/Object;", false)
  | _ => ("java/lang/Throwable", "depth", "I", false)
def tyX7 : Nat → FieldType := fun k => match k with
  | 0 => .object "java/lang/Throwable"
  | 1 => .array (.object "java/lang/StackTraceElement")
  | 2 => .object "java/util/List"
  | 3 => .object "java/lang/String"
  | 4 => .object "java/lang/Object"
  | _ => .int
abbrev wsX70 : List Cond := u_ws RX7 TX7 6
theorem nmX7 : ∀ a, a < 6 → ∀ b, b < 6 → a ≠ b → (TX7 a).2.1 ≠ (TX7 b).2.1 := by decide +kernel
theorem tyX7_ok : ∀ k, k < 6 → parseFieldDescriptor (TX7 k).2.2.1 = some (tyX7 k) := by decide +kernel
def RX8 : String := "WaysAtlas$Frame"
def TX8 : u_T := fun k => match k with
  | 0 => ("WaysAtlas$Frame", "vars", "[I", true)
  | 1 => ("WaysAtlas$Frame", "rows", "[I", true)
  | 2 => ("WaysAtlas$Frame", "slots", "[I", true)
  | 3 => ("WaysAtlas$Frame", "result", "I", false)
  | 4 => ("WaysAtlas$Frame", "method", "LWaysAtlas$Method;", false)
  | 5 => ("WaysAtlas$Frame", "at", "I", false)
  | 6 => ("WaysAtlas$Frame", "pc", "I", false)
  | _ => ("WaysAtlas$Frame", "into", "I", false)
def tyX8 : Nat → FieldType := fun k => match k with
  | 0 => .array .int
  | 1 => .array .int
  | 2 => .array .int
  | 3 => .int
  | 4 => .object "WaysAtlas$Method"
  | 5 => .int
  | 6 => .int
  | _ => .int
abbrev wsX80 : List Cond := u_ws RX8 TX8 8
theorem nmX8 : ∀ a, a < 8 → ∀ b, b < 8 → a ≠ b → (TX8 a).2.1 ≠ (TX8 b).2.1 := by decide +kernel
theorem tyX8_ok : ∀ k, k < 8 → parseFieldDescriptor (TX8 k).2.2.1 = some (tyX8 k) := by decide +kernel
def RX9 : String := "WaysAtlasModel"
def TX9 : u_T := fun k => match k with
  | 0 => ("WaysAtlasModel", "words", "[J", true)
  | 1 => ("WaysAtlasModel", "text", "[B", true)
  | 2 => ("WaysAtlasModel", "size", "I", false)
  | 3 => ("WaysAtlasModel", "at", "I", false)
  | 4 => ("WaysAtlasModel", "token", "I", false)
  | 5 => ("WaysAtlasModel", "tokenAt", "I", false)
  | 6 => ("WaysAtlasModel", "which", "I", false)
  | 7 => ("WaysAtlasModel", "value", "I", false)
  | 8 => ("WaysAtlasModel", "live", "I", false)
  | 9 => ("WaysAtlasModel", "draft", "I", false)
  | 10 => ("WaysAtlasModel", "hasProgram", "Z", false)
  | 11 => ("WaysAtlasModel", "stat", "[I", true)
  | 12 => ("WaysAtlasModel", "statements", "[I", true)
  | 13 => ("WaysAtlasModel", "entryKind", "[I", true)
  | 14 => ("WaysAtlasModel", "entryValue", "[I", true)
  | 15 => ("WaysAtlasModel", "firstOf", "[I", true)
  | 16 => ("WaysAtlasModel", "catchOf", "[I", true)
  | 17 => ("WaysAtlasModel", "catchKind", "[I", true)
  | 18 => ("WaysAtlasModel", "catchBlock", "[I", true)
  | 19 => ("WaysAtlasModel", "catches", "[I", true)
  | 20 => ("WaysAtlasModel", "body", "[I", true)
  | 21 => ("WaysAtlasModel", "methods", "[I", true)
  | 22 => ("WaysAtlasModel", "above", "[I", true)
  | 23 => ("WaysAtlasModel", "kinds", "[I", true)
  | 24 => ("WaysAtlasModel", "entries", "I", false)
  | 25 => ("WaysAtlasModel", "blocks", "I", false)
  | 26 => ("WaysAtlasModel", "fault", "I", false)
  | 27 => ("WaysAtlasModel", "faultAt", "I", false)
  | 28 => ("WaysAtlasModel", "faultTold", "I", false)
  | 29 => ("WaysAtlasModel", "checks", "I", false)
  | 30 => ("WaysAtlasModel", "checkHow", "[I", true)
  | 31 => ("WaysAtlasModel", "checkAt", "[I", true)
  | 32 => ("WaysAtlasModel", "checkValue", "[I", true)
  | 33 => ("WaysAtlasModel", "waits", "I", false)
  | 34 => ("WaysAtlasModel", "wait", "[I", true)
  | 35 => ("WaysAtlasModel", "waitValue", "[I", true)
  | 36 => ("WaysAtlasModel", "deep", "I", false)
  | 37 => ("WaysAtlasModel", "isOver", "Z", false)
  | 38 => ("WaysAtlasModel", "piled", "I", false)
  | 39 => ("WaysAtlasModel", "pileKind", "[I", true)
  | 40 => ("WaysAtlasModel", "pileStatement", "[I", true)
  | 41 => ("WaysAtlasModel", "pileBlock", "[I", true)
  | 42 => ("WaysAtlasModel", "pileLast", "[I", true)
  | 43 => ("WaysAtlasModel", "planned", "I", false)
  | 44 => ("WaysAtlasModel", "planStatement", "[I", true)
  | 45 => ("WaysAtlasModel", "planPart", "[I", true)
  | 46 => ("WaysAtlasModel", "planTime", "[I", true)
  | 47 => ("WaysAtlasModel", "planKind", "[I", true)
  | 48 => ("WaysAtlasModel", "hasRun", "[Z", true)
  | 49 => ("WaysAtlasModel", "slot", "I", false)
  | 50 => ("WaysAtlasModel", "told", "[I", true)
  | 51 => ("WaysAtlasModel", "tape", "[I", true)
  | 52 => ("WaysAtlasModel", "failedKind", "[I", true)
  | 53 => ("WaysAtlasModel", "cause", "[I", true)
  | 54 => ("WaysAtlasModel", "underFirst", "[I", true)
  | 55 => ("WaysAtlasModel", "underNext", "[I", true)
  | 56 => ("WaysAtlasModel", "failedAt", "[I", true)
  | 57 => ("WaysAtlasModel", "underWay", "[I", true)
  | 58 => ("WaysAtlasModel", "traces", "[I", true)
  | 59 => ("WaysAtlasModel", "closings", "[I", true)
  | 60 => ("WaysAtlasModel", "enteredOf", "[I", true)
  | 61 => ("WaysAtlasModel", "left", "I", false)
  | 62 => ("WaysAtlasModel", "ended", "I", false)
  | 63 => ("WaysAtlasModel", "signal", "I", false)
  | 64 => ("WaysAtlasModel", "signalValue", "I", false)
  | 65 => ("WaysAtlasModel", "frames", "I", false)
  | 66 => ("WaysAtlasModel", "frameKind", "[I", true)
  | 67 => ("WaysAtlasModel", "frameStatement", "[I", true)
  | 68 => ("WaysAtlasModel", "frameNow", "[I", true)
  | 69 => ("WaysAtlasModel", "pending", "[I", true)
  | 70 => ("WaysAtlasModel", "pendingValue", "[I", true)
  | 71 => ("WaysAtlasModel", "firstResource", "[I", true)
  | 72 => ("WaysAtlasModel", "openedOf", "[I", true)
  | 73 => ("WaysAtlasModel", "caught", "[I", true)
  | 74 => ("WaysAtlasModel", "acts", "I", false)
  | 75 => ("WaysAtlasModel", "actVar", "[I", true)
  | 76 => ("WaysAtlasModel", "actRow", "[I", true)
  | 77 => ("WaysAtlasModel", "actMethod", "[I", true)
  | 78 => ("WaysAtlasModel", "actStatement", "[I", true)
  | 79 => ("WaysAtlasModel", "rows", "I", false)
  | 80 => ("WaysAtlasModel", "rowSize", "[I", true)
  | 81 => ("WaysAtlasModel", "rowItem", "[I", true)
  | 82 => ("WaysAtlasModel", "passed", "[I", true)
  | 83 => ("WaysAtlasModel", "planning", "I", false)
  | 84 => ("WaysAtlasModel", "aloneStatement", "I", false)
  | 85 => ("WaysAtlasModel", "alonePart", "I", false)
  | 86 => ("WaysAtlasModel", "aloneTime", "I", false)
  | 87 => ("WaysAtlasModel", "quiet", "I", false)
  | 88 => ("WaysAtlasModel", "quietStatement", "[I", true)
  | 89 => ("WaysAtlasModel", "quietPart", "[I", true)
  | 90 => ("WaysAtlasModel", "quietTime", "[I", true)
  | 91 => ("WaysAtlasModel", "stack", "[I", true)
  | 92 => ("WaysAtlasModel", "stacked", "I", false)
  | 93 => ("WaysAtlasModel", "wrong", "I", false)
  | 94 => ("WaysAtlasModel", "wayOut", "[I", true)
  | _ => ("WaysAtlasModel", "wayOuts", "I", false)
def tyX9 : Nat → FieldType := fun k => match k with
  | 0 => .array .long
  | 1 => .array .byte
  | 2 => .int
  | 3 => .int
  | 4 => .int
  | 5 => .int
  | 6 => .int
  | 7 => .int
  | 8 => .int
  | 9 => .int
  | 10 => .boolean
  | 11 => .array .int
  | 12 => .array .int
  | 13 => .array .int
  | 14 => .array .int
  | 15 => .array .int
  | 16 => .array .int
  | 17 => .array .int
  | 18 => .array .int
  | 19 => .array .int
  | 20 => .array .int
  | 21 => .array .int
  | 22 => .array .int
  | 23 => .array .int
  | 24 => .int
  | 25 => .int
  | 26 => .int
  | 27 => .int
  | 28 => .int
  | 29 => .int
  | 30 => .array .int
  | 31 => .array .int
  | 32 => .array .int
  | 33 => .int
  | 34 => .array .int
  | 35 => .array .int
  | 36 => .int
  | 37 => .boolean
  | 38 => .int
  | 39 => .array .int
  | 40 => .array .int
  | 41 => .array .int
  | 42 => .array .int
  | 43 => .int
  | 44 => .array .int
  | 45 => .array .int
  | 46 => .array .int
  | 47 => .array .int
  | 48 => .array .boolean
  | 49 => .int
  | 50 => .array .int
  | 51 => .array .int
  | 52 => .array .int
  | 53 => .array .int
  | 54 => .array .int
  | 55 => .array .int
  | 56 => .array .int
  | 57 => .array .int
  | 58 => .array .int
  | 59 => .array .int
  | 60 => .array .int
  | 61 => .int
  | 62 => .int
  | 63 => .int
  | 64 => .int
  | 65 => .int
  | 66 => .array .int
  | 67 => .array .int
  | 68 => .array .int
  | 69 => .array .int
  | 70 => .array .int
  | 71 => .array .int
  | 72 => .array .int
  | 73 => .array .int
  | 74 => .int
  | 75 => .array .int
  | 76 => .array .int
  | 77 => .array .int
  | 78 => .array .int
  | 79 => .int
  | 80 => .array .int
  | 81 => .array .int
  | 82 => .array .int
  | 83 => .int
  | 84 => .int
  | 85 => .int
  | 86 => .int
  | 87 => .int
  | 88 => .array .int
  | 89 => .array .int
  | 90 => .array .int
  | 91 => .array .int
  | 92 => .int
  | 93 => .int
  | 94 => .array .int
  | _ => .int
abbrev wsX90 : List Cond := u_ws RX9 TX9 96
theorem nmX9 : ∀ a, a < 96 → ∀ b, b < 96 → a ≠ b → (TX9 a).2.1 ≠ (TX9 b).2.1 := by decide +kernel
theorem tyX9_ok : ∀ k, k < 96 → parseFieldDescriptor (TX9 k).2.2.1 = some (tyX9 k) := by decide +kernel
theorem q144 : (Jvm.Cond.initialized "java/lang/Throwable") ∈ lw_all := lw_g (lw_at lw_m1 7 rfl) rfl
theorem q369 : (Jvm.Cond.declares ({ cls := "java/lang/Throwable", name := "<init>", desc := "()V" } : Jvm.MethodName)) ∈ lw_tbl := lw_at lw_m1 232 rfl
theorem q370 : (Jvm.Cond.declares ({ cls := "java/lang/Throwable", name := "<init>", desc := "(Ljava/lang/String;)V" } : Jvm.MethodName)) ∈ lw_tbl := lw_at lw_m1 233 rfl
theorem q374 : (Jvm.Cond.lays "java/lang/Throwable" "java/lang/Throwable" "cause" "Ljava/lang/Throwable;") ∈ lw_all := lw_g (lw_at lw_m1 237 rfl) rfl
theorem q376 : (Jvm.Cond.lays "java/lang/Throwable" "java/lang/Throwable" "stackTrace" "[Ljava/lang/StackTraceElement;") ∈ lw_all := lw_g (lw_at lw_m1 239 rfl) rfl
theorem q378 : (Jvm.Cond.lays "java/lang/Throwable" "java/lang/Throwable" "suppressedExceptions" "Ljava/util/List;") ∈ lw_all := lw_g (lw_at lw_m2 1 rfl) rfl
theorem q380 : (Jvm.Cond.lays "java/lang/Throwable" "java/lang/Throwable" "detailMessage" "Ljava/lang/String;") ∈ lw_all := lw_g (lw_at lw_m2 3 rfl) rfl
theorem q382 : (Jvm.Cond.lays "java/lang/Throwable" "java/lang/Throwable" "backtrace" "Ljava/lang/Object;") ∈ lw_all := lw_g (lw_at lw_m2 5 rfl) rfl
theorem q383 : (Jvm.Cond.fieldLink "java/lang/Throwable" (198 : Nat) "java/lang/Throwable" "backtrace" "Ljava/lang/Object;") ∈ lw_all := lw_g (lw_at lw_m2 6 rfl) rfl
theorem q384 : (Jvm.Cond.superclass "java/lang/Throwable" "java/lang/Object") ∈ lw_all := lw_g (lw_at lw_m2 7 rfl) rfl
theorem q385 : (Jvm.Cond.instanceMethod ({ cls := "java/lang/Throwable", name := "<init>", desc := "()V" } : Jvm.MethodName)) ∈ lw_all := lw_g (lw_at lw_m2 8 rfl) rfl
theorem q386 : (Jvm.Cond.code ({ cls := "java/lang/Throwable", name := "<init>", desc := "()V" } : Jvm.MethodName) prog_43_method_1_code (1 : Nat) (Option.none : Option Jvm.ClassFile.FieldType)) ∈ lw_all := lw_g (lw_at lw_m2 9 rfl) rfl
theorem q387 : (Jvm.Cond.methodLink "java/lang/Throwable" (1 : Nat) ({ cls := "java/lang/Object", name := "<init>", desc := "()V" } : Jvm.MethodName)) ∈ lw_all := lw_g (lw_at lw_m2 10 rfl) rfl
theorem q388 : (Jvm.Cond.fieldLink "java/lang/Throwable" (13 : Nat) "java/lang/Throwable" "UNASSIGNED_STACK" "[Ljava/lang/StackTraceElement;") ∈ lw_all := lw_g (lw_at lw_m2 11 rfl) rfl
theorem q389 : (Jvm.Cond.laysStatic "java/lang/Throwable" "UNASSIGNED_STACK" "[Ljava/lang/StackTraceElement;") ∈ lw_tbl := lw_at lw_m2 12 rfl
theorem q390 : (Jvm.Cond.fieldLink "java/lang/Throwable" (20 : Nat) "java/lang/Throwable" "SUPPRESSED_SENTINEL" "Ljava/util/List;") ∈ lw_all := lw_g (lw_at lw_m2 13 rfl) rfl
theorem q391 : (Jvm.Cond.laysStatic "java/lang/Throwable" "SUPPRESSED_SENTINEL" "Ljava/util/List;") ∈ lw_tbl := lw_at lw_m2 14 rfl
theorem q392 : (Jvm.Cond.methodLink "java/lang/Throwable" (27 : Nat) ({ cls := "java/lang/Throwable", name := "fillInStackTrace", desc := "()Ljava/lang/Throwable;" } : Jvm.MethodName)) ∈ lw_all := lw_g (lw_at lw_m2 15 rfl) rfl
theorem q393 : (Jvm.Cond.instanceMethod ({ cls := "java/lang/Throwable", name := "fillInStackTrace", desc := "()Ljava/lang/Throwable;" } : Jvm.MethodName)) ∈ lw_all := lw_g (lw_at lw_m2 16 rfl) rfl
theorem q394 : (Jvm.Cond.sameMethod "java/lang/Throwable" "java/lang/Throwable" "fillInStackTrace" "()Ljava/lang/Throwable;") ∈ lw_all := lw_g (lw_at lw_m2 17 rfl) rfl
theorem q397 : (Jvm.Cond.codeSync ({ cls := "java/lang/Throwable", name := "fillInStackTrace", desc := "()Ljava/lang/Throwable;" } : Jvm.MethodName) prog_43_method_18_code (1 : Nat) (Option.some (Jvm.ClassFile.FieldType.object "java/lang/Throwable"))) ∈ lw_all := lw_g (lw_at lw_m2 20 rfl) rfl
theorem q398 : (Jvm.Cond.methodLink "java/lang/Throwable" (202 : Nat) ({ cls := "java/lang/Throwable", name := "fillInStackTrace", desc := "(I)Ljava/lang/Throwable;" } : Jvm.MethodName)) ∈ lw_all := lw_g (lw_at lw_m2 21 rfl) rfl
theorem q399 : (Jvm.Cond.privateMethod ({ cls := "java/lang/Throwable", name := "fillInStackTrace", desc := "(I)Ljava/lang/Throwable;" } : Jvm.MethodName)) ∈ lw_tbl := lw_at lw_m2 22 rfl
theorem q400 : (Jvm.Cond.instanceMethod ({ cls := "java/lang/Throwable", name := "fillInStackTrace", desc := "(I)Ljava/lang/Throwable;" } : Jvm.MethodName)) ∈ lw_all := lw_g (lw_at lw_m2 23 rfl) rfl
theorem q401 : (Jvm.Cond.instantiable "java/lang/Throwable" (6 : Nat)) ∈ lw_all := lw_g (lw_at lw_m2 24 rfl) rfl
theorem q402 : (Jvm.Cond.native ({ cls := "java/lang/Throwable", name := "fillInStackTrace", desc := "(I)Ljava/lang/Throwable;" } : Jvm.MethodName)) ∈ lw_all := lw_g (lw_at lw_m2 25 rfl) rfl
theorem q411 : (Jvm.Cond.instanceMethod ({ cls := "java/lang/Throwable", name := "<init>", desc := "(Ljava/lang/String;Ljava/lang/Throwable;ZZ)V" } : Jvm.MethodName)) ∈ lw_all := lw_g (lw_at lw_m2 34 rfl) rfl
theorem q412 : (Jvm.Cond.code ({ cls := "java/lang/Throwable", name := "<init>", desc := "(Ljava/lang/String;Ljava/lang/Throwable;ZZ)V" } : Jvm.MethodName) prog_43_method_5_code (5 : Nat) (Option.none : Option Jvm.ClassFile.FieldType)) ∈ lw_all := lw_g (lw_at lw_m2 35 rfl) rfl
theorem q416 : (Jvm.Cond.fieldLink "java/lang/Throwable" (198 : Nat) "java/lang/Throwable" "backtrace" "Ljava/lang/Object;") ∈ lw_all := lw_g (lw_at lw_m2 39 rfl) rfl
theorem q417 : (Jvm.Cond.fieldLink "java/lang/Throwable" (31 : Nat) "java/lang/Throwable" "detailMessage" "Ljava/lang/String;") ∈ lw_all := lw_g (lw_at lw_m2 40 rfl) rfl
theorem q418 : (Jvm.Cond.fieldLink "java/lang/Throwable" (7 : Nat) "java/lang/Throwable" "cause" "Ljava/lang/Throwable;") ∈ lw_all := lw_g (lw_at lw_m2 41 rfl) rfl
theorem q419 : (Jvm.Cond.fieldLink "java/lang/Throwable" (17 : Nat) "java/lang/Throwable" "stackTrace" "[Ljava/lang/StackTraceElement;") ∈ lw_all := lw_g (lw_at lw_m2 42 rfl) rfl
theorem q420 : (Jvm.Cond.fieldLink "java/lang/Throwable" (24 : Nat) "java/lang/Throwable" "suppressedExceptions" "Ljava/util/List;") ∈ lw_all := lw_g (lw_at lw_m2 43 rfl) rfl
theorem q423 : (Jvm.Cond.soleField "java/lang/Throwable" "backtrace") ∈ lw_all := lw_g (lw_at lw_m2 46 rfl) rfl
theorem q424 : (Jvm.Cond.soleField "java/lang/Throwable" "detailMessage") ∈ lw_all := lw_g (lw_at lw_m2 47 rfl) rfl
theorem q425 : (Jvm.Cond.soleField "java/lang/Throwable" "cause") ∈ lw_all := lw_g (lw_at lw_m2 48 rfl) rfl
theorem q426 : (Jvm.Cond.soleField "java/lang/Throwable" "stackTrace") ∈ lw_all := lw_g (lw_at lw_m2 49 rfl) rfl
theorem q428 : (Jvm.Cond.soleField "java/lang/Throwable" "depth") ∈ lw_all := lw_g (lw_at lw_m2 51 rfl) rfl
theorem q429 : (Jvm.Cond.soleField "java/lang/Throwable" "suppressedExceptions") ∈ lw_all := lw_g (lw_at lw_m2 52 rfl) rfl
theorem q2634 : (Jvm.Cond.sameMethod "java/lang/Throwable" "java/lang/Throwable" "fillInStackTrace" "(I)Ljava/lang/Throwable;") ∈ lw_all := lw_g (lw_at lw_m11 97 rfl) rfl
theorem q145 : (Jvm.Cond.initialized "java/lang/Exception") ∈ lw_all := lw_g (lw_at lw_m1 8 rfl) rfl
theorem q367 : (Jvm.Cond.declares ({ cls := "java/lang/Exception", name := "<init>", desc := "()V" } : Jvm.MethodName)) ∈ lw_tbl := lw_at lw_m1 230 rfl
theorem q368 : (Jvm.Cond.declares ({ cls := "java/lang/Exception", name := "<init>", desc := "(Ljava/lang/String;)V" } : Jvm.MethodName)) ∈ lw_tbl := lw_at lw_m1 231 rfl
theorem q408 : (Jvm.Cond.instanceMethod ({ cls := "java/lang/Exception", name := "<init>", desc := "(Ljava/lang/String;Ljava/lang/Throwable;ZZ)V" } : Jvm.MethodName)) ∈ lw_all := lw_g (lw_at lw_m2 31 rfl) rfl
theorem q409 : (Jvm.Cond.code ({ cls := "java/lang/Exception", name := "<init>", desc := "(Ljava/lang/String;Ljava/lang/Throwable;ZZ)V" } : Jvm.MethodName) prog_37_method_5_code (5 : Nat) (Option.none : Option Jvm.ClassFile.FieldType)) ∈ lw_all := lw_g (lw_at lw_m2 32 rfl) rfl
theorem q410 : (Jvm.Cond.methodLink "java/lang/Exception" (16 : Nat) ({ cls := "java/lang/Throwable", name := "<init>", desc := "(Ljava/lang/String;Ljava/lang/Throwable;ZZ)V" } : Jvm.MethodName)) ∈ lw_all := lw_g (lw_at lw_m2 33 rfl) rfl
theorem q150 : (Jvm.Cond.initialized "java/lang/String") ∈ lw_all := lw_g (lw_at lw_m1 13 rfl) rfl
theorem q721 : (Jvm.Cond.instanceMethod ({ cls := "java/lang/String", name := "length", desc := "()I" } : Jvm.MethodName)) ∈ lw_all := lw_g (lw_at lw_m3 104 rfl) rfl
theorem q722 : (Jvm.Cond.selects "java/lang/String" ({ cls := "java/lang/String", name := "length", desc := "()I" } : Jvm.MethodName) ({ cls := "java/lang/String", name := "length", desc := "()I" } : Jvm.MethodName)) ∈ lw_all := lw_g (lw_at lw_m3 105 rfl) rfl
theorem q723 : (Jvm.Cond.code ({ cls := "java/lang/String", name := "length", desc := "()I" } : Jvm.MethodName) prog_39_method_54_code (1 : Nat) (Option.some Jvm.ClassFile.FieldType.int)) ∈ lw_all := lw_g (lw_at lw_m3 106 rfl) rfl
theorem q724 : (Jvm.Cond.methodLink "java/lang/String" (335 : Nat) ({ cls := "java/lang/String", name := "coder", desc := "()B" } : Jvm.MethodName)) ∈ lw_all := lw_g (lw_at lw_m3 107 rfl) rfl
theorem q725 : (Jvm.Cond.instanceMethod ({ cls := "java/lang/String", name := "coder", desc := "()B" } : Jvm.MethodName)) ∈ lw_all := lw_g (lw_at lw_m3 108 rfl) rfl
theorem q726 : (Jvm.Cond.selects "java/lang/String" ({ cls := "java/lang/String", name := "coder", desc := "()B" } : Jvm.MethodName) ({ cls := "java/lang/String", name := "coder", desc := "()B" } : Jvm.MethodName)) ∈ lw_all := lw_g (lw_at lw_m3 109 rfl) rfl
theorem q727 : (Jvm.Cond.code ({ cls := "java/lang/String", name := "coder", desc := "()B" } : Jvm.MethodName) prog_39_method_152_code (1 : Nat) (Option.some Jvm.ClassFile.FieldType.byte)) ∈ lw_all := lw_g (lw_at lw_m3 110 rfl) rfl
theorem q728 : (Jvm.Cond.fieldLink "java/lang/String" (38 : Nat) "java/lang/String" "COMPACT_STRINGS" "Z") ∈ lw_all := lw_g (lw_at lw_m3 111 rfl) rfl
theorem q729 : (Jvm.Cond.laysStatic "java/lang/String" "COMPACT_STRINGS" "Z") ∈ lw_tbl := lw_at lw_m3 112 rfl
theorem q731 : (Jvm.Cond.instanceMethod ({ cls := "java/lang/String", name := "charAt", desc := "(I)C" } : Jvm.MethodName)) ∈ lw_all := lw_g (lw_at lw_m3 114 rfl) rfl
theorem q732 : (Jvm.Cond.selects "java/lang/String" ({ cls := "java/lang/String", name := "charAt", desc := "(I)C" } : Jvm.MethodName) ({ cls := "java/lang/String", name := "charAt", desc := "(I)C" } : Jvm.MethodName)) ∈ lw_all := lw_g (lw_at lw_m3 115 rfl) rfl
theorem q733 : (Jvm.Cond.code ({ cls := "java/lang/String", name := "charAt", desc := "(I)C" } : Jvm.MethodName) prog_39_method_56_code (2 : Nat) (Option.some Jvm.ClassFile.FieldType.char)) ∈ lw_all := lw_g (lw_at lw_m3 116 rfl) rfl
theorem q734 : (Jvm.Cond.methodLink "java/lang/String" (492 : Nat) ({ cls := "java/lang/String", name := "isLatin1", desc := "()Z" } : Jvm.MethodName)) ∈ lw_all := lw_g (lw_at lw_m3 117 rfl) rfl
theorem q735 : (Jvm.Cond.instanceMethod ({ cls := "java/lang/String", name := "isLatin1", desc := "()Z" } : Jvm.MethodName)) ∈ lw_all := lw_g (lw_at lw_m3 118 rfl) rfl
theorem q736 : (Jvm.Cond.selects "java/lang/String" ({ cls := "java/lang/String", name := "isLatin1", desc := "()Z" } : Jvm.MethodName) ({ cls := "java/lang/String", name := "isLatin1", desc := "()Z" } : Jvm.MethodName)) ∈ lw_all := lw_g (lw_at lw_m3 119 rfl) rfl
theorem q737 : (Jvm.Cond.code ({ cls := "java/lang/String", name := "isLatin1", desc := "()Z" } : Jvm.MethodName) prog_39_method_154_code (1 : Nat) (Option.some Jvm.ClassFile.FieldType.boolean)) ∈ lw_all := lw_g (lw_at lw_m3 120 rfl) rfl
theorem q738 : (Jvm.Cond.methodLink "java/lang/String" (495 : Nat) ({ cls := "java/lang/StringLatin1", name := "charAt", desc := "([BI)C" } : Jvm.MethodName)) ∈ lw_all := lw_g (lw_at lw_m3 121 rfl) rfl
theorem q742 : (Jvm.Cond.static ({ cls := "java/lang/String", name := "checkIndex", desc := "(II)V" } : Jvm.MethodName)) ∈ lw_all := lw_g (lw_at lw_m3 125 rfl) rfl
theorem q743 : (Jvm.Cond.code ({ cls := "java/lang/String", name := "checkIndex", desc := "(II)V" } : Jvm.MethodName) prog_39_method_155_code (2 : Nat) (Option.none : Option Jvm.ClassFile.FieldType)) ∈ lw_all := lw_g (lw_at lw_m3 126 rfl) rfl
theorem q744 : (Jvm.Cond.fieldLink "java/lang/String" (1053 : Nat) "jdk/internal/util/Preconditions" "SIOOBE_FORMATTER" "Ljava/util/function/BiFunction;") ∈ lw_all := lw_g (lw_at lw_m3 127 rfl) rfl
theorem q746 : (Jvm.Cond.methodLink "java/lang/String" (1059 : Nat) ({ cls := "jdk/internal/util/Preconditions", name := "checkIndex", desc := "(IILjava/util/function/BiFunction;)I" } : Jvm.MethodName)) ∈ lw_all := lw_g (lw_at lw_m3 129 rfl) rfl
theorem q749 : (Jvm.Cond.methodLink "java/lang/String" (498 : Nat) ({ cls := "java/lang/StringUTF16", name := "charAt", desc := "([BI)C" } : Jvm.MethodName)) ∈ lw_all := lw_g (lw_at lw_m3 132 rfl) rfl
theorem q2654 : (Jvm.Cond.fieldLink "java/lang/String" (9 : Nat) "java/lang/String" "value" "[B") ∈ lw_all := lw_g (lw_at lw_m11 117 rfl) rfl
theorem q2655 : (Jvm.Cond.fieldLink "java/lang/String" (15 : Nat) "java/lang/String" "coder" "B") ∈ lw_all := lw_g (lw_at lw_m11 118 rfl) rfl
theorem q151 : (Jvm.Cond.initialized "java/lang/StringLatin1") ∈ lw_all := lw_g (lw_at lw_m1 14 rfl) rfl
theorem q739 : (Jvm.Cond.static ({ cls := "java/lang/StringLatin1", name := "charAt", desc := "([BI)C" } : Jvm.MethodName)) ∈ lw_all := lw_g (lw_at lw_m3 122 rfl) rfl
theorem q740 : (Jvm.Cond.code ({ cls := "java/lang/StringLatin1", name := "charAt", desc := "([BI)C" } : Jvm.MethodName) prog_40_method_2_code (2 : Nat) (Option.some Jvm.ClassFile.FieldType.char)) ∈ lw_all := lw_g (lw_at lw_m3 123 rfl) rfl
theorem q741 : (Jvm.Cond.methodLink "java/lang/StringLatin1" (9 : Nat) ({ cls := "java/lang/String", name := "checkIndex", desc := "(II)V" } : Jvm.MethodName)) ∈ lw_all := lw_g (lw_at lw_m3 124 rfl) rfl
theorem q152 : (Jvm.Cond.initialized "jdk/internal/util/Preconditions") ∈ lw_all := lw_g (lw_at lw_m1 15 rfl) rfl
theorem q745 : (Jvm.Cond.laysStatic "jdk/internal/util/Preconditions" "SIOOBE_FORMATTER" "Ljava/util/function/BiFunction;") ∈ lw_tbl := lw_at lw_m3 128 rfl
theorem q747 : (Jvm.Cond.static ({ cls := "jdk/internal/util/Preconditions", name := "checkIndex", desc := "(IILjava/util/function/BiFunction;)I" } : Jvm.MethodName)) ∈ lw_all := lw_g (lw_at lw_m3 130 rfl) rfl
theorem q748 : (Jvm.Cond.code ({ cls := "jdk/internal/util/Preconditions", name := "checkIndex", desc := "(IILjava/util/function/BiFunction;)I" } : Jvm.MethodName) prog_44_method_11_code (3 : Nat) (Option.some Jvm.ClassFile.FieldType.int)) ∈ lw_all := lw_g (lw_at lw_m3 131 rfl) rfl
theorem q153 : (Jvm.Cond.initialized "java/lang/StringUTF16") ∈ lw_all := lw_g (lw_at lw_m1 16 rfl) rfl
theorem q750 : (Jvm.Cond.static ({ cls := "java/lang/StringUTF16", name := "charAt", desc := "([BI)C" } : Jvm.MethodName)) ∈ lw_all := lw_g (lw_at lw_m3 133 rfl) rfl
theorem q751 : (Jvm.Cond.code ({ cls := "java/lang/StringUTF16", name := "charAt", desc := "([BI)C" } : Jvm.MethodName) prog_41_method_83_code (2 : Nat) (Option.some Jvm.ClassFile.FieldType.char)) ∈ lw_all := lw_g (lw_at lw_m3 134 rfl) rfl
theorem q752 : (Jvm.Cond.methodLink "java/lang/StringUTF16" (67 : Nat) ({ cls := "java/lang/StringUTF16", name := "checkIndex", desc := "(I[B)V" } : Jvm.MethodName)) ∈ lw_all := lw_g (lw_at lw_m3 135 rfl) rfl
theorem q753 : (Jvm.Cond.static ({ cls := "java/lang/StringUTF16", name := "checkIndex", desc := "(I[B)V" } : Jvm.MethodName)) ∈ lw_all := lw_g (lw_at lw_m3 136 rfl) rfl
theorem q754 : (Jvm.Cond.code ({ cls := "java/lang/StringUTF16", name := "checkIndex", desc := "(I[B)V" } : Jvm.MethodName) prog_41_method_91_code (2 : Nat) (Option.none : Option Jvm.ClassFile.FieldType)) ∈ lw_all := lw_g (lw_at lw_m3 137 rfl) rfl
theorem q755 : (Jvm.Cond.methodLink "java/lang/StringUTF16" (48 : Nat) ({ cls := "java/lang/StringUTF16", name := "length", desc := "([B)I" } : Jvm.MethodName)) ∈ lw_all := lw_g (lw_at lw_m3 138 rfl) rfl
theorem q756 : (Jvm.Cond.static ({ cls := "java/lang/StringUTF16", name := "length", desc := "([B)I" } : Jvm.MethodName)) ∈ lw_all := lw_g (lw_at lw_m3 139 rfl) rfl
theorem q757 : (Jvm.Cond.code ({ cls := "java/lang/StringUTF16", name := "length", desc := "([B)I" } : Jvm.MethodName) prog_41_method_6_code (1 : Nat) (Option.some Jvm.ClassFile.FieldType.int)) ∈ lw_all := lw_g (lw_at lw_m3 140 rfl) rfl
theorem q758 : (Jvm.Cond.methodLink "java/lang/StringUTF16" (414 : Nat) ({ cls := "java/lang/String", name := "checkIndex", desc := "(II)V" } : Jvm.MethodName)) ∈ lw_all := lw_g (lw_at lw_m3 141 rfl) rfl
theorem q759 : (Jvm.Cond.methodLink "java/lang/StringUTF16" (71 : Nat) ({ cls := "java/lang/StringUTF16", name := "getChar", desc := "([BI)C" } : Jvm.MethodName)) ∈ lw_all := lw_g (lw_at lw_m3 142 rfl) rfl
theorem q760 : (Jvm.Cond.static ({ cls := "java/lang/StringUTF16", name := "getChar", desc := "([BI)C" } : Jvm.MethodName)) ∈ lw_all := lw_g (lw_at lw_m3 143 rfl) rfl
theorem q761 : (Jvm.Cond.code ({ cls := "java/lang/StringUTF16", name := "getChar", desc := "([BI)C" } : Jvm.MethodName) prog_41_method_5_code (2 : Nat) (Option.some Jvm.ClassFile.FieldType.char)) ∈ lw_all := lw_g (lw_at lw_m3 144 rfl) rfl
theorem q762 : (Jvm.Cond.fieldLink "java/lang/StringUTF16" (44 : Nat) "java/lang/StringUTF16" "$assertionsDisabled" "Z") ∈ lw_all := lw_g (lw_at lw_m3 145 rfl) rfl
theorem q763 : (Jvm.Cond.laysStatic "java/lang/StringUTF16" "$assertionsDisabled" "Z") ∈ lw_tbl := lw_at lw_m3 146 rfl
theorem q764 : (Jvm.Cond.fieldLink "java/lang/StringUTF16" (59 : Nat) "java/lang/StringUTF16" "HI_BYTE_SHIFT" "I") ∈ lw_all := lw_g (lw_at lw_m3 147 rfl) rfl
theorem q765 : (Jvm.Cond.laysStatic "java/lang/StringUTF16" "HI_BYTE_SHIFT" "I") ∈ lw_tbl := lw_at lw_m3 148 rfl
theorem q766 : (Jvm.Cond.fieldLink "java/lang/StringUTF16" (63 : Nat) "java/lang/StringUTF16" "LO_BYTE_SHIFT" "I") ∈ lw_all := lw_g (lw_at lw_m3 149 rfl) rfl
theorem q767 : (Jvm.Cond.laysStatic "java/lang/StringUTF16" "LO_BYTE_SHIFT" "I") ∈ lw_tbl := lw_at lw_m3 150 rfl
theorem q155 : (Jvm.Cond.initialized "java/lang/Math") ∈ lw_all := lw_g (lw_at lw_m1 18 rfl) rfl
theorem q835 : (Jvm.Cond.static ({ cls := "java/lang/Math", name := "min", desc := "(II)I" } : Jvm.MethodName)) ∈ lw_all := lw_g (lw_at lw_m3 218 rfl) rfl
theorem q836 : (Jvm.Cond.code ({ cls := "java/lang/Math", name := "min", desc := "(II)I" } : Jvm.MethodName) prog_38_method_69_code (2 : Nat) (Option.some Jvm.ClassFile.FieldType.int)) ∈ lw_all := lw_g (lw_at lw_m3 219 rfl) rfl
theorem q1580 : (Jvm.Cond.static ({ cls := "java/lang/Math", name := "max", desc := "(II)I" } : Jvm.MethodName)) ∈ lw_all := lw_g (lw_at lw_m7 3 rfl) rfl
theorem q1581 : (Jvm.Cond.code ({ cls := "java/lang/Math", name := "max", desc := "(II)I" } : Jvm.MethodName) prog_38_method_65_code (2 : Nat) (Option.some Jvm.ClassFile.FieldType.int)) ∈ lw_all := lw_g (lw_at lw_m7 4 rfl) rfl
theorem q186 : (Jvm.Cond.instanceMethod ({ cls := "java/lang/Object", name := "<init>", desc := "()V" } : Jvm.MethodName)) ∈ lw_all := lw_g (lw_at lw_m1 49 rfl) rfl
theorem q187 : (Jvm.Cond.code ({ cls := "java/lang/Object", name := "<init>", desc := "()V" } : Jvm.MethodName) object_method_1_code (1 : Nat) (Option.none : Option Jvm.ClassFile.FieldType)) ∈ lw_all := lw_g (lw_at lw_m1 50 rfl) rfl
theorem q138 : (Jvm.Cond.initialized "WaysAtlas") ∈ lw_all := lw_g (lw_at lw_m1 1 rfl) rfl
theorem q181 : (Jvm.Cond.instantiable "WaysAtlas" (10 : Nat)) ∈ lw_all := lw_g (lw_at lw_m1 44 rfl) rfl
theorem q183 : (Jvm.Cond.instanceMethod ({ cls := "WaysAtlas", name := "<init>", desc := "()V" } : Jvm.MethodName)) ∈ lw_all := lw_g (lw_at lw_m1 46 rfl) rfl
theorem q184 : (Jvm.Cond.code ({ cls := "WaysAtlas", name := "<init>", desc := "()V" } : Jvm.MethodName) prog_1_method_3_code (1 : Nat) (Option.none : Option Jvm.ClassFile.FieldType)) ∈ lw_all := lw_g (lw_at lw_m1 47 rfl) rfl
theorem q185 : (Jvm.Cond.methodLink "WaysAtlas" (26 : Nat) ({ cls := "java/lang/Object", name := "<init>", desc := "()V" } : Jvm.MethodName)) ∈ lw_all := lw_g (lw_at lw_m1 48 rfl) rfl
theorem q188 : (Jvm.Cond.classLink "WaysAtlas" (31 : Nat) "WaysAtlas$Scanner") ∈ lw_all := lw_g (lw_at lw_m1 51 rfl) rfl
theorem q190 : (Jvm.Cond.methodLinkNest "WaysAtlas" (33 : Nat) ({ cls := "WaysAtlas$Scanner", name := "<init>", desc := "()V" } : Jvm.MethodName) "WaysAtlas") ∈ lw_tbl := lw_at lw_m1 53 rfl
theorem q195 : (Jvm.Cond.fieldLinkNest "WaysAtlas" (93 : Nat) "WaysAtlas$Scanner" "text" "[B" "WaysAtlas") ∈ lw_tbl := lw_at lw_m1 58 rfl
theorem q197 : (Jvm.Cond.fieldLinkNest "WaysAtlas" (90 : Nat) "WaysAtlas$Scanner" "size" "I" "WaysAtlas") ∈ lw_tbl := lw_at lw_m1 60 rfl
theorem q223 : (Jvm.Cond.classLink "WaysAtlas" (38 : Nat) "WaysAtlas$Reader") ∈ lw_all := lw_g (lw_at lw_m1 86 rfl) rfl
theorem q225 : (Jvm.Cond.methodLink "WaysAtlas" (40 : Nat) ({ cls := "WaysAtlas$Reader", name := "<init>", desc := "(LWaysAtlas$Scanner;)V" } : Jvm.MethodName)) ∈ lw_all := lw_g (lw_at lw_m1 88 rfl) rfl
theorem q271 : (Jvm.Cond.classLink "WaysAtlas" (47 : Nat) "WaysAtlas$Program") ∈ lw_all := lw_g (lw_at lw_m1 134 rfl) rfl
theorem q273 : (Jvm.Cond.methodLink "WaysAtlas" (49 : Nat) ({ cls := "WaysAtlas$Program", name := "<init>", desc := "()V" } : Jvm.MethodName)) ∈ lw_all := lw_g (lw_at lw_m1 136 rfl) rfl
theorem q284 : (Jvm.Cond.fieldLinkNest "WaysAtlas" (109 : Nat) "WaysAtlas$Program" "methods" "[LWaysAtlas$Method;" "WaysAtlas") ∈ lw_tbl := lw_at lw_m1 147 rfl
theorem q286 : (Jvm.Cond.fieldLinkNest "WaysAtlas" (102 : Nat) "WaysAtlas$Program" "many" "I" "WaysAtlas") ∈ lw_tbl := lw_at lw_m1 149 rfl
theorem q291 : (Jvm.Cond.fieldLinkNest "WaysAtlas" (145 : Nat) "WaysAtlas$Program" "kinds" "I" "WaysAtlas") ∈ lw_tbl := lw_at lw_m1 154 rfl
theorem q294 : (Jvm.Cond.fieldLinkNest "WaysAtlas" (155 : Nat) "WaysAtlas$Program" "statements" "[LWaysAtlas$Statement;" "WaysAtlas") ∈ lw_tbl := lw_at lw_m1 157 rfl
theorem q296 : (Jvm.Cond.fieldLinkNest "WaysAtlas" (144 : Nat) "WaysAtlas$Program" "size" "I" "WaysAtlas") ∈ lw_tbl := lw_at lw_m1 159 rfl
theorem q300 : (Jvm.Cond.fieldLinkNest "WaysAtlas" (260 : Nat) "WaysAtlas$Program" "handlerOf" "[LWaysAtlas$Guard;" "WaysAtlas") ∈ lw_tbl := lw_at lw_m1 163 rfl
theorem q303 : (Jvm.Cond.fieldLinkNest "WaysAtlas" (264 : Nat) "WaysAtlas$Program" "handler" "[I" "WaysAtlas") ∈ lw_tbl := lw_at lw_m1 166 rfl
theorem q304 : (Jvm.Cond.fieldLinkNest "WaysAtlas" (148 : Nat) "WaysAtlas$Program" "handlers" "I" "WaysAtlas") ∈ lw_tbl := lw_at lw_m1 167 rfl
theorem q307 : (Jvm.Cond.fieldLinkNest "WaysAtlas" (139 : Nat) "WaysAtlas$Program" "code" "LWaysAtlas$Lower;" "WaysAtlas") ∈ lw_tbl := lw_at lw_m1 170 rfl
theorem q329 : (Jvm.Cond.classLink "WaysAtlas" (54 : Nat) "WaysAtlas$Plan") ∈ lw_all := lw_g (lw_at lw_m1 192 rfl) rfl
theorem q331 : (Jvm.Cond.methodLinkNest "WaysAtlas" (56 : Nat) ({ cls := "WaysAtlas$Plan", name := "<init>", desc := "()V" } : Jvm.MethodName) "WaysAtlas") ∈ lw_tbl := lw_at lw_m1 194 rfl
theorem q336 : (Jvm.Cond.fieldLinkNest "WaysAtlas" (166 : Nat) "WaysAtlas$Plan" "part" "[I" "WaysAtlas") ∈ lw_tbl := lw_at lw_m1 199 rfl
theorem q338 : (Jvm.Cond.fieldLinkNest "WaysAtlas" (170 : Nat) "WaysAtlas$Plan" "time" "[I" "WaysAtlas") ∈ lw_tbl := lw_at lw_m1 201 rfl
theorem q340 : (Jvm.Cond.fieldLinkNest "WaysAtlas" (173 : Nat) "WaysAtlas$Plan" "kind" "[I" "WaysAtlas") ∈ lw_tbl := lw_at lw_m1 203 rfl
theorem q342 : (Jvm.Cond.fieldLinkNest "WaysAtlas" (143 : Nat) "WaysAtlas$Plan" "many" "I" "WaysAtlas") ∈ lw_tbl := lw_at lw_m1 205 rfl
theorem q352 : (Jvm.Cond.methodLink "WaysAtlas" (64 : Nat) ({ cls := "WaysAtlas", name := "renews", desc := "()V" } : Jvm.MethodName)) ∈ lw_all := lw_g (lw_at lw_m1 215 rfl) rfl
theorem q353 : (Jvm.Cond.privateMethod ({ cls := "WaysAtlas", name := "renews", desc := "()V" } : Jvm.MethodName)) ∈ lw_tbl := lw_at lw_m1 216 rfl
theorem q354 : (Jvm.Cond.instanceMethod ({ cls := "WaysAtlas", name := "renews", desc := "()V" } : Jvm.MethodName)) ∈ lw_all := lw_g (lw_at lw_m1 217 rfl) rfl
theorem q355 : (Jvm.Cond.code ({ cls := "WaysAtlas", name := "renews", desc := "()V" } : Jvm.MethodName) prog_1_method_4_code (1 : Nat) (Option.none : Option Jvm.ClassFile.FieldType)) ∈ lw_all := lw_g (lw_at lw_m1 218 rfl) rfl
theorem q356 : (Jvm.Cond.classLink "WaysAtlas" (4 : Nat) "WaysAtlas$Run") ∈ lw_all := lw_g (lw_at lw_m1 219 rfl) rfl
theorem q358 : (Jvm.Cond.methodLink "WaysAtlas" (71 : Nat) ({ cls := "WaysAtlas$Run", name := "<init>", desc := "(LWaysAtlas$Plan;)V" } : Jvm.MethodName)) ∈ lw_all := lw_g (lw_at lw_m1 221 rfl) rfl
theorem q472 : (Jvm.Cond.fieldLinkNest "WaysAtlas" (15 : Nat) "WaysAtlas$Frame" "at" "I" "WaysAtlas") ∈ lw_tbl := lw_at lw_m2 95 rfl
theorem q498 : (Jvm.Cond.fieldLinkNest "WaysAtlas" (175 : Nat) "WaysAtlas$Run" "program" "LWaysAtlas$Program;" "WaysAtlas") ∈ lw_tbl := lw_at lw_m2 121 rfl
theorem q500 : (Jvm.Cond.fieldLinkNest "WaysAtlas" (176 : Nat) "WaysAtlas$Run" "plan" "LWaysAtlas$Plan;" "WaysAtlas") ∈ lw_tbl := lw_at lw_m2 123 rfl
theorem q505 : (Jvm.Cond.fieldLinkNest "WaysAtlas" (219 : Nat) "WaysAtlas$Run" "deepest" "I" "WaysAtlas") ∈ lw_tbl := lw_at lw_m2 128 rfl
theorem q507 : (Jvm.Cond.fieldLinkNest "WaysAtlas" (222 : Nat) "WaysAtlas$Run" "steps" "I" "WaysAtlas") ∈ lw_tbl := lw_at lw_m2 130 rfl
theorem q510 : (Jvm.Cond.fieldLinkNest "WaysAtlas" (225 : Nat) "WaysAtlas$Run" "tape" "[I" "WaysAtlas") ∈ lw_tbl := lw_at lw_m2 133 rfl
theorem q512 : (Jvm.Cond.fieldLinkNest "WaysAtlas" (204 : Nat) "WaysAtlas$Run" "marks" "I" "WaysAtlas") ∈ lw_tbl := lw_at lw_m2 135 rfl
theorem q516 : (Jvm.Cond.fieldLinkNest "WaysAtlas" (232 : Nat) "WaysAtlas$Run" "kind" "[I" "WaysAtlas") ∈ lw_tbl := lw_at lw_m2 139 rfl
theorem q518 : (Jvm.Cond.fieldLinkNest "WaysAtlas" (233 : Nat) "WaysAtlas$Run" "cause" "[I" "WaysAtlas") ∈ lw_tbl := lw_at lw_m2 141 rfl
theorem q520 : (Jvm.Cond.fieldLinkNest "WaysAtlas" (236 : Nat) "WaysAtlas$Run" "first" "[I" "WaysAtlas") ∈ lw_tbl := lw_at lw_m2 143 rfl
theorem q522 : (Jvm.Cond.fieldLinkNest "WaysAtlas" (239 : Nat) "WaysAtlas$Run" "next" "[I" "WaysAtlas") ∈ lw_tbl := lw_at lw_m2 145 rfl
theorem q524 : (Jvm.Cond.fieldLinkNest "WaysAtlas" (242 : Nat) "WaysAtlas$Run" "statement" "[I" "WaysAtlas") ∈ lw_tbl := lw_at lw_m2 147 rfl
theorem q526 : (Jvm.Cond.fieldLinkNest "WaysAtlas" (245 : Nat) "WaysAtlas$Run" "under" "[I" "WaysAtlas") ∈ lw_tbl := lw_at lw_m2 149 rfl
theorem q528 : (Jvm.Cond.fieldLinkNest "WaysAtlas" (248 : Nat) "WaysAtlas$Run" "trace" "[I" "WaysAtlas") ∈ lw_tbl := lw_at lw_m2 151 rfl
theorem q530 : (Jvm.Cond.fieldLinkNest "WaysAtlas" (207 : Nat) "WaysAtlas$Run" "failures" "I" "WaysAtlas") ∈ lw_tbl := lw_at lw_m2 153 rfl
theorem q532 : (Jvm.Cond.fieldLinkNest "WaysAtlas" (210 : Nat) "WaysAtlas$Run" "opened" "I" "WaysAtlas") ∈ lw_tbl := lw_at lw_m2 155 rfl
theorem q534 : (Jvm.Cond.fieldLinkNest "WaysAtlas" (251 : Nat) "WaysAtlas$Run" "closed" "[I" "WaysAtlas") ∈ lw_tbl := lw_at lw_m2 157 rfl
theorem q536 : (Jvm.Cond.fieldLinkNest "WaysAtlas" (213 : Nat) "WaysAtlas$Run" "closes" "I" "WaysAtlas") ∈ lw_tbl := lw_at lw_m2 159 rfl
theorem q540 : (Jvm.Cond.fieldLinkNest "WaysAtlas" (216 : Nat) "WaysAtlas$Run" "lost" "I" "WaysAtlas") ∈ lw_tbl := lw_at lw_m2 163 rfl
theorem q544 : (Jvm.Cond.fieldLinkNest "WaysAtlas" (257 : Nat) "WaysAtlas$Run" "entered" "[I" "WaysAtlas") ∈ lw_tbl := lw_at lw_m2 167 rfl
theorem q547 : (Jvm.Cond.fieldLinkNest "WaysAtlas" (294 : Nat) "WaysAtlas$Run" "passings" "[I" "WaysAtlas") ∈ lw_tbl := lw_at lw_m2 170 rfl
theorem q549 : (Jvm.Cond.fieldLinkNest "WaysAtlas" (291 : Nat) "WaysAtlas$Run" "passingMany" "I" "WaysAtlas") ∈ lw_tbl := lw_at lw_m2 172 rfl
theorem q561 : (Jvm.Cond.fieldLinkNest "WaysAtlas" (83 : Nat) "WaysAtlas$Run" "ended" "I" "WaysAtlas") ∈ lw_tbl := lw_at lw_m2 184 rfl
theorem q564 : (Jvm.Cond.fieldLinkNest "WaysAtlas" (198 : Nat) "WaysAtlas$Run" "given" "I" "WaysAtlas") ∈ lw_tbl := lw_at lw_m2 187 rfl
theorem q567 : (Jvm.Cond.fieldLinkNest "WaysAtlas" (201 : Nat) "WaysAtlas$Run" "failure" "I" "WaysAtlas") ∈ lw_tbl := lw_at lw_m2 190 rfl
theorem q645 : (Jvm.Cond.fieldLink "WaysAtlas" (34 : Nat) "WaysAtlas" "scanner" "LWaysAtlas$Scanner;") ∈ lw_all := lw_g (lw_at lw_m3 28 rfl) rfl
theorem q646 : (Jvm.Cond.fieldLink "WaysAtlas" (43 : Nat) "WaysAtlas" "reader" "LWaysAtlas$Reader;") ∈ lw_all := lw_g (lw_at lw_m3 29 rfl) rfl
theorem q647 : (Jvm.Cond.fieldLink "WaysAtlas" (50 : Nat) "WaysAtlas" "program" "LWaysAtlas$Program;") ∈ lw_all := lw_g (lw_at lw_m3 30 rfl) rfl
theorem q648 : (Jvm.Cond.fieldLink "WaysAtlas" (117 : Nat) "WaysAtlas" "fault" "I") ∈ lw_all := lw_g (lw_at lw_m3 31 rfl) rfl
theorem q649 : (Jvm.Cond.fieldLink "WaysAtlas" (57 : Nat) "WaysAtlas" "plan" "LWaysAtlas$Plan;") ∈ lw_all := lw_g (lw_at lw_m3 32 rfl) rfl
theorem q650 : (Jvm.Cond.fieldLink "WaysAtlas" (61 : Nat) "WaysAtlas" "quiet" "LWaysAtlas$Plan;") ∈ lw_all := lw_g (lw_at lw_m3 33 rfl) rfl
theorem q651 : (Jvm.Cond.fieldLink "WaysAtlas" (67 : Nat) "WaysAtlas" "byCode" "LWaysAtlas$Run;") ∈ lw_all := lw_g (lw_at lw_m3 34 rfl) rfl
theorem q652 : (Jvm.Cond.fieldLink "WaysAtlas" (74 : Nat) "WaysAtlas" "byTree" "LWaysAtlas$Run;") ∈ lw_all := lw_g (lw_at lw_m3 35 rfl) rfl
theorem q653 : (Jvm.Cond.fieldLink "WaysAtlas" (77 : Nat) "WaysAtlas" "beside" "LWaysAtlas$Run;") ∈ lw_all := lw_g (lw_at lw_m3 36 rfl) rfl
theorem q654 : (Jvm.Cond.fieldLink "WaysAtlas" (80 : Nat) "WaysAtlas" "other" "LWaysAtlas$Run;") ∈ lw_all := lw_g (lw_at lw_m3 37 rfl) rfl
theorem q655 : (Jvm.Cond.laysFinal "WaysAtlas" "WaysAtlas" "scanner" "LWaysAtlas$Scanner;") ∈ lw_all := lw_g (lw_at lw_m3 38 rfl) rfl
theorem q656 : (Jvm.Cond.soleField "WaysAtlas" "scanner") ∈ lw_all := lw_g (lw_at lw_m3 39 rfl) rfl
theorem q657 : (Jvm.Cond.laysFinal "WaysAtlas" "WaysAtlas" "reader" "LWaysAtlas$Reader;") ∈ lw_all := lw_g (lw_at lw_m3 40 rfl) rfl
theorem q658 : (Jvm.Cond.soleField "WaysAtlas" "reader") ∈ lw_all := lw_g (lw_at lw_m3 41 rfl) rfl
theorem q659 : (Jvm.Cond.lays "WaysAtlas" "WaysAtlas" "program" "LWaysAtlas$Program;") ∈ lw_all := lw_g (lw_at lw_m3 42 rfl) rfl
theorem q660 : (Jvm.Cond.soleField "WaysAtlas" "program") ∈ lw_all := lw_g (lw_at lw_m3 43 rfl) rfl
theorem q661 : (Jvm.Cond.lays "WaysAtlas" "WaysAtlas" "fault" "I") ∈ lw_all := lw_g (lw_at lw_m3 44 rfl) rfl
theorem q662 : (Jvm.Cond.soleField "WaysAtlas" "fault") ∈ lw_all := lw_g (lw_at lw_m3 45 rfl) rfl
theorem q663 : (Jvm.Cond.lays "WaysAtlas" "WaysAtlas" "plan" "LWaysAtlas$Plan;") ∈ lw_all := lw_g (lw_at lw_m3 46 rfl) rfl
theorem q664 : (Jvm.Cond.soleField "WaysAtlas" "plan") ∈ lw_all := lw_g (lw_at lw_m3 47 rfl) rfl
theorem q665 : (Jvm.Cond.laysFinal "WaysAtlas" "WaysAtlas" "quiet" "LWaysAtlas$Plan;") ∈ lw_all := lw_g (lw_at lw_m3 48 rfl) rfl
theorem q666 : (Jvm.Cond.soleField "WaysAtlas" "quiet") ∈ lw_all := lw_g (lw_at lw_m3 49 rfl) rfl
theorem q667 : (Jvm.Cond.lays "WaysAtlas" "WaysAtlas" "byCode" "LWaysAtlas$Run;") ∈ lw_all := lw_g (lw_at lw_m3 50 rfl) rfl
theorem q668 : (Jvm.Cond.soleField "WaysAtlas" "byCode") ∈ lw_all := lw_g (lw_at lw_m3 51 rfl) rfl
theorem q669 : (Jvm.Cond.lays "WaysAtlas" "WaysAtlas" "byTree" "LWaysAtlas$Run;") ∈ lw_all := lw_g (lw_at lw_m3 52 rfl) rfl
theorem q670 : (Jvm.Cond.soleField "WaysAtlas" "byTree") ∈ lw_all := lw_g (lw_at lw_m3 53 rfl) rfl
theorem q671 : (Jvm.Cond.lays "WaysAtlas" "WaysAtlas" "beside" "LWaysAtlas$Run;") ∈ lw_all := lw_g (lw_at lw_m3 54 rfl) rfl
theorem q672 : (Jvm.Cond.soleField "WaysAtlas" "beside") ∈ lw_all := lw_g (lw_at lw_m3 55 rfl) rfl
theorem q673 : (Jvm.Cond.lays "WaysAtlas" "WaysAtlas" "other" "LWaysAtlas$Run;") ∈ lw_all := lw_g (lw_at lw_m3 56 rfl) rfl
theorem q674 : (Jvm.Cond.soleField "WaysAtlas" "other") ∈ lw_all := lw_g (lw_at lw_m3 57 rfl) rfl
theorem q675 : (Jvm.Cond.superclass "WaysAtlas" "java/lang/Object") ∈ lw_all := lw_g (lw_at lw_m3 58 rfl) rfl
theorem q677 : (Jvm.Cond.instanceMethod ({ cls := "WaysAtlas", name := "say", desc := "(JI)I" } : Jvm.MethodName)) ∈ lw_all := lw_g (lw_at lw_m3 60 rfl) rfl
theorem q678 : (Jvm.Cond.selects "WaysAtlas" ({ cls := "WaysAtlas", name := "say", desc := "(JI)I" } : Jvm.MethodName) ({ cls := "WaysAtlas", name := "say", desc := "(JI)I" } : Jvm.MethodName)) ∈ lw_all := lw_g (lw_at lw_m3 61 rfl) rfl
theorem q679 : (Jvm.Cond.code ({ cls := "WaysAtlas", name := "say", desc := "(JI)I" } : Jvm.MethodName) prog_1_method_5_code (5 : Nat) (Option.some Jvm.ClassFile.FieldType.int)) ∈ lw_all := lw_g (lw_at lw_m3 62 rfl) rfl
theorem q680 : (Jvm.Cond.methodLink "WaysAtlas" (86 : Nat) ({ cls := "WaysAtlas", name := "isIn", desc := "(III)Z" } : Jvm.MethodName)) ∈ lw_all := lw_g (lw_at lw_m3 63 rfl) rfl
theorem q681 : (Jvm.Cond.static ({ cls := "WaysAtlas", name := "isIn", desc := "(III)Z" } : Jvm.MethodName)) ∈ lw_all := lw_g (lw_at lw_m3 64 rfl) rfl
theorem q682 : (Jvm.Cond.code ({ cls := "WaysAtlas", name := "isIn", desc := "(III)Z" } : Jvm.MethodName) prog_1_method_1_code (3 : Nat) (Option.some Jvm.ClassFile.FieldType.boolean)) ∈ lw_all := lw_g (lw_at lw_m3 65 rfl) rfl
theorem q684 : (Jvm.Cond.instanceMethod ({ cls := "WaysAtlas", name := "compile", desc := "(Z)I" } : Jvm.MethodName)) ∈ lw_all := lw_g (lw_at lw_m3 67 rfl) rfl
theorem q685 : (Jvm.Cond.selects "WaysAtlas" ({ cls := "WaysAtlas", name := "compile", desc := "(Z)I" } : Jvm.MethodName) ({ cls := "WaysAtlas", name := "compile", desc := "(Z)I" } : Jvm.MethodName)) ∈ lw_all := lw_g (lw_at lw_m3 68 rfl) rfl
theorem q686 : (Jvm.Cond.codeWith ({ cls := "WaysAtlas", name := "compile", desc := "(Z)I" } : Jvm.MethodName) prog_1_method_7_code (4 : Nat) (Option.some Jvm.ClassFile.FieldType.int) [((12 : Nat), (20 : Nat), (23 : Nat), (127 : Nat))]) ∈ lw_all := lw_g (lw_at lw_m3 69 rfl) rfl
theorem q687 : (Jvm.Cond.classLink "WaysAtlas" (127 : Nat) "WaysAtlas$Fault") ∈ lw_all := lw_g (lw_at lw_m3 70 rfl) rfl
theorem q688 : (Jvm.Cond.methodLink "WaysAtlas" (120 : Nat) ({ cls := "WaysAtlas$Scanner", name := "cut", desc := "()V" } : Jvm.MethodName)) ∈ lw_all := lw_g (lw_at lw_m3 71 rfl) rfl
theorem q715 : (Jvm.Cond.laysStatic "WaysAtlas" "WORDS" "[Ljava/lang/String;") ∈ lw_tbl := lw_at lw_m3 98 rfl
theorem q768 : (Jvm.Cond.methodLink "WaysAtlas" (123 : Nat) ({ cls := "WaysAtlas$Reader", name := "read", desc := "()LWaysAtlas$Program;" } : Jvm.MethodName)) ∈ lw_all := lw_g (lw_at lw_m3 151 rfl) rfl
theorem q805 : (Jvm.Cond.fieldLinkNest "WaysAtlas" (129 : Nat) "WaysAtlas$Fault" "kind" "I" "WaysAtlas") ∈ lw_tbl := lw_at lw_m3 188 rfl
theorem q807 : (Jvm.Cond.fieldLinkNest "WaysAtlas" (132 : Nat) "WaysAtlas$Fault" "place" "I" "WaysAtlas") ∈ lw_tbl := lw_at lw_m3 190 rfl
theorem q972 : (Jvm.Cond.fieldLink "WaysAtlas" (9 : Nat) "WaysAtlas$Statement" "number" "I") ∈ lw_all := lw_g (lw_at lw_m4 115 rfl) rfl
theorem q989 : (Jvm.Cond.fieldLink "WaysAtlas" (267 : Nat) "WaysAtlas$Guard" "number" "I") ∈ lw_all := lw_g (lw_at lw_m4 132 rfl) rfl
theorem q1197 : (Jvm.Cond.fieldLinkNest "WaysAtlas" (270 : Nat) "WaysAtlas$Guard" "kinds" "[I" "WaysAtlas") ∈ lw_tbl := lw_at lw_m5 100 rfl
theorem q1233 : (Jvm.Cond.methodLink "WaysAtlas" (135 : Nat) ({ cls := "WaysAtlas", name := "lowered", desc := "(LWaysAtlas$Program;Z)LWaysAtlas$Lower;" } : Jvm.MethodName)) ∈ lw_all := lw_g (lw_at lw_m5 136 rfl) rfl
theorem q1234 : (Jvm.Cond.static ({ cls := "WaysAtlas", name := "lowered", desc := "(LWaysAtlas$Program;Z)LWaysAtlas$Lower;" } : Jvm.MethodName)) ∈ lw_all := lw_g (lw_at lw_m5 137 rfl) rfl
theorem q1235 : (Jvm.Cond.code ({ cls := "WaysAtlas", name := "lowered", desc := "(LWaysAtlas$Program;Z)LWaysAtlas$Lower;" } : Jvm.MethodName) prog_1_method_6_code (4 : Nat) (Option.some (Jvm.ClassFile.FieldType.object "WaysAtlas$Lower"))) ∈ lw_all := lw_g (lw_at lw_m5 138 rfl) rfl
theorem q1236 : (Jvm.Cond.classLink "WaysAtlas" (97 : Nat) "WaysAtlas$Lower") ∈ lw_all := lw_g (lw_at lw_m5 139 rfl) rfl
theorem q1238 : (Jvm.Cond.methodLink "WaysAtlas" (99 : Nat) ({ cls := "WaysAtlas$Lower", name := "<init>", desc := "(Z)V" } : Jvm.MethodName)) ∈ lw_all := lw_g (lw_at lw_m5 141 rfl) rfl
theorem q1266 : (Jvm.Cond.methodLink "WaysAtlas" (105 : Nat) ({ cls := "WaysAtlas$Lower", name := "isTooLong", desc := "()Z" } : Jvm.MethodName)) ∈ lw_all := lw_g (lw_at lw_m5 169 rfl) rfl
theorem q1270 : (Jvm.Cond.methodLink "WaysAtlas" (113 : Nat) ({ cls := "WaysAtlas$Lower", name := "method", desc := "(LWaysAtlas$Method;)V" } : Jvm.MethodName)) ∈ lw_all := lw_g (lw_at lw_m5 173 rfl) rfl
theorem q1482 : (Jvm.Cond.instanceMethod ({ cls := "WaysAtlas", name := "fault", desc := "()I" } : Jvm.MethodName)) ∈ lw_all := lw_g (lw_at lw_m6 145 rfl) rfl
theorem q1483 : (Jvm.Cond.selects "WaysAtlas" ({ cls := "WaysAtlas", name := "fault", desc := "()I" } : Jvm.MethodName) ({ cls := "WaysAtlas", name := "fault", desc := "()I" } : Jvm.MethodName)) ∈ lw_all := lw_g (lw_at lw_m6 146 rfl) rfl
theorem q1484 : (Jvm.Cond.code ({ cls := "WaysAtlas", name := "fault", desc := "()I" } : Jvm.MethodName) prog_1_method_8_code (1 : Nat) (Option.some Jvm.ClassFile.FieldType.int)) ∈ lw_all := lw_g (lw_at lw_m6 147 rfl) rfl
theorem q1486 : (Jvm.Cond.instanceMethod ({ cls := "WaysAtlas", name := "count", desc := "(I)I" } : Jvm.MethodName)) ∈ lw_all := lw_g (lw_at lw_m6 149 rfl) rfl
theorem q1487 : (Jvm.Cond.selects "WaysAtlas" ({ cls := "WaysAtlas", name := "count", desc := "(I)I" } : Jvm.MethodName) ({ cls := "WaysAtlas", name := "count", desc := "(I)I" } : Jvm.MethodName)) ∈ lw_all := lw_g (lw_at lw_m6 150 rfl) rfl
theorem q1488 : (Jvm.Cond.code ({ cls := "WaysAtlas", name := "count", desc := "(I)I" } : Jvm.MethodName) prog_1_method_9_code (2 : Nat) (Option.some Jvm.ClassFile.FieldType.int)) ∈ lw_all := lw_g (lw_at lw_m6 151 rfl) rfl
theorem q1490 : (Jvm.Cond.instanceMethod ({ cls := "WaysAtlas", name := "plan", desc := "(IIII)I" } : Jvm.MethodName)) ∈ lw_all := lw_g (lw_at lw_m6 153 rfl) rfl
theorem q1491 : (Jvm.Cond.selects "WaysAtlas" ({ cls := "WaysAtlas", name := "plan", desc := "(IIII)I" } : Jvm.MethodName) ({ cls := "WaysAtlas", name := "plan", desc := "(IIII)I" } : Jvm.MethodName)) ∈ lw_all := lw_g (lw_at lw_m6 154 rfl) rfl
theorem q1492 : (Jvm.Cond.code ({ cls := "WaysAtlas", name := "plan", desc := "(IIII)I" } : Jvm.MethodName) prog_1_method_11_code (6 : Nat) (Option.some Jvm.ClassFile.FieldType.int)) ∈ lw_all := lw_g (lw_at lw_m6 155 rfl) rfl
theorem q1493 : (Jvm.Cond.methodLink "WaysAtlas" (151 : Nat) ({ cls := "WaysAtlas", name := "isStatement", desc := "(I)Z" } : Jvm.MethodName)) ∈ lw_all := lw_g (lw_at lw_m6 156 rfl) rfl
theorem q1494 : (Jvm.Cond.privateMethod ({ cls := "WaysAtlas", name := "isStatement", desc := "(I)Z" } : Jvm.MethodName)) ∈ lw_tbl := lw_at lw_m6 157 rfl
theorem q1495 : (Jvm.Cond.instanceMethod ({ cls := "WaysAtlas", name := "isStatement", desc := "(I)Z" } : Jvm.MethodName)) ∈ lw_all := lw_g (lw_at lw_m6 158 rfl) rfl
theorem q1496 : (Jvm.Cond.code ({ cls := "WaysAtlas", name := "isStatement", desc := "(I)Z" } : Jvm.MethodName) prog_1_method_10_code (2 : Nat) (Option.some Jvm.ClassFile.FieldType.boolean)) ∈ lw_all := lw_g (lw_at lw_m6 159 rfl) rfl
theorem q1497 : (Jvm.Cond.methodLink "WaysAtlas" (159 : Nat) ({ cls := "WaysAtlas$Statement", name := "isMark", desc := "()Z" } : Jvm.MethodName)) ∈ lw_all := lw_g (lw_at lw_m6 160 rfl) rfl
theorem q1516 : (Jvm.Cond.methodLink "WaysAtlas" (162 : Nat) ({ cls := "WaysAtlas$Statement", name := "resources", desc := "()I" } : Jvm.MethodName)) ∈ lw_all := lw_g (lw_at lw_m6 179 rfl) rfl
theorem q1534 : (Jvm.Cond.instanceMethod ({ cls := "WaysAtlas", name := "clear", desc := "()I" } : Jvm.MethodName)) ∈ lw_all := lw_g (lw_at lw_m6 197 rfl) rfl
theorem q1535 : (Jvm.Cond.selects "WaysAtlas" ({ cls := "WaysAtlas", name := "clear", desc := "()I" } : Jvm.MethodName) ({ cls := "WaysAtlas", name := "clear", desc := "()I" } : Jvm.MethodName)) ∈ lw_all := lw_g (lw_at lw_m6 198 rfl) rfl
theorem q1536 : (Jvm.Cond.code ({ cls := "WaysAtlas", name := "clear", desc := "()I" } : Jvm.MethodName) prog_1_method_12_code (2 : Nat) (Option.some Jvm.ClassFile.FieldType.int)) ∈ lw_all := lw_g (lw_at lw_m6 199 rfl) rfl
theorem q1538 : (Jvm.Cond.instanceMethod ({ cls := "WaysAtlas", name := "run", desc := "(ZIIII)I" } : Jvm.MethodName)) ∈ lw_all := lw_g (lw_at lw_m6 201 rfl) rfl
theorem q1539 : (Jvm.Cond.selects "WaysAtlas" ({ cls := "WaysAtlas", name := "run", desc := "(ZIIII)I" } : Jvm.MethodName) ({ cls := "WaysAtlas", name := "run", desc := "(ZIIII)I" } : Jvm.MethodName)) ∈ lw_all := lw_g (lw_at lw_m6 202 rfl) rfl
theorem q1540 : (Jvm.Cond.code ({ cls := "WaysAtlas", name := "run", desc := "(ZIIII)I" } : Jvm.MethodName) prog_1_method_15_code (7 : Nat) (Option.some Jvm.ClassFile.FieldType.int)) ∈ lw_all := lw_g (lw_at lw_m6 203 rfl) rfl
theorem q1541 : (Jvm.Cond.methodLink "WaysAtlas" (183 : Nat) ({ cls := "WaysAtlas", name := "isMethod", desc := "(I)Z" } : Jvm.MethodName)) ∈ lw_all := lw_g (lw_at lw_m6 204 rfl) rfl
theorem q1542 : (Jvm.Cond.privateMethod ({ cls := "WaysAtlas", name := "isMethod", desc := "(I)Z" } : Jvm.MethodName)) ∈ lw_tbl := lw_at lw_m6 205 rfl
theorem q1543 : (Jvm.Cond.instanceMethod ({ cls := "WaysAtlas", name := "isMethod", desc := "(I)Z" } : Jvm.MethodName)) ∈ lw_all := lw_g (lw_at lw_m6 206 rfl) rfl
theorem q1544 : (Jvm.Cond.code ({ cls := "WaysAtlas", name := "isMethod", desc := "(I)Z" } : Jvm.MethodName) prog_1_method_13_code (2 : Nat) (Option.some Jvm.ClassFile.FieldType.boolean)) ∈ lw_all := lw_g (lw_at lw_m6 207 rfl) rfl
theorem q1545 : (Jvm.Cond.methodLink "WaysAtlas" (186 : Nat) ({ cls := "WaysAtlas", name := "goes", desc := "(LWaysAtlas$Run;ZLWaysAtlas$Plan;IIII)V" } : Jvm.MethodName)) ∈ lw_all := lw_g (lw_at lw_m6 208 rfl) rfl
theorem q1546 : (Jvm.Cond.privateMethod ({ cls := "WaysAtlas", name := "goes", desc := "(LWaysAtlas$Run;ZLWaysAtlas$Plan;IIII)V" } : Jvm.MethodName)) ∈ lw_tbl := lw_at lw_m6 209 rfl
theorem q1547 : (Jvm.Cond.instanceMethod ({ cls := "WaysAtlas", name := "goes", desc := "(LWaysAtlas$Run;ZLWaysAtlas$Plan;IIII)V" } : Jvm.MethodName)) ∈ lw_all := lw_g (lw_at lw_m6 210 rfl) rfl
theorem q1548 : (Jvm.Cond.code ({ cls := "WaysAtlas", name := "goes", desc := "(LWaysAtlas$Run;ZLWaysAtlas$Plan;IIII)V" } : Jvm.MethodName) prog_1_method_14_code (8 : Nat) (Option.none : Option Jvm.ClassFile.FieldType)) ∈ lw_all := lw_g (lw_at lw_m6 211 rfl) rfl
theorem q1549 : (Jvm.Cond.methodLink "WaysAtlas" (177 : Nat) ({ cls := "WaysAtlas$Program", name := "walk", desc := "(LWaysAtlas$Run;IIII)V" } : Jvm.MethodName)) ∈ lw_all := lw_g (lw_at lw_m6 212 rfl) rfl
theorem q1591 : (Jvm.Cond.static ({ cls := "WaysAtlas", name := "walks", desc := "([LWaysAtlas$Statement;LWaysAtlas$Run;LWaysAtlas$Frame;)I" } : Jvm.MethodName)) ∈ lw_all := lw_g (lw_at lw_m7 14 rfl) rfl
theorem q1592 : (Jvm.Cond.code ({ cls := "WaysAtlas", name := "walks", desc := "([LWaysAtlas$Statement;LWaysAtlas$Run;LWaysAtlas$Frame;)I" } : Jvm.MethodName) prog_1_method_2_code (6 : Nat) (Option.some Jvm.ClassFile.FieldType.int)) ∈ lw_all := lw_g (lw_at lw_m7 15 rfl) rfl
theorem q1593 : (Jvm.Cond.methodLink "WaysAtlas" (3 : Nat) ({ cls := "WaysAtlas$Run", name := "step", desc := "()V" } : Jvm.MethodName)) ∈ lw_all := lw_g (lw_at lw_m7 16 rfl) rfl
theorem q1597 : (Jvm.Cond.interfaceEntry "WaysAtlas" (20 : Nat)) ∈ lw_tbl := lw_at lw_m7 20 rfl
theorem q1598 : (Jvm.Cond.methodLink "WaysAtlas" (20 : Nat) ({ cls := "WaysAtlas$Walked", name := "walk", desc := "(LWaysAtlas$Run;LWaysAtlas$Frame;)I" } : Jvm.MethodName)) ∈ lw_all := lw_g (lw_at lw_m7 21 rfl) rfl
theorem q1779 : (Jvm.Cond.methodLink "WaysAtlas" (180 : Nat) ({ cls := "WaysAtlas$Program", name := "run", desc := "(LWaysAtlas$Run;IIII)V" } : Jvm.MethodName)) ∈ lw_all := lw_g (lw_at lw_m7 202 rfl) rfl
theorem q1824 : (Jvm.Cond.instanceMethod ({ cls := "WaysAtlas", name := "ran", desc := "(II)I" } : Jvm.MethodName)) ∈ lw_all := lw_g (lw_at lw_m8 7 rfl) rfl
theorem q1825 : (Jvm.Cond.selects "WaysAtlas" ({ cls := "WaysAtlas", name := "ran", desc := "(II)I" } : Jvm.MethodName) ({ cls := "WaysAtlas", name := "ran", desc := "(II)I" } : Jvm.MethodName)) ∈ lw_all := lw_g (lw_at lw_m8 8 rfl) rfl
theorem q1826 : (Jvm.Cond.code ({ cls := "WaysAtlas", name := "ran", desc := "(II)I" } : Jvm.MethodName) prog_1_method_17_code (4 : Nat) (Option.some Jvm.ClassFile.FieldType.int)) ∈ lw_all := lw_g (lw_at lw_m8 9 rfl) rfl
theorem q1827 : (Jvm.Cond.methodLink "WaysAtlas" (190 : Nat) ({ cls := "WaysAtlas", name := "runOf", desc := "(I)LWaysAtlas$Run;" } : Jvm.MethodName)) ∈ lw_all := lw_g (lw_at lw_m8 10 rfl) rfl
theorem q1828 : (Jvm.Cond.privateMethod ({ cls := "WaysAtlas", name := "runOf", desc := "(I)LWaysAtlas$Run;" } : Jvm.MethodName)) ∈ lw_tbl := lw_at lw_m8 11 rfl
theorem q1829 : (Jvm.Cond.instanceMethod ({ cls := "WaysAtlas", name := "runOf", desc := "(I)LWaysAtlas$Run;" } : Jvm.MethodName)) ∈ lw_all := lw_g (lw_at lw_m8 12 rfl) rfl
theorem q1830 : (Jvm.Cond.code ({ cls := "WaysAtlas", name := "runOf", desc := "(I)LWaysAtlas$Run;" } : Jvm.MethodName) prog_1_method_16_code (3 : Nat) (Option.some (Jvm.ClassFile.FieldType.object "WaysAtlas$Run"))) ∈ lw_all := lw_g (lw_at lw_m8 13 rfl) rfl
theorem q1831 : (Jvm.Cond.methodLink "WaysAtlas" (194 : Nat) ({ cls := "WaysAtlas", name := "told", desc := "(LWaysAtlas$Run;I)I" } : Jvm.MethodName)) ∈ lw_all := lw_g (lw_at lw_m8 14 rfl) rfl
theorem q1832 : (Jvm.Cond.static ({ cls := "WaysAtlas", name := "told", desc := "(LWaysAtlas$Run;I)I" } : Jvm.MethodName)) ∈ lw_all := lw_g (lw_at lw_m8 15 rfl) rfl
theorem q1833 : (Jvm.Cond.code ({ cls := "WaysAtlas", name := "told", desc := "(LWaysAtlas$Run;I)I" } : Jvm.MethodName) prog_1_method_18_code (2 : Nat) (Option.some Jvm.ClassFile.FieldType.int)) ∈ lw_all := lw_g (lw_at lw_m8 16 rfl) rfl
theorem q1835 : (Jvm.Cond.instanceMethod ({ cls := "WaysAtlas", name := "mark", desc := "(II)I" } : Jvm.MethodName)) ∈ lw_all := lw_g (lw_at lw_m8 18 rfl) rfl
theorem q1836 : (Jvm.Cond.selects "WaysAtlas" ({ cls := "WaysAtlas", name := "mark", desc := "(II)I" } : Jvm.MethodName) ({ cls := "WaysAtlas", name := "mark", desc := "(II)I" } : Jvm.MethodName)) ∈ lw_all := lw_g (lw_at lw_m8 19 rfl) rfl
theorem q1837 : (Jvm.Cond.code ({ cls := "WaysAtlas", name := "mark", desc := "(II)I" } : Jvm.MethodName) prog_1_method_19_code (4 : Nat) (Option.some Jvm.ClassFile.FieldType.int)) ∈ lw_all := lw_g (lw_at lw_m8 20 rfl) rfl
theorem q1839 : (Jvm.Cond.instanceMethod ({ cls := "WaysAtlas", name := "failure", desc := "(III)I" } : Jvm.MethodName)) ∈ lw_all := lw_g (lw_at lw_m8 22 rfl) rfl
theorem q1840 : (Jvm.Cond.selects "WaysAtlas" ({ cls := "WaysAtlas", name := "failure", desc := "(III)I" } : Jvm.MethodName) ({ cls := "WaysAtlas", name := "failure", desc := "(III)I" } : Jvm.MethodName)) ∈ lw_all := lw_g (lw_at lw_m8 23 rfl) rfl
theorem q1841 : (Jvm.Cond.code ({ cls := "WaysAtlas", name := "failure", desc := "(III)I" } : Jvm.MethodName) prog_1_method_20_code (5 : Nat) (Option.some Jvm.ClassFile.FieldType.int)) ∈ lw_all := lw_g (lw_at lw_m8 24 rfl) rfl
theorem q1842 : (Jvm.Cond.methodLink "WaysAtlas" (228 : Nat) ({ cls := "WaysAtlas", name := "ofFailure", desc := "(LWaysAtlas$Run;II)I" } : Jvm.MethodName)) ∈ lw_all := lw_g (lw_at lw_m8 25 rfl) rfl
theorem q1843 : (Jvm.Cond.static ({ cls := "WaysAtlas", name := "ofFailure", desc := "(LWaysAtlas$Run;II)I" } : Jvm.MethodName)) ∈ lw_all := lw_g (lw_at lw_m8 26 rfl) rfl
theorem q1844 : (Jvm.Cond.code ({ cls := "WaysAtlas", name := "ofFailure", desc := "(LWaysAtlas$Run;II)I" } : Jvm.MethodName) prog_1_method_21_code (3 : Nat) (Option.some Jvm.ClassFile.FieldType.int)) ∈ lw_all := lw_g (lw_at lw_m8 27 rfl) rfl
theorem q1846 : (Jvm.Cond.instanceMethod ({ cls := "WaysAtlas", name := "trace", desc := "(III)I" } : Jvm.MethodName)) ∈ lw_all := lw_g (lw_at lw_m8 29 rfl) rfl
theorem q1847 : (Jvm.Cond.selects "WaysAtlas" ({ cls := "WaysAtlas", name := "trace", desc := "(III)I" } : Jvm.MethodName) ({ cls := "WaysAtlas", name := "trace", desc := "(III)I" } : Jvm.MethodName)) ∈ lw_all := lw_g (lw_at lw_m8 30 rfl) rfl
theorem q1848 : (Jvm.Cond.code ({ cls := "WaysAtlas", name := "trace", desc := "(III)I" } : Jvm.MethodName) prog_1_method_22_code (5 : Nat) (Option.some Jvm.ClassFile.FieldType.int)) ∈ lw_all := lw_g (lw_at lw_m8 31 rfl) rfl
theorem q1850 : (Jvm.Cond.instanceMethod ({ cls := "WaysAtlas", name := "closed", desc := "(II)I" } : Jvm.MethodName)) ∈ lw_all := lw_g (lw_at lw_m8 33 rfl) rfl
theorem q1851 : (Jvm.Cond.selects "WaysAtlas" ({ cls := "WaysAtlas", name := "closed", desc := "(II)I" } : Jvm.MethodName) ({ cls := "WaysAtlas", name := "closed", desc := "(II)I" } : Jvm.MethodName)) ∈ lw_all := lw_g (lw_at lw_m8 34 rfl) rfl
theorem q1852 : (Jvm.Cond.code ({ cls := "WaysAtlas", name := "closed", desc := "(II)I" } : Jvm.MethodName) prog_1_method_23_code (4 : Nat) (Option.some Jvm.ClassFile.FieldType.int)) ∈ lw_all := lw_g (lw_at lw_m8 35 rfl) rfl
theorem q1854 : (Jvm.Cond.instanceMethod ({ cls := "WaysAtlas", name := "entered", desc := "(II)I" } : Jvm.MethodName)) ∈ lw_all := lw_g (lw_at lw_m8 37 rfl) rfl
theorem q1855 : (Jvm.Cond.selects "WaysAtlas" ({ cls := "WaysAtlas", name := "entered", desc := "(II)I" } : Jvm.MethodName) ({ cls := "WaysAtlas", name := "entered", desc := "(II)I" } : Jvm.MethodName)) ∈ lw_all := lw_g (lw_at lw_m8 38 rfl) rfl
theorem q1856 : (Jvm.Cond.code ({ cls := "WaysAtlas", name := "entered", desc := "(II)I" } : Jvm.MethodName) prog_1_method_24_code (4 : Nat) (Option.some Jvm.ClassFile.FieldType.int)) ∈ lw_all := lw_g (lw_at lw_m8 39 rfl) rfl
theorem q1857 : (Jvm.Cond.methodLink "WaysAtlas" (254 : Nat) ({ cls := "WaysAtlas$Statement", name := "hasFinish", desc := "()Z" } : Jvm.MethodName)) ∈ lw_all := lw_g (lw_at lw_m8 40 rfl) rfl
theorem q1877 : (Jvm.Cond.instanceMethod ({ cls := "WaysAtlas", name := "handler", desc := "(II)I" } : Jvm.MethodName)) ∈ lw_all := lw_g (lw_at lw_m8 60 rfl) rfl
theorem q1878 : (Jvm.Cond.selects "WaysAtlas" ({ cls := "WaysAtlas", name := "handler", desc := "(II)I" } : Jvm.MethodName) ({ cls := "WaysAtlas", name := "handler", desc := "(II)I" } : Jvm.MethodName)) ∈ lw_all := lw_g (lw_at lw_m8 61 rfl) rfl
theorem q1879 : (Jvm.Cond.code ({ cls := "WaysAtlas", name := "handler", desc := "(II)I" } : Jvm.MethodName) prog_1_method_25_code (7 : Nat) (Option.some Jvm.ClassFile.FieldType.int)) ∈ lw_all := lw_g (lw_at lw_m8 62 rfl) rfl
theorem q1880 : (Jvm.Cond.methodLink "WaysAtlas" (272 : Nat) ({ cls := "WaysAtlas$Program", name := "isUnder", desc := "(II)Z" } : Jvm.MethodName)) ∈ lw_all := lw_g (lw_at lw_m8 63 rfl) rfl
theorem q1882 : (Jvm.Cond.instanceMethod ({ cls := "WaysAtlas", name := "ways", desc := "(III)I" } : Jvm.MethodName)) ∈ lw_all := lw_g (lw_at lw_m8 65 rfl) rfl
theorem q1883 : (Jvm.Cond.selects "WaysAtlas" ({ cls := "WaysAtlas", name := "ways", desc := "(III)I" } : Jvm.MethodName) ({ cls := "WaysAtlas", name := "ways", desc := "(III)I" } : Jvm.MethodName)) ∈ lw_all := lw_g (lw_at lw_m8 66 rfl) rfl
theorem q1884 : (Jvm.Cond.code ({ cls := "WaysAtlas", name := "ways", desc := "(III)I" } : Jvm.MethodName) prog_1_method_29_code (8 : Nat) (Option.some Jvm.ClassFile.FieldType.int)) ∈ lw_all := lw_g (lw_at lw_m8 67 rfl) rfl
theorem q1885 : (Jvm.Cond.methodLink "WaysAtlas" (287 : Nat) ({ cls := "WaysAtlas", name := "adds", desc := "([IILWaysAtlas$Run;)I" } : Jvm.MethodName)) ∈ lw_all := lw_g (lw_at lw_m8 68 rfl) rfl
theorem q1886 : (Jvm.Cond.static ({ cls := "WaysAtlas", name := "adds", desc := "([IILWaysAtlas$Run;)I" } : Jvm.MethodName)) ∈ lw_all := lw_g (lw_at lw_m8 69 rfl) rfl
theorem q1887 : (Jvm.Cond.code ({ cls := "WaysAtlas", name := "adds", desc := "([IILWaysAtlas$Run;)I" } : Jvm.MethodName) prog_1_method_28_code (3 : Nat) (Option.some Jvm.ClassFile.FieldType.int)) ∈ lw_all := lw_g (lw_at lw_m8 70 rfl) rfl
theorem q1888 : (Jvm.Cond.methodLink "WaysAtlas" (283 : Nat) ({ cls := "WaysAtlas", name := "isThere", desc := "([IILWaysAtlas$Run;)Z" } : Jvm.MethodName)) ∈ lw_all := lw_g (lw_at lw_m8 71 rfl) rfl
theorem q1889 : (Jvm.Cond.static ({ cls := "WaysAtlas", name := "isThere", desc := "([IILWaysAtlas$Run;)Z" } : Jvm.MethodName)) ∈ lw_all := lw_g (lw_at lw_m8 72 rfl) rfl
theorem q1890 : (Jvm.Cond.code ({ cls := "WaysAtlas", name := "isThere", desc := "([IILWaysAtlas$Run;)Z" } : Jvm.MethodName) prog_1_method_26_code (4 : Nat) (Option.some Jvm.ClassFile.FieldType.boolean)) ∈ lw_all := lw_g (lw_at lw_m8 73 rfl) rfl
theorem q1891 : (Jvm.Cond.methodLink "WaysAtlas" (276 : Nat) ({ cls := "WaysAtlas", name := "kindOf", desc := "(LWaysAtlas$Run;)I" } : Jvm.MethodName)) ∈ lw_all := lw_g (lw_at lw_m8 74 rfl) rfl
theorem q1892 : (Jvm.Cond.static ({ cls := "WaysAtlas", name := "kindOf", desc := "(LWaysAtlas$Run;)I" } : Jvm.MethodName)) ∈ lw_all := lw_g (lw_at lw_m8 75 rfl) rfl
theorem q1893 : (Jvm.Cond.code ({ cls := "WaysAtlas", name := "kindOf", desc := "(LWaysAtlas$Run;)I" } : Jvm.MethodName) prog_1_method_27_code (1 : Nat) (Option.some Jvm.ClassFile.FieldType.int)) ∈ lw_all := lw_g (lw_at lw_m8 76 rfl) rfl
theorem q1894 : (Jvm.Cond.methodLink "WaysAtlas" (280 : Nat) ({ cls := "WaysAtlas$Run", name := "lastMark", desc := "()I" } : Jvm.MethodName)) ∈ lw_all := lw_g (lw_at lw_m8 77 rfl) rfl
theorem q1899 : (Jvm.Cond.instanceMethod ({ cls := "WaysAtlas", name := "same", desc := "(III)I" } : Jvm.MethodName)) ∈ lw_all := lw_g (lw_at lw_m8 82 rfl) rfl
theorem q1900 : (Jvm.Cond.selects "WaysAtlas" ({ cls := "WaysAtlas", name := "same", desc := "(III)I" } : Jvm.MethodName) ({ cls := "WaysAtlas", name := "same", desc := "(III)I" } : Jvm.MethodName)) ∈ lw_all := lw_g (lw_at lw_m8 83 rfl) rfl
theorem q1901 : (Jvm.Cond.code ({ cls := "WaysAtlas", name := "same", desc := "(III)I" } : Jvm.MethodName) prog_1_method_30_code (7 : Nat) (Option.some Jvm.ClassFile.FieldType.int)) ∈ lw_all := lw_g (lw_at lw_m8 84 rfl) rfl
theorem q2656 : (Jvm.Cond.stringRef "WaysAtlas" (299 : Nat) "kind") ∈ lw_tbl := lw_at lw_m11 119 rfl
theorem q2657 : (Jvm.Cond.stringRef "WaysAtlas" (300 : Nat) "under") ∈ lw_tbl := lw_at lw_m11 120 rfl
theorem q2658 : (Jvm.Cond.stringRef "WaysAtlas" (301 : Nat) "method") ∈ lw_tbl := lw_at lw_m11 121 rfl
theorem q2659 : (Jvm.Cond.stringRef "WaysAtlas" (302 : Nat) "mark") ∈ lw_tbl := lw_at lw_m11 122 rfl
theorem q2660 : (Jvm.Cond.stringRef "WaysAtlas" (304 : Nat) "call") ∈ lw_tbl := lw_at lw_m11 123 rfl
theorem q2661 : (Jvm.Cond.stringRef "WaysAtlas" (306 : Nat) "row") ∈ lw_tbl := lw_at lw_m11 124 rfl
theorem q2662 : (Jvm.Cond.stringRef "WaysAtlas" (308 : Nat) "none") ∈ lw_tbl := lw_at lw_m11 125 rfl
theorem q2663 : (Jvm.Cond.stringRef "WaysAtlas" (310 : Nat) "return") ∈ lw_tbl := lw_at lw_m11 126 rfl
theorem q2664 : (Jvm.Cond.stringRef "WaysAtlas" (312 : Nat) "if") ∈ lw_tbl := lw_at lw_m11 127 rfl
theorem q2665 : (Jvm.Cond.stringRef "WaysAtlas" (314 : Nat) "else") ∈ lw_tbl := lw_at lw_m11 128 rfl
theorem q2666 : (Jvm.Cond.stringRef "WaysAtlas" (316 : Nat) "loop") ∈ lw_tbl := lw_at lw_m11 129 rfl
theorem q2667 : (Jvm.Cond.stringRef "WaysAtlas" (318 : Nat) "leave") ∈ lw_tbl := lw_at lw_m11 130 rfl
theorem q2668 : (Jvm.Cond.stringRef "WaysAtlas" (320 : Nat) "next") ∈ lw_tbl := lw_at lw_m11 131 rfl
theorem q2669 : (Jvm.Cond.stringRef "WaysAtlas" (321 : Nat) "throw") ∈ lw_tbl := lw_at lw_m11 132 rfl
theorem q2670 : (Jvm.Cond.stringRef "WaysAtlas" (323 : Nat) "wrap") ∈ lw_tbl := lw_at lw_m11 133 rfl
theorem q2671 : (Jvm.Cond.stringRef "WaysAtlas" (325 : Nat) "again") ∈ lw_tbl := lw_at lw_m11 134 rfl
theorem q2672 : (Jvm.Cond.stringRef "WaysAtlas" (327 : Nat) "guard") ∈ lw_tbl := lw_at lw_m11 135 rfl
theorem q2673 : (Jvm.Cond.stringRef "WaysAtlas" (329 : Nat) "with") ∈ lw_tbl := lw_at lw_m11 136 rfl
theorem q2674 : (Jvm.Cond.stringRef "WaysAtlas" (331 : Nat) "catch") ∈ lw_tbl := lw_at lw_m11 137 rfl
theorem q2675 : (Jvm.Cond.stringRef "WaysAtlas" (333 : Nat) "finally") ∈ lw_tbl := lw_at lw_m11 138 rfl
theorem q2676 : (Jvm.Cond.stringRef "WaysAtlas" (335 : Nat) "size") ∈ lw_tbl := lw_at lw_m11 139 rfl
theorem q139 : (Jvm.Cond.initialized "WaysAtlas$Scanner") ∈ lw_all := lw_g (lw_at lw_m1 2 rfl) rfl
theorem q189 : (Jvm.Cond.instantiable "WaysAtlas$Scanner" (7 : Nat)) ∈ lw_all := lw_g (lw_at lw_m1 52 rfl) rfl
theorem q191 : (Jvm.Cond.instanceMethod ({ cls := "WaysAtlas$Scanner", name := "<init>", desc := "()V" } : Jvm.MethodName)) ∈ lw_all := lw_g (lw_at lw_m1 54 rfl) rfl
theorem q192 : (Jvm.Cond.code ({ cls := "WaysAtlas$Scanner", name := "<init>", desc := "()V" } : Jvm.MethodName) prog_25_method_1_code (1 : Nat) (Option.none : Option Jvm.ClassFile.FieldType)) ∈ lw_all := lw_g (lw_at lw_m1 55 rfl) rfl
theorem q193 : (Jvm.Cond.methodLink "WaysAtlas$Scanner" (3 : Nat) ({ cls := "java/lang/Object", name := "<init>", desc := "()V" } : Jvm.MethodName)) ∈ lw_all := lw_g (lw_at lw_m1 56 rfl) rfl
theorem q194 : (Jvm.Cond.fieldLink "WaysAtlas$Scanner" (9 : Nat) "WaysAtlas$Scanner" "text" "[B") ∈ lw_all := lw_g (lw_at lw_m1 57 rfl) rfl
theorem q196 : (Jvm.Cond.fieldLink "WaysAtlas$Scanner" (25 : Nat) "WaysAtlas$Scanner" "size" "I") ∈ lw_all := lw_g (lw_at lw_m1 59 rfl) rfl
theorem q198 : (Jvm.Cond.fieldLink "WaysAtlas$Scanner" (15 : Nat) "WaysAtlas$Scanner" "kinds" "[I") ∈ lw_all := lw_g (lw_at lw_m1 61 rfl) rfl
theorem q200 : (Jvm.Cond.fieldLink "WaysAtlas$Scanner" (19 : Nat) "WaysAtlas$Scanner" "places" "[I") ∈ lw_all := lw_g (lw_at lw_m1 63 rfl) rfl
theorem q202 : (Jvm.Cond.fieldLink "WaysAtlas$Scanner" (22 : Nat) "WaysAtlas$Scanner" "values" "[I") ∈ lw_all := lw_g (lw_at lw_m1 65 rfl) rfl
theorem q204 : (Jvm.Cond.fieldLink "WaysAtlas$Scanner" (29 : Nat) "WaysAtlas$Scanner" "many" "I") ∈ lw_all := lw_g (lw_at lw_m1 67 rfl) rfl
theorem q205 : (Jvm.Cond.fieldLink "WaysAtlas$Scanner" (32 : Nat) "WaysAtlas$Scanner" "at" "I") ∈ lw_all := lw_g (lw_at lw_m1 68 rfl) rfl
theorem q206 : (Jvm.Cond.laysFinal "WaysAtlas$Scanner" "WaysAtlas$Scanner" "text" "[B") ∈ lw_all := lw_g (lw_at lw_m1 69 rfl) rfl
theorem q207 : (Jvm.Cond.soleField "WaysAtlas$Scanner" "text") ∈ lw_all := lw_g (lw_at lw_m1 70 rfl) rfl
theorem q208 : (Jvm.Cond.lays "WaysAtlas$Scanner" "WaysAtlas$Scanner" "size" "I") ∈ lw_all := lw_g (lw_at lw_m1 71 rfl) rfl
theorem q209 : (Jvm.Cond.soleField "WaysAtlas$Scanner" "size") ∈ lw_all := lw_g (lw_at lw_m1 72 rfl) rfl
theorem q210 : (Jvm.Cond.laysFinal "WaysAtlas$Scanner" "WaysAtlas$Scanner" "kinds" "[I") ∈ lw_all := lw_g (lw_at lw_m1 73 rfl) rfl
theorem q211 : (Jvm.Cond.soleField "WaysAtlas$Scanner" "kinds") ∈ lw_all := lw_g (lw_at lw_m1 74 rfl) rfl
theorem q212 : (Jvm.Cond.laysFinal "WaysAtlas$Scanner" "WaysAtlas$Scanner" "places" "[I") ∈ lw_all := lw_g (lw_at lw_m1 75 rfl) rfl
theorem q213 : (Jvm.Cond.soleField "WaysAtlas$Scanner" "places") ∈ lw_all := lw_g (lw_at lw_m1 76 rfl) rfl
theorem q214 : (Jvm.Cond.laysFinal "WaysAtlas$Scanner" "WaysAtlas$Scanner" "values" "[I") ∈ lw_all := lw_g (lw_at lw_m1 77 rfl) rfl
theorem q215 : (Jvm.Cond.soleField "WaysAtlas$Scanner" "values") ∈ lw_all := lw_g (lw_at lw_m1 78 rfl) rfl
theorem q216 : (Jvm.Cond.lays "WaysAtlas$Scanner" "WaysAtlas$Scanner" "many" "I") ∈ lw_all := lw_g (lw_at lw_m1 79 rfl) rfl
theorem q217 : (Jvm.Cond.soleField "WaysAtlas$Scanner" "many") ∈ lw_all := lw_g (lw_at lw_m1 80 rfl) rfl
theorem q218 : (Jvm.Cond.lays "WaysAtlas$Scanner" "WaysAtlas$Scanner" "at" "I") ∈ lw_all := lw_g (lw_at lw_m1 81 rfl) rfl
theorem q219 : (Jvm.Cond.soleField "WaysAtlas$Scanner" "at") ∈ lw_all := lw_g (lw_at lw_m1 82 rfl) rfl
theorem q220 : (Jvm.Cond.superclass "WaysAtlas$Scanner" "java/lang/Object") ∈ lw_all := lw_g (lw_at lw_m1 83 rfl) rfl
theorem q689 : (Jvm.Cond.instanceMethod ({ cls := "WaysAtlas$Scanner", name := "cut", desc := "()V" } : Jvm.MethodName)) ∈ lw_all := lw_g (lw_at lw_m3 72 rfl) rfl
theorem q690 : (Jvm.Cond.selects "WaysAtlas$Scanner" ({ cls := "WaysAtlas$Scanner", name := "cut", desc := "()V" } : Jvm.MethodName) ({ cls := "WaysAtlas$Scanner", name := "cut", desc := "()V" } : Jvm.MethodName)) ∈ lw_all := lw_g (lw_at lw_m3 73 rfl) rfl
theorem q691 : (Jvm.Cond.code ({ cls := "WaysAtlas$Scanner", name := "cut", desc := "()V" } : Jvm.MethodName) prog_25_method_6_code (5 : Nat) (Option.none : Option Jvm.ClassFile.FieldType)) ∈ lw_all := lw_g (lw_at lw_m3 74 rfl) rfl
theorem q692 : (Jvm.Cond.methodLink "WaysAtlas$Scanner" (35 : Nat) ({ cls := "WaysAtlas$Scanner", name := "byteAt", desc := "(I)I" } : Jvm.MethodName)) ∈ lw_all := lw_g (lw_at lw_m3 75 rfl) rfl
theorem q693 : (Jvm.Cond.privateMethod ({ cls := "WaysAtlas$Scanner", name := "byteAt", desc := "(I)I" } : Jvm.MethodName)) ∈ lw_tbl := lw_at lw_m3 76 rfl
theorem q694 : (Jvm.Cond.instanceMethod ({ cls := "WaysAtlas$Scanner", name := "byteAt", desc := "(I)I" } : Jvm.MethodName)) ∈ lw_all := lw_g (lw_at lw_m3 77 rfl) rfl
theorem q695 : (Jvm.Cond.code ({ cls := "WaysAtlas$Scanner", name := "byteAt", desc := "(I)I" } : Jvm.MethodName) prog_25_method_2_code (2 : Nat) (Option.some Jvm.ClassFile.FieldType.int)) ∈ lw_all := lw_g (lw_at lw_m3 78 rfl) rfl
theorem q696 : (Jvm.Cond.methodLink "WaysAtlas$Scanner" (39 : Nat) ({ cls := "WaysAtlas$Scanner", name := "add", desc := "(III)V" } : Jvm.MethodName)) ∈ lw_all := lw_g (lw_at lw_m3 79 rfl) rfl
theorem q697 : (Jvm.Cond.privateMethod ({ cls := "WaysAtlas$Scanner", name := "add", desc := "(III)V" } : Jvm.MethodName)) ∈ lw_tbl := lw_at lw_m3 80 rfl
theorem q698 : (Jvm.Cond.instanceMethod ({ cls := "WaysAtlas$Scanner", name := "add", desc := "(III)V" } : Jvm.MethodName)) ∈ lw_all := lw_g (lw_at lw_m3 81 rfl) rfl
theorem q699 : (Jvm.Cond.code ({ cls := "WaysAtlas$Scanner", name := "add", desc := "(III)V" } : Jvm.MethodName) prog_25_method_5_code (4 : Nat) (Option.none : Option Jvm.ClassFile.FieldType)) ∈ lw_all := lw_g (lw_at lw_m3 82 rfl) rfl
theorem q700 : (Jvm.Cond.methodLink "WaysAtlas$Scanner" (43 : Nat) ({ cls := "WaysAtlas$Scanner", name := "isLetter", desc := "(I)Z" } : Jvm.MethodName)) ∈ lw_all := lw_g (lw_at lw_m3 83 rfl) rfl
theorem q701 : (Jvm.Cond.static ({ cls := "WaysAtlas$Scanner", name := "isLetter", desc := "(I)Z" } : Jvm.MethodName)) ∈ lw_all := lw_g (lw_at lw_m3 84 rfl) rfl
theorem q702 : (Jvm.Cond.code ({ cls := "WaysAtlas$Scanner", name := "isLetter", desc := "(I)Z" } : Jvm.MethodName) prog_25_method_3_code (1 : Nat) (Option.some Jvm.ClassFile.FieldType.boolean)) ∈ lw_all := lw_g (lw_at lw_m3 85 rfl) rfl
theorem q703 : (Jvm.Cond.methodLink "WaysAtlas$Scanner" (47 : Nat) ({ cls := "WaysAtlas$Scanner", name := "word", desc := "()V" } : Jvm.MethodName)) ∈ lw_all := lw_g (lw_at lw_m3 86 rfl) rfl
theorem q704 : (Jvm.Cond.privateMethod ({ cls := "WaysAtlas$Scanner", name := "word", desc := "()V" } : Jvm.MethodName)) ∈ lw_tbl := lw_at lw_m3 87 rfl
theorem q705 : (Jvm.Cond.instanceMethod ({ cls := "WaysAtlas$Scanner", name := "word", desc := "()V" } : Jvm.MethodName)) ∈ lw_all := lw_g (lw_at lw_m3 88 rfl) rfl
theorem q706 : (Jvm.Cond.code ({ cls := "WaysAtlas$Scanner", name := "word", desc := "()V" } : Jvm.MethodName) prog_25_method_8_code (5 : Nat) (Option.none : Option Jvm.ClassFile.FieldType)) ∈ lw_all := lw_g (lw_at lw_m3 89 rfl) rfl
theorem q707 : (Jvm.Cond.methodLink "WaysAtlas$Scanner" (50 : Nat) ({ cls := "WaysAtlas$Scanner", name := "isDigit", desc := "(I)Z" } : Jvm.MethodName)) ∈ lw_all := lw_g (lw_at lw_m3 90 rfl) rfl
theorem q708 : (Jvm.Cond.static ({ cls := "WaysAtlas$Scanner", name := "isDigit", desc := "(I)Z" } : Jvm.MethodName)) ∈ lw_all := lw_g (lw_at lw_m3 91 rfl) rfl
theorem q709 : (Jvm.Cond.code ({ cls := "WaysAtlas$Scanner", name := "isDigit", desc := "(I)Z" } : Jvm.MethodName) prog_25_method_4_code (1 : Nat) (Option.some Jvm.ClassFile.FieldType.boolean)) ∈ lw_all := lw_g (lw_at lw_m3 92 rfl) rfl
theorem q710 : (Jvm.Cond.methodLink "WaysAtlas$Scanner" (53 : Nat) ({ cls := "WaysAtlas$Scanner", name := "digits", desc := "(I)I" } : Jvm.MethodName)) ∈ lw_all := lw_g (lw_at lw_m3 93 rfl) rfl
theorem q711 : (Jvm.Cond.privateMethod ({ cls := "WaysAtlas$Scanner", name := "digits", desc := "(I)I" } : Jvm.MethodName)) ∈ lw_tbl := lw_at lw_m3 94 rfl
theorem q712 : (Jvm.Cond.instanceMethod ({ cls := "WaysAtlas$Scanner", name := "digits", desc := "(I)I" } : Jvm.MethodName)) ∈ lw_all := lw_g (lw_at lw_m3 95 rfl) rfl
theorem q713 : (Jvm.Cond.code ({ cls := "WaysAtlas$Scanner", name := "digits", desc := "(I)I" } : Jvm.MethodName) prog_25_method_7_code (4 : Nat) (Option.some Jvm.ClassFile.FieldType.int)) ∈ lw_all := lw_g (lw_at lw_m3 96 rfl) rfl
theorem q714 : (Jvm.Cond.fieldLinkNest "WaysAtlas$Scanner" (56 : Nat) "WaysAtlas" "WORDS" "[Ljava/lang/String;" "WaysAtlas") ∈ lw_tbl := lw_at lw_m3 97 rfl
theorem q716 : (Jvm.Cond.methodLink "WaysAtlas$Scanner" (60 : Nat) ({ cls := "WaysAtlas$Scanner", name := "is", desc := "(Ljava/lang/String;I)Z" } : Jvm.MethodName)) ∈ lw_all := lw_g (lw_at lw_m3 99 rfl) rfl
theorem q717 : (Jvm.Cond.privateMethod ({ cls := "WaysAtlas$Scanner", name := "is", desc := "(Ljava/lang/String;I)Z" } : Jvm.MethodName)) ∈ lw_tbl := lw_at lw_m3 100 rfl
theorem q718 : (Jvm.Cond.instanceMethod ({ cls := "WaysAtlas$Scanner", name := "is", desc := "(Ljava/lang/String;I)Z" } : Jvm.MethodName)) ∈ lw_all := lw_g (lw_at lw_m3 101 rfl) rfl
theorem q719 : (Jvm.Cond.code ({ cls := "WaysAtlas$Scanner", name := "is", desc := "(Ljava/lang/String;I)Z" } : Jvm.MethodName) prog_25_method_9_code (5 : Nat) (Option.some Jvm.ClassFile.FieldType.boolean)) ∈ lw_all := lw_g (lw_at lw_m3 102 rfl) rfl
theorem q720 : (Jvm.Cond.methodLink "WaysAtlas$Scanner" (64 : Nat) ({ cls := "java/lang/String", name := "length", desc := "()I" } : Jvm.MethodName)) ∈ lw_all := lw_g (lw_at lw_m3 103 rfl) rfl
theorem q730 : (Jvm.Cond.methodLink "WaysAtlas$Scanner" (70 : Nat) ({ cls := "java/lang/String", name := "charAt", desc := "(I)C" } : Jvm.MethodName)) ∈ lw_all := lw_g (lw_at lw_m3 113 rfl) rfl
theorem q154 : (Jvm.Cond.initialized "WaysAtlas$Fault") ∈ lw_all := lw_g (lw_at lw_m1 17 rfl) rfl
theorem q395 : (Jvm.Cond.selects "WaysAtlas$Fault" ({ cls := "java/lang/Throwable", name := "fillInStackTrace", desc := "()Ljava/lang/Throwable;" } : Jvm.MethodName) ({ cls := "java/lang/Throwable", name := "fillInStackTrace", desc := "()Ljava/lang/Throwable;" } : Jvm.MethodName)) ∈ lw_all := lw_g (lw_at lw_m2 18 rfl) rfl
theorem q787 : (Jvm.Cond.instantiable "WaysAtlas$Fault" (8 : Nat)) ∈ lw_all := lw_g (lw_at lw_m3 170 rfl) rfl
theorem q788 : (Jvm.Cond.castable "WaysAtlas$Fault" "WaysAtlas$Fault") ∈ lw_tbl := lw_at lw_m3 171 rfl
theorem q789 : (Jvm.Cond.selects "WaysAtlas$Fault" ({ cls := "java/lang/Throwable", name := "fillInStackTrace", desc := "(I)Ljava/lang/Throwable;" } : Jvm.MethodName) ({ cls := "java/lang/Throwable", name := "fillInStackTrace", desc := "(I)Ljava/lang/Throwable;" } : Jvm.MethodName)) ∈ lw_all := lw_g (lw_at lw_m3 172 rfl) rfl
theorem q790 : (Jvm.Cond.lays "WaysAtlas$Fault" "java/lang/Throwable" "cause" "Ljava/lang/Throwable;") ∈ lw_all := lw_g (lw_at lw_m3 173 rfl) rfl
theorem q791 : (Jvm.Cond.lays "WaysAtlas$Fault" "java/lang/Throwable" "stackTrace" "[Ljava/lang/StackTraceElement;") ∈ lw_all := lw_g (lw_at lw_m3 174 rfl) rfl
theorem q792 : (Jvm.Cond.lays "WaysAtlas$Fault" "java/lang/Throwable" "suppressedExceptions" "Ljava/util/List;") ∈ lw_all := lw_g (lw_at lw_m3 175 rfl) rfl
theorem q793 : (Jvm.Cond.lays "WaysAtlas$Fault" "java/lang/Throwable" "detailMessage" "Ljava/lang/String;") ∈ lw_all := lw_g (lw_at lw_m3 176 rfl) rfl
theorem q794 : (Jvm.Cond.lays "WaysAtlas$Fault" "java/lang/Throwable" "backtrace" "Ljava/lang/Object;") ∈ lw_all := lw_g (lw_at lw_m3 177 rfl) rfl
theorem q800 : (Jvm.Cond.instanceMethod ({ cls := "WaysAtlas$Fault", name := "<init>", desc := "(II)V" } : Jvm.MethodName)) ∈ lw_all := lw_g (lw_at lw_m3 183 rfl) rfl
theorem q801 : (Jvm.Cond.code ({ cls := "WaysAtlas$Fault", name := "<init>", desc := "(II)V" } : Jvm.MethodName) prog_4_method_1_code (3 : Nat) (Option.none : Option Jvm.ClassFile.FieldType)) ∈ lw_all := lw_g (lw_at lw_m3 184 rfl) rfl
theorem q802 : (Jvm.Cond.stringRef "WaysAtlas$Fault" (1 : Nat) "no program") ∈ lw_tbl := lw_at lw_m3 185 rfl
theorem q803 : (Jvm.Cond.methodLink "WaysAtlas$Fault" (3 : Nat) ({ cls := "java/lang/Exception", name := "<init>", desc := "(Ljava/lang/String;Ljava/lang/Throwable;ZZ)V" } : Jvm.MethodName)) ∈ lw_all := lw_g (lw_at lw_m3 186 rfl) rfl
theorem q804 : (Jvm.Cond.fieldLink "WaysAtlas$Fault" (9 : Nat) "WaysAtlas$Fault" "kind" "I") ∈ lw_all := lw_g (lw_at lw_m3 187 rfl) rfl
theorem q806 : (Jvm.Cond.fieldLink "WaysAtlas$Fault" (15 : Nat) "WaysAtlas$Fault" "place" "I") ∈ lw_all := lw_g (lw_at lw_m3 189 rfl) rfl
theorem q808 : (Jvm.Cond.laysFinal "WaysAtlas$Fault" "WaysAtlas$Fault" "kind" "I") ∈ lw_all := lw_g (lw_at lw_m3 191 rfl) rfl
theorem q809 : (Jvm.Cond.soleField "WaysAtlas$Fault" "kind") ∈ lw_all := lw_g (lw_at lw_m3 192 rfl) rfl
theorem q810 : (Jvm.Cond.laysFinal "WaysAtlas$Fault" "WaysAtlas$Fault" "place" "I") ∈ lw_all := lw_g (lw_at lw_m3 193 rfl) rfl
theorem q811 : (Jvm.Cond.soleField "WaysAtlas$Fault" "place") ∈ lw_all := lw_g (lw_at lw_m3 194 rfl) rfl
theorem q812 : (Jvm.Cond.lays "WaysAtlas$Fault" "java/lang/Throwable" "depth" "I") ∈ lw_all := lw_g (lw_at lw_m3 195 rfl) rfl
theorem q813 : (Jvm.Cond.superclass "WaysAtlas$Fault" "java/lang/Exception") ∈ lw_all := lw_g (lw_at lw_m3 196 rfl) rfl
theorem q156 : (Jvm.Cond.initialized "WaysAtlas$Method") ∈ lw_all := lw_g (lw_at lw_m1 19 rfl) rfl
theorem q842 : (Jvm.Cond.instantiable "WaysAtlas$Method" (3 : Nat)) ∈ lw_all := lw_g (lw_at lw_m3 225 rfl) rfl
theorem q844 : (Jvm.Cond.instanceMethod ({ cls := "WaysAtlas$Method", name := "<init>", desc := "(I)V" } : Jvm.MethodName)) ∈ lw_all := lw_g (lw_at lw_m3 227 rfl) rfl
theorem q845 : (Jvm.Cond.code ({ cls := "WaysAtlas$Method", name := "<init>", desc := "(I)V" } : Jvm.MethodName) prog_12_method_1_code (2 : Nat) (Option.none : Option Jvm.ClassFile.FieldType)) ∈ lw_all := lw_g (lw_at lw_m3 228 rfl) rfl
theorem q846 : (Jvm.Cond.methodLink "WaysAtlas$Method" (1 : Nat) ({ cls := "java/lang/Object", name := "<init>", desc := "()V" } : Jvm.MethodName)) ∈ lw_all := lw_g (lw_at lw_m3 229 rfl) rfl
theorem q847 : (Jvm.Cond.fieldLink "WaysAtlas$Method" (7 : Nat) "WaysAtlas$Method" "number" "I") ∈ lw_all := lw_g (lw_at lw_m3 230 rfl) rfl
theorem q854 : (Jvm.Cond.laysFinal "WaysAtlas$Method" "WaysAtlas$Method" "number" "I") ∈ lw_all := lw_g (lw_at lw_m3 237 rfl) rfl
theorem q855 : (Jvm.Cond.soleField "WaysAtlas$Method" "number") ∈ lw_all := lw_g (lw_at lw_m3 238 rfl) rfl
theorem q856 : (Jvm.Cond.lays "WaysAtlas$Method" "WaysAtlas$Method" "block" "[LWaysAtlas$Statement;") ∈ lw_all := lw_g (lw_at lw_m3 239 rfl) rfl
theorem q857 : (Jvm.Cond.soleField "WaysAtlas$Method" "block") ∈ lw_all := lw_g (lw_at lw_m4 0 rfl) rfl
theorem q858 : (Jvm.Cond.lays "WaysAtlas$Method" "WaysAtlas$Method" "from" "I") ∈ lw_all := lw_g (lw_at lw_m4 1 rfl) rfl
theorem q859 : (Jvm.Cond.soleField "WaysAtlas$Method" "from") ∈ lw_all := lw_g (lw_at lw_m4 2 rfl) rfl
theorem q860 : (Jvm.Cond.superclass "WaysAtlas$Method" "java/lang/Object") ∈ lw_all := lw_g (lw_at lw_m4 3 rfl) rfl
theorem q157 : (Jvm.Cond.initialized "WaysAtlas$Node") ∈ lw_all := lw_g (lw_at lw_m1 20 rfl) rfl
theorem q908 : (Jvm.Cond.instanceMethod ({ cls := "WaysAtlas$Node", name := "<init>", desc := "()V" } : Jvm.MethodName)) ∈ lw_all := lw_g (lw_at lw_m4 51 rfl) rfl
theorem q909 : (Jvm.Cond.code ({ cls := "WaysAtlas$Node", name := "<init>", desc := "()V" } : Jvm.MethodName) prog_14_method_1_code (1 : Nat) (Option.none : Option Jvm.ClassFile.FieldType)) ∈ lw_all := lw_g (lw_at lw_m4 52 rfl) rfl
theorem q910 : (Jvm.Cond.methodLink "WaysAtlas$Node" (1 : Nat) ({ cls := "java/lang/Object", name := "<init>", desc := "()V" } : Jvm.MethodName)) ∈ lw_all := lw_g (lw_at lw_m4 53 rfl) rfl
theorem q1623 : (Jvm.Cond.declares ({ cls := "WaysAtlas$Node", name := "value", desc := "(LWaysAtlas$Run;LWaysAtlas$Frame;)I" } : Jvm.MethodName)) ∈ lw_tbl := lw_at lw_m7 46 rfl
theorem q1624 : (Jvm.Cond.sameMethod "WaysAtlas$Node" "WaysAtlas$Node" "value" "(LWaysAtlas$Run;LWaysAtlas$Frame;)I") ∈ lw_all := lw_g (lw_at lw_m7 47 rfl) rfl
theorem q158 : (Jvm.Cond.initialized "WaysAtlas$Sign") ∈ lw_all := lw_g (lw_at lw_m1 21 rfl) rfl
theorem q903 : (Jvm.Cond.instantiable "WaysAtlas$Sign" (3 : Nat)) ∈ lw_all := lw_g (lw_at lw_m4 46 rfl) rfl
theorem q905 : (Jvm.Cond.instanceMethod ({ cls := "WaysAtlas$Sign", name := "<init>", desc := "(ILWaysAtlas$Node;LWaysAtlas$Node;)V" } : Jvm.MethodName)) ∈ lw_all := lw_g (lw_at lw_m4 48 rfl) rfl
theorem q906 : (Jvm.Cond.code ({ cls := "WaysAtlas$Sign", name := "<init>", desc := "(ILWaysAtlas$Node;LWaysAtlas$Node;)V" } : Jvm.MethodName) prog_28_method_1_code (4 : Nat) (Option.none : Option Jvm.ClassFile.FieldType)) ∈ lw_all := lw_g (lw_at lw_m4 49 rfl) rfl
theorem q907 : (Jvm.Cond.methodLinkNest "WaysAtlas$Sign" (3 : Nat) ({ cls := "WaysAtlas$Node", name := "<init>", desc := "()V" } : Jvm.MethodName) "WaysAtlas") ∈ lw_tbl := lw_at lw_m4 50 rfl
theorem q911 : (Jvm.Cond.fieldLink "WaysAtlas$Sign" (9 : Nat) "WaysAtlas$Sign" "sign" "I") ∈ lw_all := lw_g (lw_at lw_m4 54 rfl) rfl
theorem q912 : (Jvm.Cond.fieldLink "WaysAtlas$Sign" (15 : Nat) "WaysAtlas$Sign" "left" "LWaysAtlas$Node;") ∈ lw_all := lw_g (lw_at lw_m4 55 rfl) rfl
theorem q913 : (Jvm.Cond.fieldLink "WaysAtlas$Sign" (19 : Nat) "WaysAtlas$Sign" "right" "LWaysAtlas$Node;") ∈ lw_all := lw_g (lw_at lw_m4 56 rfl) rfl
theorem q914 : (Jvm.Cond.laysFinal "WaysAtlas$Sign" "WaysAtlas$Sign" "sign" "I") ∈ lw_all := lw_g (lw_at lw_m4 57 rfl) rfl
theorem q915 : (Jvm.Cond.soleField "WaysAtlas$Sign" "sign") ∈ lw_all := lw_g (lw_at lw_m4 58 rfl) rfl
theorem q916 : (Jvm.Cond.laysFinal "WaysAtlas$Sign" "WaysAtlas$Sign" "left" "LWaysAtlas$Node;") ∈ lw_all := lw_g (lw_at lw_m4 59 rfl) rfl
theorem q917 : (Jvm.Cond.soleField "WaysAtlas$Sign" "left") ∈ lw_all := lw_g (lw_at lw_m4 60 rfl) rfl
theorem q918 : (Jvm.Cond.laysFinal "WaysAtlas$Sign" "WaysAtlas$Sign" "right" "LWaysAtlas$Node;") ∈ lw_all := lw_g (lw_at lw_m4 61 rfl) rfl
theorem q919 : (Jvm.Cond.soleField "WaysAtlas$Sign" "right") ∈ lw_all := lw_g (lw_at lw_m4 62 rfl) rfl
theorem q920 : (Jvm.Cond.superclass "WaysAtlas$Sign" "WaysAtlas$Node") ∈ lw_all := lw_g (lw_at lw_m4 63 rfl) rfl
theorem q1633 : (Jvm.Cond.instanceMethod ({ cls := "WaysAtlas$Sign", name := "value", desc := "(LWaysAtlas$Run;LWaysAtlas$Frame;)I" } : Jvm.MethodName)) ∈ lw_all := lw_g (lw_at lw_m7 56 rfl) rfl
theorem q1634 : (Jvm.Cond.code ({ cls := "WaysAtlas$Sign", name := "value", desc := "(LWaysAtlas$Run;LWaysAtlas$Frame;)I" } : Jvm.MethodName) prog_28_method_2_code (5 : Nat) (Option.some Jvm.ClassFile.FieldType.int)) ∈ lw_all := lw_g (lw_at lw_m7 57 rfl) rfl
theorem q1635 : (Jvm.Cond.methodLink "WaysAtlas$Sign" (22 : Nat) ({ cls := "WaysAtlas$Node", name := "value", desc := "(LWaysAtlas$Run;LWaysAtlas$Frame;)I" } : Jvm.MethodName)) ∈ lw_all := lw_g (lw_at lw_m7 58 rfl) rfl
theorem q1638 : (Jvm.Cond.methodLink "WaysAtlas$Sign" (26 : Nat) ({ cls := "WaysAtlas$Run", name := "fails", desc := "(I)LWaysAtlas$Thrown;" } : Jvm.MethodName)) ∈ lw_all := lw_g (lw_at lw_m7 61 rfl) rfl
theorem q1644 : (Jvm.Cond.selects "WaysAtlas$Sign" ({ cls := "WaysAtlas$Node", name := "value", desc := "(LWaysAtlas$Run;LWaysAtlas$Frame;)I" } : Jvm.MethodName) ({ cls := "WaysAtlas$Sign", name := "value", desc := "(LWaysAtlas$Run;LWaysAtlas$Frame;)I" } : Jvm.MethodName)) ∈ lw_all := lw_g (lw_at lw_m7 67 rfl) rfl
theorem q159 : (Jvm.Cond.initialized "WaysAtlas$Number") ∈ lw_all := lw_g (lw_at lw_m1 22 rfl) rfl
theorem q922 : (Jvm.Cond.instantiable "WaysAtlas$Number" (1 : Nat)) ∈ lw_all := lw_g (lw_at lw_m4 65 rfl) rfl
theorem q924 : (Jvm.Cond.instanceMethod ({ cls := "WaysAtlas$Number", name := "<init>", desc := "(I)V" } : Jvm.MethodName)) ∈ lw_all := lw_g (lw_at lw_m4 67 rfl) rfl
theorem q925 : (Jvm.Cond.code ({ cls := "WaysAtlas$Number", name := "<init>", desc := "(I)V" } : Jvm.MethodName) prog_15_method_1_code (2 : Nat) (Option.none : Option Jvm.ClassFile.FieldType)) ∈ lw_all := lw_g (lw_at lw_m4 68 rfl) rfl
theorem q926 : (Jvm.Cond.methodLinkNest "WaysAtlas$Number" (1 : Nat) ({ cls := "WaysAtlas$Node", name := "<init>", desc := "()V" } : Jvm.MethodName) "WaysAtlas") ∈ lw_tbl := lw_at lw_m4 69 rfl
theorem q927 : (Jvm.Cond.fieldLink "WaysAtlas$Number" (7 : Nat) "WaysAtlas$Number" "v" "I") ∈ lw_all := lw_g (lw_at lw_m4 70 rfl) rfl
theorem q928 : (Jvm.Cond.laysFinal "WaysAtlas$Number" "WaysAtlas$Number" "v" "I") ∈ lw_all := lw_g (lw_at lw_m4 71 rfl) rfl
theorem q929 : (Jvm.Cond.soleField "WaysAtlas$Number" "v") ∈ lw_all := lw_g (lw_at lw_m4 72 rfl) rfl
theorem q930 : (Jvm.Cond.superclass "WaysAtlas$Number" "WaysAtlas$Node") ∈ lw_all := lw_g (lw_at lw_m4 73 rfl) rfl
theorem q1625 : (Jvm.Cond.selects "WaysAtlas$Number" ({ cls := "WaysAtlas$Node", name := "value", desc := "(LWaysAtlas$Run;LWaysAtlas$Frame;)I" } : Jvm.MethodName) ({ cls := "WaysAtlas$Number", name := "value", desc := "(LWaysAtlas$Run;LWaysAtlas$Frame;)I" } : Jvm.MethodName)) ∈ lw_all := lw_g (lw_at lw_m7 48 rfl) rfl
theorem q1626 : (Jvm.Cond.instanceMethod ({ cls := "WaysAtlas$Number", name := "value", desc := "(LWaysAtlas$Run;LWaysAtlas$Frame;)I" } : Jvm.MethodName)) ∈ lw_all := lw_g (lw_at lw_m7 49 rfl) rfl
theorem q1627 : (Jvm.Cond.code ({ cls := "WaysAtlas$Number", name := "value", desc := "(LWaysAtlas$Run;LWaysAtlas$Frame;)I" } : Jvm.MethodName) prog_15_method_2_code (3 : Nat) (Option.some Jvm.ClassFile.FieldType.int)) ∈ lw_all := lw_g (lw_at lw_m7 50 rfl) rfl
theorem q160 : (Jvm.Cond.initialized "WaysAtlas$Var") ∈ lw_all := lw_g (lw_at lw_m1 23 rfl) rfl
theorem q453 : (Jvm.Cond.fieldLinkNest "WaysAtlas$Var" (13 : Nat) "WaysAtlas$Frame" "vars" "[I" "WaysAtlas") ∈ lw_tbl := lw_at lw_m2 76 rfl
theorem q932 : (Jvm.Cond.instantiable "WaysAtlas$Var" (1 : Nat)) ∈ lw_all := lw_g (lw_at lw_m4 75 rfl) rfl
theorem q934 : (Jvm.Cond.instanceMethod ({ cls := "WaysAtlas$Var", name := "<init>", desc := "(I)V" } : Jvm.MethodName)) ∈ lw_all := lw_g (lw_at lw_m4 77 rfl) rfl
theorem q935 : (Jvm.Cond.code ({ cls := "WaysAtlas$Var", name := "<init>", desc := "(I)V" } : Jvm.MethodName) prog_33_method_1_code (2 : Nat) (Option.none : Option Jvm.ClassFile.FieldType)) ∈ lw_all := lw_g (lw_at lw_m4 78 rfl) rfl
theorem q936 : (Jvm.Cond.methodLinkNest "WaysAtlas$Var" (1 : Nat) ({ cls := "WaysAtlas$Node", name := "<init>", desc := "()V" } : Jvm.MethodName) "WaysAtlas") ∈ lw_tbl := lw_at lw_m4 79 rfl
theorem q937 : (Jvm.Cond.fieldLink "WaysAtlas$Var" (7 : Nat) "WaysAtlas$Var" "v" "I") ∈ lw_all := lw_g (lw_at lw_m4 80 rfl) rfl
theorem q938 : (Jvm.Cond.laysFinal "WaysAtlas$Var" "WaysAtlas$Var" "v" "I") ∈ lw_all := lw_g (lw_at lw_m4 81 rfl) rfl
theorem q939 : (Jvm.Cond.soleField "WaysAtlas$Var" "v") ∈ lw_all := lw_g (lw_at lw_m4 82 rfl) rfl
theorem q940 : (Jvm.Cond.superclass "WaysAtlas$Var" "WaysAtlas$Node") ∈ lw_all := lw_g (lw_at lw_m4 83 rfl) rfl
theorem q1636 : (Jvm.Cond.instanceMethod ({ cls := "WaysAtlas$Var", name := "value", desc := "(LWaysAtlas$Run;LWaysAtlas$Frame;)I" } : Jvm.MethodName)) ∈ lw_all := lw_g (lw_at lw_m7 59 rfl) rfl
theorem q1637 : (Jvm.Cond.code ({ cls := "WaysAtlas$Var", name := "value", desc := "(LWaysAtlas$Run;LWaysAtlas$Frame;)I" } : Jvm.MethodName) prog_33_method_2_code (3 : Nat) (Option.some Jvm.ClassFile.FieldType.int)) ∈ lw_all := lw_g (lw_at lw_m7 60 rfl) rfl
theorem q1645 : (Jvm.Cond.selects "WaysAtlas$Var" ({ cls := "WaysAtlas$Node", name := "value", desc := "(LWaysAtlas$Run;LWaysAtlas$Frame;)I" } : Jvm.MethodName) ({ cls := "WaysAtlas$Var", name := "value", desc := "(LWaysAtlas$Run;LWaysAtlas$Frame;)I" } : Jvm.MethodName)) ∈ lw_all := lw_g (lw_at lw_m7 68 rfl) rfl
theorem q161 : (Jvm.Cond.initialized "WaysAtlas$Place") ∈ lw_all := lw_g (lw_at lw_m1 24 rfl) rfl
theorem q459 : (Jvm.Cond.fieldLinkNest "WaysAtlas$Place" (19 : Nat) "WaysAtlas$Frame" "rows" "[I" "WaysAtlas") ∈ lw_tbl := lw_at lw_m2 82 rfl
theorem q551 : (Jvm.Cond.fieldLinkNest "WaysAtlas$Place" (31 : Nat) "WaysAtlas$Run" "rowSize" "[I" "WaysAtlas") ∈ lw_tbl := lw_at lw_m2 174 rfl
theorem q555 : (Jvm.Cond.fieldLinkNest "WaysAtlas$Place" (34 : Nat) "WaysAtlas$Run" "cells" "[I" "WaysAtlas") ∈ lw_tbl := lw_at lw_m2 178 rfl
theorem q942 : (Jvm.Cond.instantiable "WaysAtlas$Place" (2 : Nat)) ∈ lw_all := lw_g (lw_at lw_m4 85 rfl) rfl
theorem q944 : (Jvm.Cond.instanceMethod ({ cls := "WaysAtlas$Place", name := "<init>", desc := "(ILWaysAtlas$Node;)V" } : Jvm.MethodName)) ∈ lw_all := lw_g (lw_at lw_m4 87 rfl) rfl
theorem q945 : (Jvm.Cond.code ({ cls := "WaysAtlas$Place", name := "<init>", desc := "(ILWaysAtlas$Node;)V" } : Jvm.MethodName) prog_16_method_1_code (3 : Nat) (Option.none : Option Jvm.ClassFile.FieldType)) ∈ lw_all := lw_g (lw_at lw_m4 88 rfl) rfl
theorem q946 : (Jvm.Cond.methodLinkNest "WaysAtlas$Place" (3 : Nat) ({ cls := "WaysAtlas$Node", name := "<init>", desc := "()V" } : Jvm.MethodName) "WaysAtlas") ∈ lw_tbl := lw_at lw_m4 89 rfl
theorem q947 : (Jvm.Cond.fieldLink "WaysAtlas$Place" (9 : Nat) "WaysAtlas$Place" "row" "I") ∈ lw_all := lw_g (lw_at lw_m4 90 rfl) rfl
theorem q948 : (Jvm.Cond.fieldLink "WaysAtlas$Place" (15 : Nat) "WaysAtlas$Place" "at" "LWaysAtlas$Node;") ∈ lw_all := lw_g (lw_at lw_m4 91 rfl) rfl
theorem q950 : (Jvm.Cond.laysFinal "WaysAtlas$Place" "WaysAtlas$Place" "row" "I") ∈ lw_all := lw_g (lw_at lw_m4 93 rfl) rfl
theorem q951 : (Jvm.Cond.soleField "WaysAtlas$Place" "row") ∈ lw_all := lw_g (lw_at lw_m4 94 rfl) rfl
theorem q952 : (Jvm.Cond.laysFinal "WaysAtlas$Place" "WaysAtlas$Place" "at" "LWaysAtlas$Node;") ∈ lw_all := lw_g (lw_at lw_m4 95 rfl) rfl
theorem q953 : (Jvm.Cond.soleField "WaysAtlas$Place" "at") ∈ lw_all := lw_g (lw_at lw_m4 96 rfl) rfl
theorem q954 : (Jvm.Cond.superclass "WaysAtlas$Place" "WaysAtlas$Node") ∈ lw_all := lw_g (lw_at lw_m4 97 rfl) rfl
theorem q1628 : (Jvm.Cond.selects "WaysAtlas$Place" ({ cls := "WaysAtlas$Node", name := "value", desc := "(LWaysAtlas$Run;LWaysAtlas$Frame;)I" } : Jvm.MethodName) ({ cls := "WaysAtlas$Place", name := "value", desc := "(LWaysAtlas$Run;LWaysAtlas$Frame;)I" } : Jvm.MethodName)) ∈ lw_all := lw_g (lw_at lw_m7 51 rfl) rfl
theorem q1629 : (Jvm.Cond.instanceMethod ({ cls := "WaysAtlas$Place", name := "value", desc := "(LWaysAtlas$Run;LWaysAtlas$Frame;)I" } : Jvm.MethodName)) ∈ lw_all := lw_g (lw_at lw_m7 52 rfl) rfl
theorem q1630 : (Jvm.Cond.code ({ cls := "WaysAtlas$Place", name := "value", desc := "(LWaysAtlas$Run;LWaysAtlas$Frame;)I" } : Jvm.MethodName) prog_16_method_2_code (3 : Nat) (Option.some Jvm.ClassFile.FieldType.int)) ∈ lw_all := lw_g (lw_at lw_m7 53 rfl) rfl
theorem q1631 : (Jvm.Cond.methodLink "WaysAtlas$Place" (25 : Nat) ({ cls := "WaysAtlas$Run", name := "fails", desc := "(I)LWaysAtlas$Thrown;" } : Jvm.MethodName)) ∈ lw_all := lw_g (lw_at lw_m7 54 rfl) rfl
theorem q1632 : (Jvm.Cond.methodLink "WaysAtlas$Place" (37 : Nat) ({ cls := "WaysAtlas$Node", name := "value", desc := "(LWaysAtlas$Run;LWaysAtlas$Frame;)I" } : Jvm.MethodName)) ∈ lw_all := lw_g (lw_at lw_m7 55 rfl) rfl
theorem q1639 : (Jvm.Cond.methodLink "WaysAtlas$Place" (41 : Nat) ({ cls := "WaysAtlas$Place", name := "cell", desc := "(LWaysAtlas$Run;LWaysAtlas$Frame;I)I" } : Jvm.MethodName)) ∈ lw_all := lw_g (lw_at lw_m7 62 rfl) rfl
theorem q1640 : (Jvm.Cond.instanceMethod ({ cls := "WaysAtlas$Place", name := "cell", desc := "(LWaysAtlas$Run;LWaysAtlas$Frame;I)I" } : Jvm.MethodName)) ∈ lw_all := lw_g (lw_at lw_m7 63 rfl) rfl
theorem q1641 : (Jvm.Cond.selects "WaysAtlas$Place" ({ cls := "WaysAtlas$Place", name := "cell", desc := "(LWaysAtlas$Run;LWaysAtlas$Frame;I)I" } : Jvm.MethodName) ({ cls := "WaysAtlas$Place", name := "cell", desc := "(LWaysAtlas$Run;LWaysAtlas$Frame;I)I" } : Jvm.MethodName)) ∈ lw_all := lw_g (lw_at lw_m7 64 rfl) rfl
theorem q1642 : (Jvm.Cond.code ({ cls := "WaysAtlas$Place", name := "cell", desc := "(LWaysAtlas$Run;LWaysAtlas$Frame;I)I" } : Jvm.MethodName) prog_16_method_3_code (5 : Nat) (Option.some Jvm.ClassFile.FieldType.int)) ∈ lw_all := lw_g (lw_at lw_m7 65 rfl) rfl
theorem q1643 : (Jvm.Cond.methodLinkNest "WaysAtlas$Place" (45 : Nat) ({ cls := "WaysAtlas", name := "isIn", desc := "(III)Z" } : Jvm.MethodName) "WaysAtlas") ∈ lw_tbl := lw_at lw_m7 66 rfl
theorem q162 : (Jvm.Cond.initialized "WaysAtlas$Statement") ∈ lw_all := lw_g (lw_at lw_m1 25 rfl) rfl
theorem q961 : (Jvm.Cond.instanceMethod ({ cls := "WaysAtlas$Statement", name := "<init>", desc := "(I)V" } : Jvm.MethodName)) ∈ lw_all := lw_g (lw_at lw_m4 104 rfl) rfl
theorem q962 : (Jvm.Cond.code ({ cls := "WaysAtlas$Statement", name := "<init>", desc := "(I)V" } : Jvm.MethodName) prog_30_method_1_code (2 : Nat) (Option.none : Option Jvm.ClassFile.FieldType)) ∈ lw_all := lw_g (lw_at lw_m4 105 rfl) rfl
theorem q963 : (Jvm.Cond.methodLink "WaysAtlas$Statement" (1 : Nat) ({ cls := "java/lang/Object", name := "<init>", desc := "()V" } : Jvm.MethodName)) ∈ lw_all := lw_g (lw_at lw_m4 106 rfl) rfl
theorem q969 : (Jvm.Cond.fieldLink "WaysAtlas$Statement" (7 : Nat) "WaysAtlas$Statement" "number" "I") ∈ lw_all := lw_g (lw_at lw_m4 112 rfl) rfl
theorem q999 : (Jvm.Cond.soleField "WaysAtlas$Statement" "number") ∈ lw_all := lw_g (lw_at lw_m4 142 rfl) rfl
theorem q1498 : (Jvm.Cond.instanceMethod ({ cls := "WaysAtlas$Statement", name := "isMark", desc := "()Z" } : Jvm.MethodName)) ∈ lw_all := lw_g (lw_at lw_m6 161 rfl) rfl
theorem q1499 : (Jvm.Cond.sameMethod "WaysAtlas$Statement" "WaysAtlas$Statement" "isMark" "()Z") ∈ lw_all := lw_g (lw_at lw_m6 162 rfl) rfl
theorem q1515 : (Jvm.Cond.code ({ cls := "WaysAtlas$Statement", name := "isMark", desc := "()Z" } : Jvm.MethodName) prog_30_method_3_code (1 : Nat) (Option.some Jvm.ClassFile.FieldType.boolean)) ∈ lw_all := lw_g (lw_at lw_m6 178 rfl) rfl
theorem q1517 : (Jvm.Cond.instanceMethod ({ cls := "WaysAtlas$Statement", name := "resources", desc := "()I" } : Jvm.MethodName)) ∈ lw_all := lw_g (lw_at lw_m6 180 rfl) rfl
theorem q1518 : (Jvm.Cond.sameMethod "WaysAtlas$Statement" "WaysAtlas$Statement" "resources" "()I") ∈ lw_all := lw_g (lw_at lw_m6 181 rfl) rfl
theorem q1532 : (Jvm.Cond.code ({ cls := "WaysAtlas$Statement", name := "resources", desc := "()I" } : Jvm.MethodName) prog_30_method_2_code (1 : Nat) (Option.some Jvm.ClassFile.FieldType.int)) ∈ lw_all := lw_g (lw_at lw_m6 195 rfl) rfl
theorem q1858 : (Jvm.Cond.instanceMethod ({ cls := "WaysAtlas$Statement", name := "hasFinish", desc := "()Z" } : Jvm.MethodName)) ∈ lw_all := lw_g (lw_at lw_m8 41 rfl) rfl
theorem q1859 : (Jvm.Cond.sameMethod "WaysAtlas$Statement" "WaysAtlas$Statement" "hasFinish" "()Z") ∈ lw_all := lw_g (lw_at lw_m8 42 rfl) rfl
theorem q1875 : (Jvm.Cond.code ({ cls := "WaysAtlas$Statement", name := "hasFinish", desc := "()Z" } : Jvm.MethodName) prog_30_method_4_code (1 : Nat) (Option.some Jvm.ClassFile.FieldType.boolean)) ∈ lw_all := lw_g (lw_at lw_m8 58 rfl) rfl
theorem q163 : (Jvm.Cond.initialized "WaysAtlas$Call") ∈ lw_all := lw_g (lw_at lw_m1 26 rfl) rfl
theorem q283 : (Jvm.Cond.fieldLinkNest "WaysAtlas$Call" (37 : Nat) "WaysAtlas$Program" "methods" "[LWaysAtlas$Method;" "WaysAtlas") ∈ lw_tbl := lw_at lw_m1 146 rfl
theorem q455 : (Jvm.Cond.fieldLinkNest "WaysAtlas$Call" (53 : Nat) "WaysAtlas$Frame" "vars" "[I" "WaysAtlas") ∈ lw_tbl := lw_at lw_m2 78 rfl
theorem q496 : (Jvm.Cond.fieldLinkNest "WaysAtlas$Call" (31 : Nat) "WaysAtlas$Run" "program" "LWaysAtlas$Program;" "WaysAtlas") ∈ lw_tbl := lw_at lw_m2 119 rfl
theorem q956 : (Jvm.Cond.instantiable "WaysAtlas$Call" (5 : Nat)) ∈ lw_all := lw_g (lw_at lw_m4 99 rfl) rfl
theorem q958 : (Jvm.Cond.instanceMethod ({ cls := "WaysAtlas$Call", name := "<init>", desc := "(IIILWaysAtlas$Node;LWaysAtlas$Node;)V" } : Jvm.MethodName)) ∈ lw_all := lw_g (lw_at lw_m4 101 rfl) rfl
theorem q959 : (Jvm.Cond.code ({ cls := "WaysAtlas$Call", name := "<init>", desc := "(IIILWaysAtlas$Node;LWaysAtlas$Node;)V" } : Jvm.MethodName) prog_3_method_1_code (6 : Nat) (Option.none : Option Jvm.ClassFile.FieldType)) ∈ lw_all := lw_g (lw_at lw_m4 102 rfl) rfl
theorem q960 : (Jvm.Cond.methodLink "WaysAtlas$Call" (3 : Nat) ({ cls := "WaysAtlas$Statement", name := "<init>", desc := "(I)V" } : Jvm.MethodName)) ∈ lw_all := lw_g (lw_at lw_m4 103 rfl) rfl
theorem q964 : (Jvm.Cond.fieldLink "WaysAtlas$Call" (9 : Nat) "WaysAtlas$Call" "into" "I") ∈ lw_all := lw_g (lw_at lw_m4 107 rfl) rfl
theorem q966 : (Jvm.Cond.fieldLink "WaysAtlas$Call" (15 : Nat) "WaysAtlas$Call" "method" "I") ∈ lw_all := lw_g (lw_at lw_m4 109 rfl) rfl
theorem q967 : (Jvm.Cond.fieldLink "WaysAtlas$Call" (18 : Nat) "WaysAtlas$Call" "a" "LWaysAtlas$Node;") ∈ lw_all := lw_g (lw_at lw_m4 110 rfl) rfl
theorem q968 : (Jvm.Cond.fieldLink "WaysAtlas$Call" (22 : Nat) "WaysAtlas$Call" "b" "LWaysAtlas$Node;") ∈ lw_all := lw_g (lw_at lw_m4 111 rfl) rfl
theorem q975 : (Jvm.Cond.fieldLink "WaysAtlas$Call" (59 : Nat) "WaysAtlas$Call" "number" "I") ∈ lw_all := lw_g (lw_at lw_m4 118 rfl) rfl
theorem q976 : (Jvm.Cond.sameField "WaysAtlas$Call" "WaysAtlas$Statement" "number" "I") ∈ lw_all := lw_g (lw_at lw_m4 119 rfl) rfl
theorem q990 : (Jvm.Cond.laysFinal "WaysAtlas$Call" "WaysAtlas$Call" "into" "I") ∈ lw_all := lw_g (lw_at lw_m4 133 rfl) rfl
theorem q991 : (Jvm.Cond.soleField "WaysAtlas$Call" "into") ∈ lw_all := lw_g (lw_at lw_m4 134 rfl) rfl
theorem q992 : (Jvm.Cond.laysFinal "WaysAtlas$Call" "WaysAtlas$Call" "method" "I") ∈ lw_all := lw_g (lw_at lw_m4 135 rfl) rfl
theorem q993 : (Jvm.Cond.soleField "WaysAtlas$Call" "method") ∈ lw_all := lw_g (lw_at lw_m4 136 rfl) rfl
theorem q994 : (Jvm.Cond.laysFinal "WaysAtlas$Call" "WaysAtlas$Call" "a" "LWaysAtlas$Node;") ∈ lw_all := lw_g (lw_at lw_m4 137 rfl) rfl
theorem q995 : (Jvm.Cond.soleField "WaysAtlas$Call" "a") ∈ lw_all := lw_g (lw_at lw_m4 138 rfl) rfl
theorem q996 : (Jvm.Cond.laysFinal "WaysAtlas$Call" "WaysAtlas$Call" "b" "LWaysAtlas$Node;") ∈ lw_all := lw_g (lw_at lw_m4 139 rfl) rfl
theorem q997 : (Jvm.Cond.soleField "WaysAtlas$Call" "b") ∈ lw_all := lw_g (lw_at lw_m4 140 rfl) rfl
theorem q998 : (Jvm.Cond.laysFinal "WaysAtlas$Call" "WaysAtlas$Statement" "number" "I") ∈ lw_all := lw_g (lw_at lw_m4 141 rfl) rfl
theorem q1000 : (Jvm.Cond.superclass "WaysAtlas$Call" "WaysAtlas$Statement") ∈ lw_all := lw_g (lw_at lw_m4 143 rfl) rfl
theorem q1295 : (Jvm.Cond.castable "WaysAtlas$Call" "WaysAtlas$Walked") ∈ lw_tbl := lw_at lw_m5 198 rfl
theorem q1296 : (Jvm.Cond.selects "WaysAtlas$Call" ({ cls := "WaysAtlas$Walked", name := "tells", desc := "(LWaysAtlas$Lower;)V" } : Jvm.MethodName) ({ cls := "WaysAtlas$Call", name := "tells", desc := "(LWaysAtlas$Lower;)V" } : Jvm.MethodName)) ∈ lw_all := lw_g (lw_at lw_m5 199 rfl) rfl
theorem q1297 : (Jvm.Cond.unhidden "WaysAtlas$Call" "tells" "(LWaysAtlas$Lower;)V") ∈ lw_tbl := lw_at lw_m5 200 rfl
theorem q1298 : (Jvm.Cond.instanceMethod ({ cls := "WaysAtlas$Call", name := "tells", desc := "(LWaysAtlas$Lower;)V" } : Jvm.MethodName)) ∈ lw_all := lw_g (lw_at lw_m5 201 rfl) rfl
theorem q1299 : (Jvm.Cond.publicMethod ({ cls := "WaysAtlas$Call", name := "tells", desc := "(LWaysAtlas$Lower;)V" } : Jvm.MethodName)) ∈ lw_tbl := lw_at lw_m5 202 rfl
theorem q1300 : (Jvm.Cond.code ({ cls := "WaysAtlas$Call", name := "tells", desc := "(LWaysAtlas$Lower;)V" } : Jvm.MethodName) prog_3_method_4_code (2 : Nat) (Option.none : Option Jvm.ClassFile.FieldType)) ∈ lw_all := lw_g (lw_at lw_m5 203 rfl) rfl
theorem q1301 : (Jvm.Cond.methodLink "WaysAtlas$Call" (62 : Nat) ({ cls := "WaysAtlas$Lower", name := "add", desc := "(III)I" } : Jvm.MethodName)) ∈ lw_all := lw_g (lw_at lw_m5 204 rfl) rfl
theorem q1501 : (Jvm.Cond.selects "WaysAtlas$Call" ({ cls := "WaysAtlas$Statement", name := "isMark", desc := "()Z" } : Jvm.MethodName) ({ cls := "WaysAtlas$Statement", name := "isMark", desc := "()Z" } : Jvm.MethodName)) ∈ lw_all := lw_g (lw_at lw_m6 164 rfl) rfl
theorem q1520 : (Jvm.Cond.selects "WaysAtlas$Call" ({ cls := "WaysAtlas$Statement", name := "resources", desc := "()I" } : Jvm.MethodName) ({ cls := "WaysAtlas$Statement", name := "resources", desc := "()I" } : Jvm.MethodName)) ∈ lw_all := lw_g (lw_at lw_m6 183 rfl) rfl
theorem q1613 : (Jvm.Cond.selects "WaysAtlas$Call" ({ cls := "WaysAtlas$Walked", name := "walk", desc := "(LWaysAtlas$Run;LWaysAtlas$Frame;)I" } : Jvm.MethodName) ({ cls := "WaysAtlas$Call", name := "walk", desc := "(LWaysAtlas$Run;LWaysAtlas$Frame;)I" } : Jvm.MethodName)) ∈ lw_all := lw_g (lw_at lw_m7 36 rfl) rfl
theorem q1614 : (Jvm.Cond.unhidden "WaysAtlas$Call" "walk" "(LWaysAtlas$Run;LWaysAtlas$Frame;)I") ∈ lw_tbl := lw_at lw_m7 37 rfl
theorem q1615 : (Jvm.Cond.instanceMethod ({ cls := "WaysAtlas$Call", name := "walk", desc := "(LWaysAtlas$Run;LWaysAtlas$Frame;)I" } : Jvm.MethodName)) ∈ lw_all := lw_g (lw_at lw_m7 38 rfl) rfl
theorem q1616 : (Jvm.Cond.publicMethod ({ cls := "WaysAtlas$Call", name := "walk", desc := "(LWaysAtlas$Run;LWaysAtlas$Frame;)I" } : Jvm.MethodName)) ∈ lw_tbl := lw_at lw_m7 39 rfl
theorem q1617 : (Jvm.Cond.code ({ cls := "WaysAtlas$Call", name := "walk", desc := "(LWaysAtlas$Run;LWaysAtlas$Frame;)I" } : Jvm.MethodName) prog_3_method_3_code (5 : Nat) (Option.some Jvm.ClassFile.FieldType.int)) ∈ lw_all := lw_g (lw_at lw_m7 40 rfl) rfl
theorem q1618 : (Jvm.Cond.methodLink "WaysAtlas$Call" (47 : Nat) ({ cls := "WaysAtlas$Call", name := "enters", desc := "(LWaysAtlas$Run;LWaysAtlas$Frame;)LWaysAtlas$Frame;" } : Jvm.MethodName)) ∈ lw_all := lw_g (lw_at lw_m7 41 rfl) rfl
theorem q1619 : (Jvm.Cond.instanceMethod ({ cls := "WaysAtlas$Call", name := "enters", desc := "(LWaysAtlas$Run;LWaysAtlas$Frame;)LWaysAtlas$Frame;" } : Jvm.MethodName)) ∈ lw_all := lw_g (lw_at lw_m7 42 rfl) rfl
theorem q1620 : (Jvm.Cond.selects "WaysAtlas$Call" ({ cls := "WaysAtlas$Call", name := "enters", desc := "(LWaysAtlas$Run;LWaysAtlas$Frame;)LWaysAtlas$Frame;" } : Jvm.MethodName) ({ cls := "WaysAtlas$Call", name := "enters", desc := "(LWaysAtlas$Run;LWaysAtlas$Frame;)LWaysAtlas$Frame;" } : Jvm.MethodName)) ∈ lw_all := lw_g (lw_at lw_m7 43 rfl) rfl
theorem q1621 : (Jvm.Cond.code ({ cls := "WaysAtlas$Call", name := "enters", desc := "(LWaysAtlas$Run;LWaysAtlas$Frame;)LWaysAtlas$Frame;" } : Jvm.MethodName) prog_3_method_2_code (5 : Nat) (Option.some (Jvm.ClassFile.FieldType.object "WaysAtlas$Frame"))) ∈ lw_all := lw_g (lw_at lw_m7 44 rfl) rfl
theorem q1622 : (Jvm.Cond.methodLink "WaysAtlas$Call" (25 : Nat) ({ cls := "WaysAtlas$Node", name := "value", desc := "(LWaysAtlas$Run;LWaysAtlas$Frame;)I" } : Jvm.MethodName)) ∈ lw_all := lw_g (lw_at lw_m7 45 rfl) rfl
theorem q1646 : (Jvm.Cond.methodLink "WaysAtlas$Call" (43 : Nat) ({ cls := "WaysAtlas$Run", name := "enters", desc := "(LWaysAtlas$Method;II)LWaysAtlas$Frame;" } : Jvm.MethodName)) ∈ lw_all := lw_g (lw_at lw_m7 69 rfl) rfl
theorem q1647 : (Jvm.Cond.methodLink "WaysAtlas$Call" (50 : Nat) ({ cls := "WaysAtlas$Program", name := "walks", desc := "(LWaysAtlas$Run;LWaysAtlas$Frame;)I" } : Jvm.MethodName)) ∈ lw_all := lw_g (lw_at lw_m7 70 rfl) rfl
theorem q1861 : (Jvm.Cond.selects "WaysAtlas$Call" ({ cls := "WaysAtlas$Statement", name := "hasFinish", desc := "()Z" } : Jvm.MethodName) ({ cls := "WaysAtlas$Statement", name := "hasFinish", desc := "()Z" } : Jvm.MethodName)) ∈ lw_all := lw_g (lw_at lw_m8 44 rfl) rfl
theorem q2641 : (Jvm.Cond.castable "WaysAtlas$Call" "WaysAtlas$Statement") ∈ lw_tbl := lw_at lw_m11 104 rfl
theorem q164 : (Jvm.Cond.initialized "WaysAtlas$Plain") ∈ lw_all := lw_g (lw_at lw_m1 27 rfl) rfl
theorem q981 : (Jvm.Cond.fieldLink "WaysAtlas$Plain" (15 : Nat) "WaysAtlas$Plain" "number" "I") ∈ lw_all := lw_g (lw_at lw_m4 124 rfl) rfl
theorem q982 : (Jvm.Cond.sameField "WaysAtlas$Plain" "WaysAtlas$Statement" "number" "I") ∈ lw_all := lw_g (lw_at lw_m4 125 rfl) rfl
theorem q1007 : (Jvm.Cond.instanceMethod ({ cls := "WaysAtlas$Plain", name := "<init>", desc := "(I)V" } : Jvm.MethodName)) ∈ lw_all := lw_g (lw_at lw_m4 150 rfl) rfl
theorem q1008 : (Jvm.Cond.code ({ cls := "WaysAtlas$Plain", name := "<init>", desc := "(I)V" } : Jvm.MethodName) prog_17_method_1_code (2 : Nat) (Option.none : Option Jvm.ClassFile.FieldType)) ∈ lw_all := lw_g (lw_at lw_m4 151 rfl) rfl
theorem q1009 : (Jvm.Cond.methodLink "WaysAtlas$Plain" (3 : Nat) ({ cls := "WaysAtlas$Statement", name := "<init>", desc := "(I)V" } : Jvm.MethodName)) ∈ lw_all := lw_g (lw_at lw_m4 152 rfl) rfl
theorem q1454 : (Jvm.Cond.instanceMethod ({ cls := "WaysAtlas$Plain", name := "tells", desc := "(LWaysAtlas$Lower;)V" } : Jvm.MethodName)) ∈ lw_all := lw_g (lw_at lw_m6 117 rfl) rfl
theorem q1455 : (Jvm.Cond.publicMethod ({ cls := "WaysAtlas$Plain", name := "tells", desc := "(LWaysAtlas$Lower;)V" } : Jvm.MethodName)) ∈ lw_tbl := lw_at lw_m6 118 rfl
theorem q1456 : (Jvm.Cond.code ({ cls := "WaysAtlas$Plain", name := "tells", desc := "(LWaysAtlas$Lower;)V" } : Jvm.MethodName) prog_17_method_4_code (2 : Nat) (Option.none : Option Jvm.ClassFile.FieldType)) ∈ lw_all := lw_g (lw_at lw_m6 119 rfl) rfl
theorem q1457 : (Jvm.Cond.methodLink "WaysAtlas$Plain" (19 : Nat) ({ cls := "WaysAtlas$Lower", name := "add", desc := "(III)I" } : Jvm.MethodName)) ∈ lw_all := lw_g (lw_at lw_m6 120 rfl) rfl
theorem q1724 : (Jvm.Cond.instanceMethod ({ cls := "WaysAtlas$Plain", name := "walk", desc := "(LWaysAtlas$Run;LWaysAtlas$Frame;)I" } : Jvm.MethodName)) ∈ lw_all := lw_g (lw_at lw_m7 147 rfl) rfl
theorem q1725 : (Jvm.Cond.publicMethod ({ cls := "WaysAtlas$Plain", name := "walk", desc := "(LWaysAtlas$Run;LWaysAtlas$Frame;)I" } : Jvm.MethodName)) ∈ lw_tbl := lw_at lw_m7 148 rfl
theorem q1726 : (Jvm.Cond.code ({ cls := "WaysAtlas$Plain", name := "walk", desc := "(LWaysAtlas$Run;LWaysAtlas$Frame;)I" } : Jvm.MethodName) prog_17_method_3_code (3 : Nat) (Option.some Jvm.ClassFile.FieldType.int)) ∈ lw_all := lw_g (lw_at lw_m7 149 rfl) rfl
theorem q1727 : (Jvm.Cond.methodLink "WaysAtlas$Plain" (9 : Nat) ({ cls := "WaysAtlas$Plain", name := "does", desc := "(LWaysAtlas$Run;LWaysAtlas$Frame;)V" } : Jvm.MethodName)) ∈ lw_all := lw_g (lw_at lw_m7 150 rfl) rfl
theorem q1728 : (Jvm.Cond.declares ({ cls := "WaysAtlas$Plain", name := "does", desc := "(LWaysAtlas$Run;LWaysAtlas$Frame;)V" } : Jvm.MethodName)) ∈ lw_tbl := lw_at lw_m7 151 rfl
theorem q1729 : (Jvm.Cond.sameMethod "WaysAtlas$Plain" "WaysAtlas$Plain" "does" "(LWaysAtlas$Run;LWaysAtlas$Frame;)V") ∈ lw_all := lw_g (lw_at lw_m7 152 rfl) rfl
theorem q140 : (Jvm.Cond.initialized "WaysAtlas$Reader") ∈ lw_all := lw_g (lw_at lw_m1 3 rfl) rfl
theorem q199 : (Jvm.Cond.fieldLinkNest "WaysAtlas$Reader" (28 : Nat) "WaysAtlas$Scanner" "kinds" "[I" "WaysAtlas") ∈ lw_tbl := lw_at lw_m1 62 rfl
theorem q201 : (Jvm.Cond.fieldLinkNest "WaysAtlas$Reader" (37 : Nat) "WaysAtlas$Scanner" "places" "[I" "WaysAtlas") ∈ lw_tbl := lw_at lw_m1 64 rfl
theorem q203 : (Jvm.Cond.fieldLinkNest "WaysAtlas$Reader" (44 : Nat) "WaysAtlas$Scanner" "values" "[I" "WaysAtlas") ∈ lw_tbl := lw_at lw_m1 66 rfl
theorem q224 : (Jvm.Cond.instantiable "WaysAtlas$Reader" (13 : Nat)) ∈ lw_all := lw_g (lw_at lw_m1 87 rfl) rfl
theorem q226 : (Jvm.Cond.instanceMethod ({ cls := "WaysAtlas$Reader", name := "<init>", desc := "(LWaysAtlas$Scanner;)V" } : Jvm.MethodName)) ∈ lw_all := lw_g (lw_at lw_m1 89 rfl) rfl
theorem q227 : (Jvm.Cond.code ({ cls := "WaysAtlas$Reader", name := "<init>", desc := "(LWaysAtlas$Scanner;)V" } : Jvm.MethodName) prog_21_method_1_code (2 : Nat) (Option.none : Option Jvm.ClassFile.FieldType)) ∈ lw_all := lw_g (lw_at lw_m1 90 rfl) rfl
theorem q228 : (Jvm.Cond.methodLink "WaysAtlas$Reader" (3 : Nat) ({ cls := "java/lang/Object", name := "<init>", desc := "()V" } : Jvm.MethodName)) ∈ lw_all := lw_g (lw_at lw_m1 91 rfl) rfl
theorem q229 : (Jvm.Cond.classLink "WaysAtlas$Reader" (9 : Nat) "WaysAtlas$Statement") ∈ lw_all := lw_g (lw_at lw_m1 92 rfl) rfl
theorem q231 : (Jvm.Cond.fieldLink "WaysAtlas$Reader" (24 : Nat) "WaysAtlas$Reader" "s" "LWaysAtlas$Scanner;") ∈ lw_all := lw_g (lw_at lw_m1 94 rfl) rfl
theorem q232 : (Jvm.Cond.fieldLink "WaysAtlas$Reader" (73 : Nat) "WaysAtlas$Reader" "p" "LWaysAtlas$Program;") ∈ lw_all := lw_g (lw_at lw_m1 95 rfl) rfl
theorem q233 : (Jvm.Cond.fieldLink "WaysAtlas$Reader" (33 : Nat) "WaysAtlas$Reader" "at" "I") ∈ lw_all := lw_g (lw_at lw_m1 96 rfl) rfl
theorem q234 : (Jvm.Cond.fieldLink "WaysAtlas$Reader" (86 : Nat) "WaysAtlas$Reader" "blocks" "I") ∈ lw_all := lw_g (lw_at lw_m1 97 rfl) rfl
theorem q235 : (Jvm.Cond.fieldLink "WaysAtlas$Reader" (89 : Nat) "WaysAtlas$Reader" "nested" "I") ∈ lw_all := lw_g (lw_at lw_m1 98 rfl) rfl
theorem q236 : (Jvm.Cond.fieldLink "WaysAtlas$Reader" (92 : Nat) "WaysAtlas$Reader" "loops" "I") ∈ lw_all := lw_g (lw_at lw_m1 99 rfl) rfl
theorem q237 : (Jvm.Cond.fieldLink "WaysAtlas$Reader" (95 : Nat) "WaysAtlas$Reader" "taking" "LWaysAtlas$Guard;") ∈ lw_all := lw_g (lw_at lw_m1 100 rfl) rfl
theorem q238 : (Jvm.Cond.fieldLink "WaysAtlas$Reader" (55 : Nat) "WaysAtlas$Reader" "wrong" "I") ∈ lw_all := lw_g (lw_at lw_m1 101 rfl) rfl
theorem q239 : (Jvm.Cond.fieldLink "WaysAtlas$Reader" (11 : Nat) "WaysAtlas$Reader" "pile" "[LWaysAtlas$Statement;") ∈ lw_all := lw_g (lw_at lw_m1 102 rfl) rfl
theorem q240 : (Jvm.Cond.fieldLink "WaysAtlas$Reader" (99 : Nat) "WaysAtlas$Reader" "piled" "I") ∈ lw_all := lw_g (lw_at lw_m1 103 rfl) rfl
theorem q241 : (Jvm.Cond.fieldLink "WaysAtlas$Reader" (17 : Nat) "WaysAtlas$Reader" "told" "[I") ∈ lw_all := lw_g (lw_at lw_m1 104 rfl) rfl
theorem q242 : (Jvm.Cond.fieldLink "WaysAtlas$Reader" (21 : Nat) "WaysAtlas$Reader" "toldAt" "[I") ∈ lw_all := lw_g (lw_at lw_m1 105 rfl) rfl
theorem q243 : (Jvm.Cond.fieldLink "WaysAtlas$Reader" (102 : Nat) "WaysAtlas$Reader" "tells" "I") ∈ lw_all := lw_g (lw_at lw_m1 106 rfl) rfl
theorem q244 : (Jvm.Cond.laysFinal "WaysAtlas$Reader" "WaysAtlas$Reader" "s" "LWaysAtlas$Scanner;") ∈ lw_all := lw_g (lw_at lw_m1 107 rfl) rfl
theorem q245 : (Jvm.Cond.soleField "WaysAtlas$Reader" "s") ∈ lw_all := lw_g (lw_at lw_m1 108 rfl) rfl
theorem q246 : (Jvm.Cond.lays "WaysAtlas$Reader" "WaysAtlas$Reader" "p" "LWaysAtlas$Program;") ∈ lw_all := lw_g (lw_at lw_m1 109 rfl) rfl
theorem q247 : (Jvm.Cond.soleField "WaysAtlas$Reader" "p") ∈ lw_all := lw_g (lw_at lw_m1 110 rfl) rfl
theorem q248 : (Jvm.Cond.lays "WaysAtlas$Reader" "WaysAtlas$Reader" "at" "I") ∈ lw_all := lw_g (lw_at lw_m1 111 rfl) rfl
theorem q249 : (Jvm.Cond.soleField "WaysAtlas$Reader" "at") ∈ lw_all := lw_g (lw_at lw_m1 112 rfl) rfl
theorem q250 : (Jvm.Cond.lays "WaysAtlas$Reader" "WaysAtlas$Reader" "blocks" "I") ∈ lw_all := lw_g (lw_at lw_m1 113 rfl) rfl
theorem q251 : (Jvm.Cond.soleField "WaysAtlas$Reader" "blocks") ∈ lw_all := lw_g (lw_at lw_m1 114 rfl) rfl
theorem q252 : (Jvm.Cond.lays "WaysAtlas$Reader" "WaysAtlas$Reader" "nested" "I") ∈ lw_all := lw_g (lw_at lw_m1 115 rfl) rfl
theorem q253 : (Jvm.Cond.soleField "WaysAtlas$Reader" "nested") ∈ lw_all := lw_g (lw_at lw_m1 116 rfl) rfl
theorem q254 : (Jvm.Cond.lays "WaysAtlas$Reader" "WaysAtlas$Reader" "loops" "I") ∈ lw_all := lw_g (lw_at lw_m1 117 rfl) rfl
theorem q255 : (Jvm.Cond.soleField "WaysAtlas$Reader" "loops") ∈ lw_all := lw_g (lw_at lw_m1 118 rfl) rfl
theorem q256 : (Jvm.Cond.lays "WaysAtlas$Reader" "WaysAtlas$Reader" "taking" "LWaysAtlas$Guard;") ∈ lw_all := lw_g (lw_at lw_m1 119 rfl) rfl
theorem q257 : (Jvm.Cond.soleField "WaysAtlas$Reader" "taking") ∈ lw_all := lw_g (lw_at lw_m1 120 rfl) rfl
theorem q258 : (Jvm.Cond.lays "WaysAtlas$Reader" "WaysAtlas$Reader" "wrong" "I") ∈ lw_all := lw_g (lw_at lw_m1 121 rfl) rfl
theorem q259 : (Jvm.Cond.soleField "WaysAtlas$Reader" "wrong") ∈ lw_all := lw_g (lw_at lw_m1 122 rfl) rfl
theorem q260 : (Jvm.Cond.laysFinal "WaysAtlas$Reader" "WaysAtlas$Reader" "pile" "[LWaysAtlas$Statement;") ∈ lw_all := lw_g (lw_at lw_m1 123 rfl) rfl
theorem q261 : (Jvm.Cond.soleField "WaysAtlas$Reader" "pile") ∈ lw_all := lw_g (lw_at lw_m1 124 rfl) rfl
theorem q262 : (Jvm.Cond.lays "WaysAtlas$Reader" "WaysAtlas$Reader" "piled" "I") ∈ lw_all := lw_g (lw_at lw_m1 125 rfl) rfl
theorem q263 : (Jvm.Cond.soleField "WaysAtlas$Reader" "piled") ∈ lw_all := lw_g (lw_at lw_m1 126 rfl) rfl
theorem q264 : (Jvm.Cond.laysFinal "WaysAtlas$Reader" "WaysAtlas$Reader" "told" "[I") ∈ lw_all := lw_g (lw_at lw_m1 127 rfl) rfl
theorem q265 : (Jvm.Cond.soleField "WaysAtlas$Reader" "told") ∈ lw_all := lw_g (lw_at lw_m1 128 rfl) rfl
theorem q266 : (Jvm.Cond.laysFinal "WaysAtlas$Reader" "WaysAtlas$Reader" "toldAt" "[I") ∈ lw_all := lw_g (lw_at lw_m1 129 rfl) rfl
theorem q267 : (Jvm.Cond.soleField "WaysAtlas$Reader" "toldAt") ∈ lw_all := lw_g (lw_at lw_m1 130 rfl) rfl
theorem q268 : (Jvm.Cond.lays "WaysAtlas$Reader" "WaysAtlas$Reader" "tells" "I") ∈ lw_all := lw_g (lw_at lw_m1 131 rfl) rfl
theorem q269 : (Jvm.Cond.soleField "WaysAtlas$Reader" "tells") ∈ lw_all := lw_g (lw_at lw_m1 132 rfl) rfl
theorem q270 : (Jvm.Cond.superclass "WaysAtlas$Reader" "java/lang/Object") ∈ lw_all := lw_g (lw_at lw_m1 133 rfl) rfl
theorem q285 : (Jvm.Cond.fieldLinkNest "WaysAtlas$Reader" (131 : Nat) "WaysAtlas$Program" "methods" "[LWaysAtlas$Method;" "WaysAtlas") ∈ lw_tbl := lw_at lw_m1 148 rfl
theorem q287 : (Jvm.Cond.fieldLinkNest "WaysAtlas$Reader" (124 : Nat) "WaysAtlas$Program" "many" "I" "WaysAtlas") ∈ lw_tbl := lw_at lw_m1 150 rfl
theorem q289 : (Jvm.Cond.fieldLinkNest "WaysAtlas$Reader" (112 : Nat) "WaysAtlas$Program" "above" "[I" "WaysAtlas") ∈ lw_tbl := lw_at lw_m1 152 rfl
theorem q292 : (Jvm.Cond.fieldLinkNest "WaysAtlas$Reader" (77 : Nat) "WaysAtlas$Program" "kinds" "I" "WaysAtlas") ∈ lw_tbl := lw_at lw_m1 155 rfl
theorem q295 : (Jvm.Cond.fieldLinkNest "WaysAtlas$Reader" (173 : Nat) "WaysAtlas$Program" "statements" "[LWaysAtlas$Statement;" "WaysAtlas") ∈ lw_tbl := lw_at lw_m1 158 rfl
theorem q297 : (Jvm.Cond.fieldLinkNest "WaysAtlas$Reader" (160 : Nat) "WaysAtlas$Program" "size" "I" "WaysAtlas") ∈ lw_tbl := lw_at lw_m1 160 rfl
theorem q299 : (Jvm.Cond.fieldLinkNest "WaysAtlas$Reader" (261 : Nat) "WaysAtlas$Program" "handlerOf" "[LWaysAtlas$Guard;" "WaysAtlas") ∈ lw_tbl := lw_at lw_m1 162 rfl
theorem q302 : (Jvm.Cond.fieldLinkNest "WaysAtlas$Reader" (268 : Nat) "WaysAtlas$Program" "handler" "[I" "WaysAtlas") ∈ lw_tbl := lw_at lw_m1 165 rfl
theorem q305 : (Jvm.Cond.fieldLinkNest "WaysAtlas$Reader" (265 : Nat) "WaysAtlas$Program" "handlers" "I" "WaysAtlas") ∈ lw_tbl := lw_at lw_m1 168 rfl
theorem q769 : (Jvm.Cond.instanceMethod ({ cls := "WaysAtlas$Reader", name := "read", desc := "()LWaysAtlas$Program;" } : Jvm.MethodName)) ∈ lw_all := lw_g (lw_at lw_m3 152 rfl) rfl
theorem q770 : (Jvm.Cond.selects "WaysAtlas$Reader" ({ cls := "WaysAtlas$Reader", name := "read", desc := "()LWaysAtlas$Program;" } : Jvm.MethodName) ({ cls := "WaysAtlas$Reader", name := "read", desc := "()LWaysAtlas$Program;" } : Jvm.MethodName)) ∈ lw_all := lw_g (lw_at lw_m3 153 rfl) rfl
theorem q771 : (Jvm.Cond.code ({ cls := "WaysAtlas$Reader", name := "read", desc := "()LWaysAtlas$Program;" } : Jvm.MethodName) prog_21_method_13_code (2 : Nat) (Option.some (Jvm.ClassFile.FieldType.object "WaysAtlas$Program"))) ∈ lw_all := lw_g (lw_at lw_m3 154 rfl) rfl
theorem q772 : (Jvm.Cond.classLink "WaysAtlas$Reader" (78 : Nat) "WaysAtlas$Program") ∈ lw_all := lw_g (lw_at lw_m3 155 rfl) rfl
theorem q773 : (Jvm.Cond.methodLink "WaysAtlas$Reader" (85 : Nat) ({ cls := "WaysAtlas$Program", name := "<init>", desc := "()V" } : Jvm.MethodName)) ∈ lw_all := lw_g (lw_at lw_m3 156 rfl) rfl
theorem q774 : (Jvm.Cond.methodLink "WaysAtlas$Reader" (58 : Nat) ({ cls := "WaysAtlas$Reader", name := "isWord", desc := "(I)Z" } : Jvm.MethodName)) ∈ lw_all := lw_g (lw_at lw_m3 157 rfl) rfl
theorem q775 : (Jvm.Cond.privateMethod ({ cls := "WaysAtlas$Reader", name := "isWord", desc := "(I)Z" } : Jvm.MethodName)) ∈ lw_tbl := lw_at lw_m3 158 rfl
theorem q776 : (Jvm.Cond.instanceMethod ({ cls := "WaysAtlas$Reader", name := "isWord", desc := "(I)Z" } : Jvm.MethodName)) ∈ lw_all := lw_g (lw_at lw_m3 159 rfl) rfl
theorem q777 : (Jvm.Cond.code ({ cls := "WaysAtlas$Reader", name := "isWord", desc := "(I)Z" } : Jvm.MethodName) prog_21_method_4_code (2 : Nat) (Option.some Jvm.ClassFile.FieldType.boolean)) ∈ lw_all := lw_g (lw_at lw_m3 160 rfl) rfl
theorem q778 : (Jvm.Cond.methodLink "WaysAtlas$Reader" (40 : Nat) ({ cls := "WaysAtlas$Reader", name := "kind", desc := "()I" } : Jvm.MethodName)) ∈ lw_all := lw_g (lw_at lw_m3 161 rfl) rfl
theorem q779 : (Jvm.Cond.privateMethod ({ cls := "WaysAtlas$Reader", name := "kind", desc := "()I" } : Jvm.MethodName)) ∈ lw_tbl := lw_at lw_m3 162 rfl
theorem q780 : (Jvm.Cond.instanceMethod ({ cls := "WaysAtlas$Reader", name := "kind", desc := "()I" } : Jvm.MethodName)) ∈ lw_all := lw_g (lw_at lw_m3 163 rfl) rfl
theorem q781 : (Jvm.Cond.code ({ cls := "WaysAtlas$Reader", name := "kind", desc := "()I" } : Jvm.MethodName) prog_21_method_2_code (1 : Nat) (Option.some Jvm.ClassFile.FieldType.int)) ∈ lw_all := lw_g (lw_at lw_m3 164 rfl) rfl
theorem q782 : (Jvm.Cond.methodLink "WaysAtlas$Reader" (66 : Nat) ({ cls := "WaysAtlas$Reader", name := "room", desc := "(Z)V" } : Jvm.MethodName)) ∈ lw_all := lw_g (lw_at lw_m3 165 rfl) rfl
theorem q783 : (Jvm.Cond.privateMethod ({ cls := "WaysAtlas$Reader", name := "room", desc := "(Z)V" } : Jvm.MethodName)) ∈ lw_tbl := lw_at lw_m3 166 rfl
theorem q784 : (Jvm.Cond.instanceMethod ({ cls := "WaysAtlas$Reader", name := "room", desc := "(Z)V" } : Jvm.MethodName)) ∈ lw_all := lw_g (lw_at lw_m3 167 rfl) rfl
theorem q785 : (Jvm.Cond.code ({ cls := "WaysAtlas$Reader", name := "room", desc := "(Z)V" } : Jvm.MethodName) prog_21_method_6_code (2 : Nat) (Option.none : Option Jvm.ClassFile.FieldType)) ∈ lw_all := lw_g (lw_at lw_m3 168 rfl) rfl
theorem q786 : (Jvm.Cond.classLink "WaysAtlas$Reader" (47 : Nat) "WaysAtlas$Fault") ∈ lw_all := lw_g (lw_at lw_m3 169 rfl) rfl
theorem q795 : (Jvm.Cond.methodLink "WaysAtlas$Reader" (49 : Nat) ({ cls := "WaysAtlas$Reader", name := "place", desc := "()I" } : Jvm.MethodName)) ∈ lw_all := lw_g (lw_at lw_m3 178 rfl) rfl
theorem q796 : (Jvm.Cond.privateMethod ({ cls := "WaysAtlas$Reader", name := "place", desc := "()I" } : Jvm.MethodName)) ∈ lw_tbl := lw_at lw_m3 179 rfl
theorem q797 : (Jvm.Cond.instanceMethod ({ cls := "WaysAtlas$Reader", name := "place", desc := "()I" } : Jvm.MethodName)) ∈ lw_all := lw_g (lw_at lw_m3 180 rfl) rfl
theorem q798 : (Jvm.Cond.code ({ cls := "WaysAtlas$Reader", name := "place", desc := "()I" } : Jvm.MethodName) prog_21_method_3_code (1 : Nat) (Option.some Jvm.ClassFile.FieldType.int)) ∈ lw_all := lw_g (lw_at lw_m3 181 rfl) rfl
theorem q799 : (Jvm.Cond.methodLink "WaysAtlas$Reader" (52 : Nat) ({ cls := "WaysAtlas$Fault", name := "<init>", desc := "(II)V" } : Jvm.MethodName)) ∈ lw_all := lw_g (lw_at lw_m3 182 rfl) rfl
theorem q814 : (Jvm.Cond.methodLink "WaysAtlas$Reader" (105 : Nat) ({ cls := "WaysAtlas$Reader", name := "word", desc := "(I)V" } : Jvm.MethodName)) ∈ lw_all := lw_g (lw_at lw_m3 197 rfl) rfl
theorem q815 : (Jvm.Cond.privateMethod ({ cls := "WaysAtlas$Reader", name := "word", desc := "(I)V" } : Jvm.MethodName)) ∈ lw_tbl := lw_at lw_m3 198 rfl
theorem q816 : (Jvm.Cond.instanceMethod ({ cls := "WaysAtlas$Reader", name := "word", desc := "(I)V" } : Jvm.MethodName)) ∈ lw_all := lw_g (lw_at lw_m3 199 rfl) rfl
theorem q817 : (Jvm.Cond.code ({ cls := "WaysAtlas$Reader", name := "word", desc := "(I)V" } : Jvm.MethodName) prog_21_method_8_code (2 : Nat) (Option.none : Option Jvm.ClassFile.FieldType)) ∈ lw_all := lw_g (lw_at lw_m3 200 rfl) rfl
theorem q818 : (Jvm.Cond.methodLink "WaysAtlas$Reader" (62 : Nat) ({ cls := "WaysAtlas$Reader", name := "need", desc := "(Z)V" } : Jvm.MethodName)) ∈ lw_all := lw_g (lw_at lw_m3 201 rfl) rfl
theorem q819 : (Jvm.Cond.privateMethod ({ cls := "WaysAtlas$Reader", name := "need", desc := "(Z)V" } : Jvm.MethodName)) ∈ lw_tbl := lw_at lw_m3 202 rfl
theorem q820 : (Jvm.Cond.instanceMethod ({ cls := "WaysAtlas$Reader", name := "need", desc := "(Z)V" } : Jvm.MethodName)) ∈ lw_all := lw_g (lw_at lw_m3 203 rfl) rfl
theorem q821 : (Jvm.Cond.code ({ cls := "WaysAtlas$Reader", name := "need", desc := "(Z)V" } : Jvm.MethodName) prog_21_method_5_code (2 : Nat) (Option.none : Option Jvm.ClassFile.FieldType)) ∈ lw_all := lw_g (lw_at lw_m3 204 rfl) rfl
theorem q822 : (Jvm.Cond.methodLink "WaysAtlas$Reader" (109 : Nat) ({ cls := "WaysAtlas$Reader", name := "kindName", desc := "()I" } : Jvm.MethodName)) ∈ lw_all := lw_g (lw_at lw_m3 205 rfl) rfl
theorem q823 : (Jvm.Cond.privateMethod ({ cls := "WaysAtlas$Reader", name := "kindName", desc := "()I" } : Jvm.MethodName)) ∈ lw_tbl := lw_at lw_m3 206 rfl
theorem q824 : (Jvm.Cond.instanceMethod ({ cls := "WaysAtlas$Reader", name := "kindName", desc := "()I" } : Jvm.MethodName)) ∈ lw_all := lw_g (lw_at lw_m3 207 rfl) rfl
theorem q825 : (Jvm.Cond.code ({ cls := "WaysAtlas$Reader", name := "kindName", desc := "()I" } : Jvm.MethodName) prog_21_method_12_code (3 : Nat) (Option.some Jvm.ClassFile.FieldType.int)) ∈ lw_all := lw_g (lw_at lw_m3 208 rfl) rfl
theorem q826 : (Jvm.Cond.methodLink "WaysAtlas$Reader" (69 : Nat) ({ cls := "WaysAtlas$Reader", name := "take", desc := "(I)I" } : Jvm.MethodName)) ∈ lw_all := lw_g (lw_at lw_m3 209 rfl) rfl
theorem q827 : (Jvm.Cond.privateMethod ({ cls := "WaysAtlas$Reader", name := "take", desc := "(I)I" } : Jvm.MethodName)) ∈ lw_tbl := lw_at lw_m3 210 rfl
theorem q828 : (Jvm.Cond.instanceMethod ({ cls := "WaysAtlas$Reader", name := "take", desc := "(I)I" } : Jvm.MethodName)) ∈ lw_all := lw_g (lw_at lw_m3 211 rfl) rfl
theorem q829 : (Jvm.Cond.code ({ cls := "WaysAtlas$Reader", name := "take", desc := "(I)I" } : Jvm.MethodName) prog_21_method_10_code (2 : Nat) (Option.some Jvm.ClassFile.FieldType.int)) ∈ lw_all := lw_g (lw_at lw_m3 212 rfl) rfl
theorem q830 : (Jvm.Cond.methodLink "WaysAtlas$Reader" (81 : Nat) ({ cls := "WaysAtlas$Reader", name := "lacks", desc := "(ZI)V" } : Jvm.MethodName)) ∈ lw_all := lw_g (lw_at lw_m3 213 rfl) rfl
theorem q831 : (Jvm.Cond.privateMethod ({ cls := "WaysAtlas$Reader", name := "lacks", desc := "(ZI)V" } : Jvm.MethodName)) ∈ lw_tbl := lw_at lw_m3 214 rfl
theorem q832 : (Jvm.Cond.instanceMethod ({ cls := "WaysAtlas$Reader", name := "lacks", desc := "(ZI)V" } : Jvm.MethodName)) ∈ lw_all := lw_g (lw_at lw_m3 215 rfl) rfl
theorem q833 : (Jvm.Cond.code ({ cls := "WaysAtlas$Reader", name := "lacks", desc := "(ZI)V" } : Jvm.MethodName) prog_21_method_7_code (3 : Nat) (Option.none : Option Jvm.ClassFile.FieldType)) ∈ lw_all := lw_g (lw_at lw_m3 216 rfl) rfl
theorem q834 : (Jvm.Cond.methodLink "WaysAtlas$Reader" (115 : Nat) ({ cls := "java/lang/Math", name := "min", desc := "(II)I" } : Jvm.MethodName)) ∈ lw_all := lw_g (lw_at lw_m3 217 rfl) rfl
theorem q837 : (Jvm.Cond.methodLink "WaysAtlas$Reader" (121 : Nat) ({ cls := "WaysAtlas$Reader", name := "method", desc := "()V" } : Jvm.MethodName)) ∈ lw_all := lw_g (lw_at lw_m3 220 rfl) rfl
theorem q838 : (Jvm.Cond.privateMethod ({ cls := "WaysAtlas$Reader", name := "method", desc := "()V" } : Jvm.MethodName)) ∈ lw_tbl := lw_at lw_m3 221 rfl
theorem q839 : (Jvm.Cond.instanceMethod ({ cls := "WaysAtlas$Reader", name := "method", desc := "()V" } : Jvm.MethodName)) ∈ lw_all := lw_g (lw_at lw_m3 222 rfl) rfl
theorem q840 : (Jvm.Cond.code ({ cls := "WaysAtlas$Reader", name := "method", desc := "()V" } : Jvm.MethodName) prog_21_method_14_code (2 : Nat) (Option.none : Option Jvm.ClassFile.FieldType)) ∈ lw_all := lw_g (lw_at lw_m3 223 rfl) rfl
theorem q841 : (Jvm.Cond.classLink "WaysAtlas$Reader" (127 : Nat) "WaysAtlas$Method") ∈ lw_all := lw_g (lw_at lw_m3 224 rfl) rfl
theorem q843 : (Jvm.Cond.methodLink "WaysAtlas$Reader" (129 : Nat) ({ cls := "WaysAtlas$Method", name := "<init>", desc := "(I)V" } : Jvm.MethodName)) ∈ lw_all := lw_g (lw_at lw_m3 226 rfl) rfl
theorem q850 : (Jvm.Cond.fieldLinkNest "WaysAtlas$Reader" (139 : Nat) "WaysAtlas$Method" "block" "[LWaysAtlas$Statement;" "WaysAtlas") ∈ lw_tbl := lw_at lw_m3 233 rfl
theorem q861 : (Jvm.Cond.methodLink "WaysAtlas$Reader" (135 : Nat) ({ cls := "WaysAtlas$Reader", name := "statements", desc := "()[LWaysAtlas$Statement;" } : Jvm.MethodName)) ∈ lw_all := lw_g (lw_at lw_m4 4 rfl) rfl
theorem q862 : (Jvm.Cond.privateMethod ({ cls := "WaysAtlas$Reader", name := "statements", desc := "()[LWaysAtlas$Statement;" } : Jvm.MethodName)) ∈ lw_tbl := lw_at lw_m4 5 rfl
theorem q863 : (Jvm.Cond.instanceMethod ({ cls := "WaysAtlas$Reader", name := "statements", desc := "()[LWaysAtlas$Statement;" } : Jvm.MethodName)) ∈ lw_all := lw_g (lw_at lw_m4 6 rfl) rfl
theorem q864 : (Jvm.Cond.code ({ cls := "WaysAtlas$Reader", name := "statements", desc := "()[LWaysAtlas$Statement;" } : Jvm.MethodName) prog_21_method_15_code (3 : Nat) (Option.some (Jvm.ClassFile.FieldType.array (Jvm.ClassFile.FieldType.object "WaysAtlas$Statement")))) ∈ lw_all := lw_g (lw_at lw_m4 7 rfl) rfl
theorem q865 : (Jvm.Cond.methodLink "WaysAtlas$Reader" (142 : Nat) ({ cls := "WaysAtlas$Reader", name := "begins", desc := "()Z" } : Jvm.MethodName)) ∈ lw_all := lw_g (lw_at lw_m4 8 rfl) rfl
theorem q866 : (Jvm.Cond.privateMethod ({ cls := "WaysAtlas$Reader", name := "begins", desc := "()Z" } : Jvm.MethodName)) ∈ lw_tbl := lw_at lw_m4 9 rfl
theorem q867 : (Jvm.Cond.instanceMethod ({ cls := "WaysAtlas$Reader", name := "begins", desc := "()Z" } : Jvm.MethodName)) ∈ lw_all := lw_g (lw_at lw_m4 10 rfl) rfl
theorem q868 : (Jvm.Cond.code ({ cls := "WaysAtlas$Reader", name := "begins", desc := "()Z" } : Jvm.MethodName) prog_21_method_16_code (2 : Nat) (Option.some Jvm.ClassFile.FieldType.boolean)) ∈ lw_all := lw_g (lw_at lw_m4 11 rfl) rfl
theorem q869 : (Jvm.Cond.methodLinkNest "WaysAtlas$Reader" (156 : Nat) ({ cls := "WaysAtlas", name := "isIn", desc := "(III)Z" } : Jvm.MethodName) "WaysAtlas") ∈ lw_tbl := lw_at lw_m4 12 rfl
theorem q870 : (Jvm.Cond.methodLink "WaysAtlas$Reader" (146 : Nat) ({ cls := "WaysAtlas$Reader", name := "statement", desc := "()LWaysAtlas$Statement;" } : Jvm.MethodName)) ∈ lw_all := lw_g (lw_at lw_m4 13 rfl) rfl
theorem q871 : (Jvm.Cond.privateMethod ({ cls := "WaysAtlas$Reader", name := "statement", desc := "()LWaysAtlas$Statement;" } : Jvm.MethodName)) ∈ lw_tbl := lw_at lw_m4 14 rfl
theorem q872 : (Jvm.Cond.instanceMethod ({ cls := "WaysAtlas$Reader", name := "statement", desc := "()LWaysAtlas$Statement;" } : Jvm.MethodName)) ∈ lw_all := lw_g (lw_at lw_m4 15 rfl) rfl
theorem q873 : (Jvm.Cond.code ({ cls := "WaysAtlas$Reader", name := "statement", desc := "()LWaysAtlas$Statement;" } : Jvm.MethodName) prog_21_method_18_code (3 : Nat) (Option.some (Jvm.ClassFile.FieldType.object "WaysAtlas$Statement"))) ∈ lw_all := lw_g (lw_at lw_m4 16 rfl) rfl
theorem q874 : (Jvm.Cond.methodLink "WaysAtlas$Reader" (163 : Nat) ({ cls := "WaysAtlas$Reader", name := "ofVar", desc := "(I)LWaysAtlas$Statement;" } : Jvm.MethodName)) ∈ lw_all := lw_g (lw_at lw_m4 17 rfl) rfl
theorem q875 : (Jvm.Cond.privateMethod ({ cls := "WaysAtlas$Reader", name := "ofVar", desc := "(I)LWaysAtlas$Statement;" } : Jvm.MethodName)) ∈ lw_tbl := lw_at lw_m4 18 rfl
theorem q876 : (Jvm.Cond.instanceMethod ({ cls := "WaysAtlas$Reader", name := "ofVar", desc := "(I)LWaysAtlas$Statement;" } : Jvm.MethodName)) ∈ lw_all := lw_g (lw_at lw_m4 19 rfl) rfl
theorem q877 : (Jvm.Cond.code ({ cls := "WaysAtlas$Reader", name := "ofVar", desc := "(I)LWaysAtlas$Statement;" } : Jvm.MethodName) prog_21_method_19_code (4 : Nat) (Option.some (Jvm.ClassFile.FieldType.object "WaysAtlas$Statement"))) ∈ lw_all := lw_g (lw_at lw_m4 20 rfl) rfl
theorem q878 : (Jvm.Cond.methodLink "WaysAtlas$Reader" (175 : Nat) ({ cls := "WaysAtlas$Reader", name := "name", desc := "(II)I" } : Jvm.MethodName)) ∈ lw_all := lw_g (lw_at lw_m4 21 rfl) rfl
theorem q879 : (Jvm.Cond.privateMethod ({ cls := "WaysAtlas$Reader", name := "name", desc := "(II)I" } : Jvm.MethodName)) ∈ lw_tbl := lw_at lw_m4 22 rfl
theorem q880 : (Jvm.Cond.instanceMethod ({ cls := "WaysAtlas$Reader", name := "name", desc := "(II)I" } : Jvm.MethodName)) ∈ lw_all := lw_g (lw_at lw_m4 23 rfl) rfl
theorem q881 : (Jvm.Cond.code ({ cls := "WaysAtlas$Reader", name := "name", desc := "(II)I" } : Jvm.MethodName) prog_21_method_11_code (3 : Nat) (Option.some Jvm.ClassFile.FieldType.int)) ∈ lw_all := lw_g (lw_at lw_m4 24 rfl) rfl
theorem q882 : (Jvm.Cond.methodLink "WaysAtlas$Reader" (178 : Nat) ({ cls := "WaysAtlas$Reader", name := "call", desc := "(II)LWaysAtlas$Statement;" } : Jvm.MethodName)) ∈ lw_all := lw_g (lw_at lw_m4 25 rfl) rfl
theorem q883 : (Jvm.Cond.privateMethod ({ cls := "WaysAtlas$Reader", name := "call", desc := "(II)LWaysAtlas$Statement;" } : Jvm.MethodName)) ∈ lw_tbl := lw_at lw_m4 26 rfl
theorem q884 : (Jvm.Cond.instanceMethod ({ cls := "WaysAtlas$Reader", name := "call", desc := "(II)LWaysAtlas$Statement;" } : Jvm.MethodName)) ∈ lw_all := lw_g (lw_at lw_m4 27 rfl) rfl
theorem q885 : (Jvm.Cond.code ({ cls := "WaysAtlas$Reader", name := "call", desc := "(II)LWaysAtlas$Statement;" } : Jvm.MethodName) prog_21_method_21_code (6 : Nat) (Option.some (Jvm.ClassFile.FieldType.object "WaysAtlas$Statement"))) ∈ lw_all := lw_g (lw_at lw_m4 28 rfl) rfl
theorem q886 : (Jvm.Cond.methodLink "WaysAtlas$Reader" (182 : Nat) ({ cls := "WaysAtlas$Reader", name := "sum", desc := "()LWaysAtlas$Node;" } : Jvm.MethodName)) ∈ lw_all := lw_g (lw_at lw_m4 29 rfl) rfl
theorem q887 : (Jvm.Cond.privateMethod ({ cls := "WaysAtlas$Reader", name := "sum", desc := "()LWaysAtlas$Node;" } : Jvm.MethodName)) ∈ lw_tbl := lw_at lw_m4 30 rfl
theorem q888 : (Jvm.Cond.instanceMethod ({ cls := "WaysAtlas$Reader", name := "sum", desc := "()LWaysAtlas$Node;" } : Jvm.MethodName)) ∈ lw_all := lw_g (lw_at lw_m4 31 rfl) rfl
theorem q889 : (Jvm.Cond.code ({ cls := "WaysAtlas$Reader", name := "sum", desc := "()LWaysAtlas$Node;" } : Jvm.MethodName) prog_21_method_25_code (3 : Nat) (Option.some (Jvm.ClassFile.FieldType.object "WaysAtlas$Node"))) ∈ lw_all := lw_g (lw_at lw_m4 32 rfl) rfl
theorem q890 : (Jvm.Cond.methodLink "WaysAtlas$Reader" (283 : Nat) ({ cls := "WaysAtlas$Reader", name := "term", desc := "()LWaysAtlas$Node;" } : Jvm.MethodName)) ∈ lw_all := lw_g (lw_at lw_m4 33 rfl) rfl
theorem q891 : (Jvm.Cond.privateMethod ({ cls := "WaysAtlas$Reader", name := "term", desc := "()LWaysAtlas$Node;" } : Jvm.MethodName)) ∈ lw_tbl := lw_at lw_m4 34 rfl
theorem q892 : (Jvm.Cond.instanceMethod ({ cls := "WaysAtlas$Reader", name := "term", desc := "()LWaysAtlas$Node;" } : Jvm.MethodName)) ∈ lw_all := lw_g (lw_at lw_m4 35 rfl) rfl
theorem q893 : (Jvm.Cond.code ({ cls := "WaysAtlas$Reader", name := "term", desc := "()LWaysAtlas$Node;" } : Jvm.MethodName) prog_21_method_26_code (3 : Nat) (Option.some (Jvm.ClassFile.FieldType.object "WaysAtlas$Node"))) ∈ lw_all := lw_g (lw_at lw_m4 36 rfl) rfl
theorem q894 : (Jvm.Cond.methodLink "WaysAtlas$Reader" (291 : Nat) ({ cls := "WaysAtlas$Reader", name := "factor", desc := "()LWaysAtlas$Node;" } : Jvm.MethodName)) ∈ lw_all := lw_g (lw_at lw_m4 37 rfl) rfl
theorem q895 : (Jvm.Cond.privateMethod ({ cls := "WaysAtlas$Reader", name := "factor", desc := "()LWaysAtlas$Node;" } : Jvm.MethodName)) ∈ lw_tbl := lw_at lw_m4 38 rfl
theorem q896 : (Jvm.Cond.instanceMethod ({ cls := "WaysAtlas$Reader", name := "factor", desc := "()LWaysAtlas$Node;" } : Jvm.MethodName)) ∈ lw_all := lw_g (lw_at lw_m4 39 rfl) rfl
theorem q897 : (Jvm.Cond.code ({ cls := "WaysAtlas$Reader", name := "factor", desc := "()LWaysAtlas$Node;" } : Jvm.MethodName) prog_21_method_28_code (3 : Nat) (Option.some (Jvm.ClassFile.FieldType.object "WaysAtlas$Node"))) ∈ lw_all := lw_g (lw_at lw_m4 40 rfl) rfl
theorem q898 : (Jvm.Cond.methodLink "WaysAtlas$Reader" (294 : Nat) ({ cls := "WaysAtlas$Reader", name := "enter", desc := "()V" } : Jvm.MethodName)) ∈ lw_all := lw_g (lw_at lw_m4 41 rfl) rfl
theorem q899 : (Jvm.Cond.privateMethod ({ cls := "WaysAtlas$Reader", name := "enter", desc := "()V" } : Jvm.MethodName)) ∈ lw_tbl := lw_at lw_m4 42 rfl
theorem q900 : (Jvm.Cond.instanceMethod ({ cls := "WaysAtlas$Reader", name := "enter", desc := "()V" } : Jvm.MethodName)) ∈ lw_all := lw_g (lw_at lw_m4 43 rfl) rfl
theorem q901 : (Jvm.Cond.code ({ cls := "WaysAtlas$Reader", name := "enter", desc := "()V" } : Jvm.MethodName) prog_21_method_27_code (1 : Nat) (Option.none : Option Jvm.ClassFile.FieldType)) ∈ lw_all := lw_g (lw_at lw_m4 44 rfl) rfl
theorem q902 : (Jvm.Cond.classLink "WaysAtlas$Reader" (286 : Nat) "WaysAtlas$Sign") ∈ lw_all := lw_g (lw_at lw_m4 45 rfl) rfl
theorem q904 : (Jvm.Cond.methodLink "WaysAtlas$Reader" (288 : Nat) ({ cls := "WaysAtlas$Sign", name := "<init>", desc := "(ILWaysAtlas$Node;LWaysAtlas$Node;)V" } : Jvm.MethodName)) ∈ lw_all := lw_g (lw_at lw_m4 47 rfl) rfl
theorem q921 : (Jvm.Cond.classLink "WaysAtlas$Reader" (297 : Nat) "WaysAtlas$Number") ∈ lw_all := lw_g (lw_at lw_m4 64 rfl) rfl
theorem q923 : (Jvm.Cond.methodLink "WaysAtlas$Reader" (299 : Nat) ({ cls := "WaysAtlas$Number", name := "<init>", desc := "(I)V" } : Jvm.MethodName)) ∈ lw_all := lw_g (lw_at lw_m4 66 rfl) rfl
theorem q931 : (Jvm.Cond.classLink "WaysAtlas$Reader" (300 : Nat) "WaysAtlas$Var") ∈ lw_all := lw_g (lw_at lw_m4 74 rfl) rfl
theorem q933 : (Jvm.Cond.methodLink "WaysAtlas$Reader" (302 : Nat) ({ cls := "WaysAtlas$Var", name := "<init>", desc := "(I)V" } : Jvm.MethodName)) ∈ lw_all := lw_g (lw_at lw_m4 76 rfl) rfl
theorem q941 : (Jvm.Cond.classLink "WaysAtlas$Reader" (193 : Nat) "WaysAtlas$Place") ∈ lw_all := lw_g (lw_at lw_m4 84 rfl) rfl
theorem q943 : (Jvm.Cond.methodLink "WaysAtlas$Reader" (195 : Nat) ({ cls := "WaysAtlas$Place", name := "<init>", desc := "(ILWaysAtlas$Node;)V" } : Jvm.MethodName)) ∈ lw_all := lw_g (lw_at lw_m4 86 rfl) rfl
theorem q955 : (Jvm.Cond.classLink "WaysAtlas$Reader" (212 : Nat) "WaysAtlas$Call") ∈ lw_all := lw_g (lw_at lw_m4 98 rfl) rfl
theorem q957 : (Jvm.Cond.methodLink "WaysAtlas$Reader" (214 : Nat) ({ cls := "WaysAtlas$Call", name := "<init>", desc := "(IIILWaysAtlas$Node;LWaysAtlas$Node;)V" } : Jvm.MethodName)) ∈ lw_all := lw_g (lw_at lw_m4 100 rfl) rfl
theorem q1001 : (Jvm.Cond.classLink "WaysAtlas$Reader" (186 : Nat) "WaysAtlas$SetVar") ∈ lw_all := lw_g (lw_at lw_m4 144 rfl) rfl
theorem q1003 : (Jvm.Cond.methodLink "WaysAtlas$Reader" (188 : Nat) ({ cls := "WaysAtlas$SetVar", name := "<init>", desc := "(IILWaysAtlas$Node;)V" } : Jvm.MethodName)) ∈ lw_all := lw_g (lw_at lw_m4 146 rfl) rfl
theorem q1018 : (Jvm.Cond.methodLink "WaysAtlas$Reader" (167 : Nat) ({ cls := "WaysAtlas$Reader", name := "ofRow", desc := "(I)LWaysAtlas$Statement;" } : Jvm.MethodName)) ∈ lw_all := lw_g (lw_at lw_m4 161 rfl) rfl
theorem q1019 : (Jvm.Cond.privateMethod ({ cls := "WaysAtlas$Reader", name := "ofRow", desc := "(I)LWaysAtlas$Statement;" } : Jvm.MethodName)) ∈ lw_tbl := lw_at lw_m4 162 rfl
theorem q1020 : (Jvm.Cond.instanceMethod ({ cls := "WaysAtlas$Reader", name := "ofRow", desc := "(I)LWaysAtlas$Statement;" } : Jvm.MethodName)) ∈ lw_all := lw_g (lw_at lw_m4 163 rfl) rfl
theorem q1021 : (Jvm.Cond.code ({ cls := "WaysAtlas$Reader", name := "ofRow", desc := "(I)LWaysAtlas$Statement;" } : Jvm.MethodName) prog_21_method_20_code (5 : Nat) (Option.some (Jvm.ClassFile.FieldType.object "WaysAtlas$Statement"))) ∈ lw_all := lw_g (lw_at lw_m4 164 rfl) rfl
theorem q1022 : (Jvm.Cond.classLink "WaysAtlas$Reader" (191 : Nat) "WaysAtlas$PutRow") ∈ lw_all := lw_g (lw_at lw_m4 165 rfl) rfl
theorem q1024 : (Jvm.Cond.methodLink "WaysAtlas$Reader" (198 : Nat) ({ cls := "WaysAtlas$PutRow", name := "<init>", desc := "(ILWaysAtlas$Place;LWaysAtlas$Node;)V" } : Jvm.MethodName)) ∈ lw_all := lw_g (lw_at lw_m4 167 rfl) rfl
theorem q1036 : (Jvm.Cond.methodLink "WaysAtlas$Reader" (201 : Nat) ({ cls := "WaysAtlas$Reader", name := "has", desc := "(I)Z" } : Jvm.MethodName)) ∈ lw_all := lw_g (lw_at lw_m4 179 rfl) rfl
theorem q1037 : (Jvm.Cond.privateMethod ({ cls := "WaysAtlas$Reader", name := "has", desc := "(I)Z" } : Jvm.MethodName)) ∈ lw_tbl := lw_at lw_m4 180 rfl
theorem q1038 : (Jvm.Cond.instanceMethod ({ cls := "WaysAtlas$Reader", name := "has", desc := "(I)Z" } : Jvm.MethodName)) ∈ lw_all := lw_g (lw_at lw_m4 181 rfl) rfl
theorem q1039 : (Jvm.Cond.code ({ cls := "WaysAtlas$Reader", name := "has", desc := "(I)Z" } : Jvm.MethodName) prog_21_method_9_code (3 : Nat) (Option.some Jvm.ClassFile.FieldType.boolean)) ∈ lw_all := lw_g (lw_at lw_m4 182 rfl) rfl
theorem q1040 : (Jvm.Cond.classLink "WaysAtlas$Reader" (204 : Nat) "WaysAtlas$NewRow") ∈ lw_all := lw_g (lw_at lw_m4 183 rfl) rfl
theorem q1042 : (Jvm.Cond.methodLink "WaysAtlas$Reader" (206 : Nat) ({ cls := "WaysAtlas$NewRow", name := "<init>", desc := "(IILWaysAtlas$Node;)V" } : Jvm.MethodName)) ∈ lw_all := lw_g (lw_at lw_m4 185 rfl) rfl
theorem q1054 : (Jvm.Cond.classLink "WaysAtlas$Reader" (207 : Nat) "WaysAtlas$SameRow") ∈ lw_all := lw_g (lw_at lw_m4 197 rfl) rfl
theorem q1056 : (Jvm.Cond.methodLink "WaysAtlas$Reader" (209 : Nat) ({ cls := "WaysAtlas$SameRow", name := "<init>", desc := "(III)V" } : Jvm.MethodName)) ∈ lw_all := lw_g (lw_at lw_m4 199 rfl) rfl
theorem q1068 : (Jvm.Cond.methodLink "WaysAtlas$Reader" (170 : Nat) ({ cls := "WaysAtlas$Reader", name := "ofWord", desc := "(I)LWaysAtlas$Statement;" } : Jvm.MethodName)) ∈ lw_all := lw_g (lw_at lw_m4 211 rfl) rfl
theorem q1069 : (Jvm.Cond.privateMethod ({ cls := "WaysAtlas$Reader", name := "ofWord", desc := "(I)LWaysAtlas$Statement;" } : Jvm.MethodName)) ∈ lw_tbl := lw_at lw_m4 212 rfl
theorem q1070 : (Jvm.Cond.instanceMethod ({ cls := "WaysAtlas$Reader", name := "ofWord", desc := "(I)LWaysAtlas$Statement;" } : Jvm.MethodName)) ∈ lw_all := lw_g (lw_at lw_m4 213 rfl) rfl
theorem q1071 : (Jvm.Cond.code ({ cls := "WaysAtlas$Reader", name := "ofWord", desc := "(I)LWaysAtlas$Statement;" } : Jvm.MethodName) prog_21_method_22_code (6 : Nat) (Option.some (Jvm.ClassFile.FieldType.object "WaysAtlas$Statement"))) ∈ lw_all := lw_g (lw_at lw_m4 214 rfl) rfl
theorem q1072 : (Jvm.Cond.classLink "WaysAtlas$Reader" (217 : Nat) "WaysAtlas$Mark") ∈ lw_all := lw_g (lw_at lw_m4 215 rfl) rfl
theorem q1074 : (Jvm.Cond.methodLink "WaysAtlas$Reader" (219 : Nat) ({ cls := "WaysAtlas$Mark", name := "<init>", desc := "(II)V" } : Jvm.MethodName)) ∈ lw_all := lw_g (lw_at lw_m4 217 rfl) rfl
theorem q1083 : (Jvm.Cond.classLink "WaysAtlas$Reader" (220 : Nat) "WaysAtlas$Return") ∈ lw_all := lw_g (lw_at lw_m4 226 rfl) rfl
theorem q1085 : (Jvm.Cond.methodLink "WaysAtlas$Reader" (222 : Nat) ({ cls := "WaysAtlas$Return", name := "<init>", desc := "(ILWaysAtlas$Node;)V" } : Jvm.MethodName)) ∈ lw_all := lw_g (lw_at lw_m4 228 rfl) rfl
theorem q1094 : (Jvm.Cond.methodLink "WaysAtlas$Reader" (223 : Nat) ({ cls := "WaysAtlas$Reader", name := "branch", desc := "(I)LWaysAtlas$Statement;" } : Jvm.MethodName)) ∈ lw_all := lw_g (lw_at lw_m4 237 rfl) rfl
theorem q1095 : (Jvm.Cond.privateMethod ({ cls := "WaysAtlas$Reader", name := "branch", desc := "(I)LWaysAtlas$Statement;" } : Jvm.MethodName)) ∈ lw_tbl := lw_at lw_m4 238 rfl
theorem q1096 : (Jvm.Cond.instanceMethod ({ cls := "WaysAtlas$Reader", name := "branch", desc := "(I)LWaysAtlas$Statement;" } : Jvm.MethodName)) ∈ lw_all := lw_g (lw_at lw_m4 239 rfl) rfl
theorem q1097 : (Jvm.Cond.code ({ cls := "WaysAtlas$Reader", name := "branch", desc := "(I)LWaysAtlas$Statement;" } : Jvm.MethodName) prog_21_method_23_code (5 : Nat) (Option.some (Jvm.ClassFile.FieldType.object "WaysAtlas$Statement"))) ∈ lw_all := lw_g (lw_at lw_m5 0 rfl) rfl
theorem q1098 : (Jvm.Cond.classLink "WaysAtlas$Reader" (246 : Nat) "WaysAtlas$If") ∈ lw_all := lw_g (lw_at lw_m5 1 rfl) rfl
theorem q1100 : (Jvm.Cond.methodLink "WaysAtlas$Reader" (248 : Nat) ({ cls := "WaysAtlas$If", name := "<init>", desc := "(ILWaysAtlas$Node;ILWaysAtlas$Node;)V" } : Jvm.MethodName)) ∈ lw_all := lw_g (lw_at lw_m5 3 rfl) rfl
theorem q1108 : (Jvm.Cond.fieldLinkNest "WaysAtlas$Reader" (251 : Nat) "WaysAtlas$If" "then" "[LWaysAtlas$Statement;" "WaysAtlas") ∈ lw_tbl := lw_at lw_m5 11 rfl
theorem q1110 : (Jvm.Cond.fieldLinkNest "WaysAtlas$Reader" (254 : Nat) "WaysAtlas$If" "other" "[LWaysAtlas$Statement;" "WaysAtlas") ∈ lw_tbl := lw_at lw_m5 13 rfl
theorem q1123 : (Jvm.Cond.methodLink "WaysAtlas$Reader" (229 : Nat) ({ cls := "WaysAtlas$Reader", name := "block", desc := "()[LWaysAtlas$Statement;" } : Jvm.MethodName)) ∈ lw_all := lw_g (lw_at lw_m5 26 rfl) rfl
theorem q1124 : (Jvm.Cond.privateMethod ({ cls := "WaysAtlas$Reader", name := "block", desc := "()[LWaysAtlas$Statement;" } : Jvm.MethodName)) ∈ lw_tbl := lw_at lw_m5 27 rfl
theorem q1125 : (Jvm.Cond.instanceMethod ({ cls := "WaysAtlas$Reader", name := "block", desc := "()[LWaysAtlas$Statement;" } : Jvm.MethodName)) ∈ lw_all := lw_g (lw_at lw_m5 28 rfl) rfl
theorem q1126 : (Jvm.Cond.code ({ cls := "WaysAtlas$Reader", name := "block", desc := "()[LWaysAtlas$Statement;" } : Jvm.MethodName) prog_21_method_17_code (2 : Nat) (Option.some (Jvm.ClassFile.FieldType.array (Jvm.ClassFile.FieldType.object "WaysAtlas$Statement")))) ∈ lw_all := lw_g (lw_at lw_m5 29 rfl) rfl
theorem q1127 : (Jvm.Cond.classLink "WaysAtlas$Reader" (226 : Nat) "WaysAtlas$Loop") ∈ lw_all := lw_g (lw_at lw_m5 30 rfl) rfl
theorem q1129 : (Jvm.Cond.methodLink "WaysAtlas$Reader" (228 : Nat) ({ cls := "WaysAtlas$Loop", name := "<init>", desc := "(ILWaysAtlas$Node;)V" } : Jvm.MethodName)) ∈ lw_all := lw_g (lw_at lw_m5 32 rfl) rfl
theorem q1135 : (Jvm.Cond.fieldLinkNest "WaysAtlas$Reader" (231 : Nat) "WaysAtlas$Loop" "block" "[LWaysAtlas$Statement;" "WaysAtlas") ∈ lw_tbl := lw_at lw_m5 38 rfl
theorem q1142 : (Jvm.Cond.classLink "WaysAtlas$Reader" (232 : Nat) "WaysAtlas$Leave") ∈ lw_all := lw_g (lw_at lw_m5 45 rfl) rfl
theorem q1144 : (Jvm.Cond.methodLink "WaysAtlas$Reader" (234 : Nat) ({ cls := "WaysAtlas$Leave", name := "<init>", desc := "(II)V" } : Jvm.MethodName)) ∈ lw_all := lw_g (lw_at lw_m5 47 rfl) rfl
theorem q1153 : (Jvm.Cond.classLink "WaysAtlas$Reader" (235 : Nat) "WaysAtlas$Throw") ∈ lw_all := lw_g (lw_at lw_m5 56 rfl) rfl
theorem q1155 : (Jvm.Cond.methodLink "WaysAtlas$Reader" (237 : Nat) ({ cls := "WaysAtlas$Throw", name := "<init>", desc := "(II)V" } : Jvm.MethodName)) ∈ lw_all := lw_g (lw_at lw_m5 58 rfl) rfl
theorem q1164 : (Jvm.Cond.classLink "WaysAtlas$Reader" (238 : Nat) "WaysAtlas$Again") ∈ lw_all := lw_g (lw_at lw_m5 67 rfl) rfl
theorem q1166 : (Jvm.Cond.methodLink "WaysAtlas$Reader" (240 : Nat) ({ cls := "WaysAtlas$Again", name := "<init>", desc := "(IILWaysAtlas$Guard;)V" } : Jvm.MethodName)) ∈ lw_all := lw_g (lw_at lw_m5 69 rfl) rfl
theorem q1178 : (Jvm.Cond.methodLink "WaysAtlas$Reader" (243 : Nat) ({ cls := "WaysAtlas$Reader", name := "guard", desc := "(II)LWaysAtlas$Statement;" } : Jvm.MethodName)) ∈ lw_all := lw_g (lw_at lw_m5 81 rfl) rfl
theorem q1179 : (Jvm.Cond.privateMethod ({ cls := "WaysAtlas$Reader", name := "guard", desc := "(II)LWaysAtlas$Statement;" } : Jvm.MethodName)) ∈ lw_tbl := lw_at lw_m5 82 rfl
theorem q1180 : (Jvm.Cond.instanceMethod ({ cls := "WaysAtlas$Reader", name := "guard", desc := "(II)LWaysAtlas$Statement;" } : Jvm.MethodName)) ∈ lw_all := lw_g (lw_at lw_m5 83 rfl) rfl
theorem q1181 : (Jvm.Cond.code ({ cls := "WaysAtlas$Reader", name := "guard", desc := "(II)LWaysAtlas$Statement;" } : Jvm.MethodName) prog_21_method_24_code (7 : Nat) (Option.some (Jvm.ClassFile.FieldType.object "WaysAtlas$Statement"))) ∈ lw_all := lw_g (lw_at lw_m5 84 rfl) rfl
theorem q1182 : (Jvm.Cond.classLink "WaysAtlas$Reader" (257 : Nat) "WaysAtlas$Guard") ∈ lw_all := lw_g (lw_at lw_m5 85 rfl) rfl
theorem q1184 : (Jvm.Cond.methodLink "WaysAtlas$Reader" (259 : Nat) ({ cls := "WaysAtlas$Guard", name := "<init>", desc := "(II)V" } : Jvm.MethodName)) ∈ lw_all := lw_g (lw_at lw_m5 87 rfl) rfl
theorem q1194 : (Jvm.Cond.fieldLinkNest "WaysAtlas$Reader" (260 : Nat) "WaysAtlas$Guard" "block" "[LWaysAtlas$Statement;" "WaysAtlas") ∈ lw_tbl := lw_at lw_m5 97 rfl
theorem q1200 : (Jvm.Cond.fieldLinkNest "WaysAtlas$Reader" (276 : Nat) "WaysAtlas$Guard" "catches" "[[LWaysAtlas$Statement;" "WaysAtlas") ∈ lw_tbl := lw_at lw_m5 103 rfl
theorem q1203 : (Jvm.Cond.fieldLinkNest "WaysAtlas$Reader" (271 : Nat) "WaysAtlas$Guard" "many" "I" "WaysAtlas") ∈ lw_tbl := lw_at lw_m5 106 rfl
theorem q1206 : (Jvm.Cond.fieldLinkNest "WaysAtlas$Reader" (280 : Nat) "WaysAtlas$Guard" "finish" "[LWaysAtlas$Statement;" "WaysAtlas") ∈ lw_tbl := lw_at lw_m5 109 rfl
theorem q1221 : (Jvm.Cond.methodLink "WaysAtlas$Reader" (272 : Nat) ({ cls := "WaysAtlas$Guard", name := "adds", desc := "(I[LWaysAtlas$Statement;)V" } : Jvm.MethodName)) ∈ lw_all := lw_g (lw_at lw_m5 124 rfl) rfl
theorem q1232 : (Jvm.Cond.methodLink "WaysAtlas$Reader" (150 : Nat) ({ cls := "java/lang/System", name := "arraycopy", desc := "(Ljava/lang/Object;ILjava/lang/Object;II)V" } : Jvm.MethodName)) ∈ lw_all := lw_g (lw_at lw_m5 135 rfl) rfl
theorem q165 : (Jvm.Cond.initialized "WaysAtlas$SetVar") ∈ lw_all := lw_g (lw_at lw_m1 28 rfl) rfl
theorem q454 : (Jvm.Cond.fieldLinkNest "WaysAtlas$SetVar" (17 : Nat) "WaysAtlas$Frame" "vars" "[I" "WaysAtlas") ∈ lw_tbl := lw_at lw_m2 77 rfl
theorem q1002 : (Jvm.Cond.instantiable "WaysAtlas$SetVar" (3 : Nat)) ∈ lw_all := lw_g (lw_at lw_m4 145 rfl) rfl
theorem q1004 : (Jvm.Cond.instanceMethod ({ cls := "WaysAtlas$SetVar", name := "<init>", desc := "(IILWaysAtlas$Node;)V" } : Jvm.MethodName)) ∈ lw_all := lw_g (lw_at lw_m4 147 rfl) rfl
theorem q1005 : (Jvm.Cond.code ({ cls := "WaysAtlas$SetVar", name := "<init>", desc := "(IILWaysAtlas$Node;)V" } : Jvm.MethodName) prog_27_method_1_code (4 : Nat) (Option.none : Option Jvm.ClassFile.FieldType)) ∈ lw_all := lw_g (lw_at lw_m4 148 rfl) rfl
theorem q1006 : (Jvm.Cond.methodLink "WaysAtlas$SetVar" (1 : Nat) ({ cls := "WaysAtlas$Plain", name := "<init>", desc := "(I)V" } : Jvm.MethodName)) ∈ lw_all := lw_g (lw_at lw_m4 149 rfl) rfl
theorem q1010 : (Jvm.Cond.fieldLink "WaysAtlas$SetVar" (7 : Nat) "WaysAtlas$SetVar" "v" "I") ∈ lw_all := lw_g (lw_at lw_m4 153 rfl) rfl
theorem q1011 : (Jvm.Cond.fieldLink "WaysAtlas$SetVar" (13 : Nat) "WaysAtlas$SetVar" "of" "LWaysAtlas$Node;") ∈ lw_all := lw_g (lw_at lw_m4 154 rfl) rfl
theorem q1012 : (Jvm.Cond.laysFinal "WaysAtlas$SetVar" "WaysAtlas$SetVar" "v" "I") ∈ lw_all := lw_g (lw_at lw_m4 155 rfl) rfl
theorem q1013 : (Jvm.Cond.soleField "WaysAtlas$SetVar" "v") ∈ lw_all := lw_g (lw_at lw_m4 156 rfl) rfl
theorem q1014 : (Jvm.Cond.laysFinal "WaysAtlas$SetVar" "WaysAtlas$SetVar" "of" "LWaysAtlas$Node;") ∈ lw_all := lw_g (lw_at lw_m4 157 rfl) rfl
theorem q1015 : (Jvm.Cond.soleField "WaysAtlas$SetVar" "of") ∈ lw_all := lw_g (lw_at lw_m4 158 rfl) rfl
theorem q1016 : (Jvm.Cond.laysFinal "WaysAtlas$SetVar" "WaysAtlas$Statement" "number" "I") ∈ lw_all := lw_g (lw_at lw_m4 159 rfl) rfl
theorem q1017 : (Jvm.Cond.superclass "WaysAtlas$SetVar" "WaysAtlas$Plain") ∈ lw_all := lw_g (lw_at lw_m4 160 rfl) rfl
theorem q1475 : (Jvm.Cond.castable "WaysAtlas$SetVar" "WaysAtlas$Walked") ∈ lw_tbl := lw_at lw_m6 138 rfl
theorem q1476 : (Jvm.Cond.selects "WaysAtlas$SetVar" ({ cls := "WaysAtlas$Walked", name := "tells", desc := "(LWaysAtlas$Lower;)V" } : Jvm.MethodName) ({ cls := "WaysAtlas$Plain", name := "tells", desc := "(LWaysAtlas$Lower;)V" } : Jvm.MethodName)) ∈ lw_all := lw_g (lw_at lw_m6 139 rfl) rfl
theorem q1477 : (Jvm.Cond.unhidden "WaysAtlas$SetVar" "tells" "(LWaysAtlas$Lower;)V") ∈ lw_tbl := lw_at lw_m6 140 rfl
theorem q1513 : (Jvm.Cond.selects "WaysAtlas$SetVar" ({ cls := "WaysAtlas$Statement", name := "isMark", desc := "()Z" } : Jvm.MethodName) ({ cls := "WaysAtlas$Statement", name := "isMark", desc := "()Z" } : Jvm.MethodName)) ∈ lw_all := lw_g (lw_at lw_m6 176 rfl) rfl
theorem q1530 : (Jvm.Cond.selects "WaysAtlas$SetVar" ({ cls := "WaysAtlas$Statement", name := "resources", desc := "()I" } : Jvm.MethodName) ({ cls := "WaysAtlas$Statement", name := "resources", desc := "()I" } : Jvm.MethodName)) ∈ lw_all := lw_g (lw_at lw_m6 193 rfl) rfl
theorem q1751 : (Jvm.Cond.selects "WaysAtlas$SetVar" ({ cls := "WaysAtlas$Plain", name := "does", desc := "(LWaysAtlas$Run;LWaysAtlas$Frame;)V" } : Jvm.MethodName) ({ cls := "WaysAtlas$SetVar", name := "does", desc := "(LWaysAtlas$Run;LWaysAtlas$Frame;)V" } : Jvm.MethodName)) ∈ lw_all := lw_g (lw_at lw_m7 174 rfl) rfl
theorem q1752 : (Jvm.Cond.instanceMethod ({ cls := "WaysAtlas$SetVar", name := "does", desc := "(LWaysAtlas$Run;LWaysAtlas$Frame;)V" } : Jvm.MethodName)) ∈ lw_all := lw_g (lw_at lw_m7 175 rfl) rfl
theorem q1753 : (Jvm.Cond.code ({ cls := "WaysAtlas$SetVar", name := "does", desc := "(LWaysAtlas$Run;LWaysAtlas$Frame;)V" } : Jvm.MethodName) prog_27_method_2_code (3 : Nat) (Option.none : Option Jvm.ClassFile.FieldType)) ∈ lw_all := lw_g (lw_at lw_m7 176 rfl) rfl
theorem q1754 : (Jvm.Cond.methodLink "WaysAtlas$SetVar" (23 : Nat) ({ cls := "WaysAtlas$Node", name := "value", desc := "(LWaysAtlas$Run;LWaysAtlas$Frame;)I" } : Jvm.MethodName)) ∈ lw_all := lw_g (lw_at lw_m7 177 rfl) rfl
theorem q1775 : (Jvm.Cond.selects "WaysAtlas$SetVar" ({ cls := "WaysAtlas$Walked", name := "walk", desc := "(LWaysAtlas$Run;LWaysAtlas$Frame;)I" } : Jvm.MethodName) ({ cls := "WaysAtlas$Plain", name := "walk", desc := "(LWaysAtlas$Run;LWaysAtlas$Frame;)I" } : Jvm.MethodName)) ∈ lw_all := lw_g (lw_at lw_m7 198 rfl) rfl
theorem q1776 : (Jvm.Cond.unhidden "WaysAtlas$SetVar" "walk" "(LWaysAtlas$Run;LWaysAtlas$Frame;)I") ∈ lw_tbl := lw_at lw_m7 199 rfl
theorem q1873 : (Jvm.Cond.selects "WaysAtlas$SetVar" ({ cls := "WaysAtlas$Statement", name := "hasFinish", desc := "()Z" } : Jvm.MethodName) ({ cls := "WaysAtlas$Statement", name := "hasFinish", desc := "()Z" } : Jvm.MethodName)) ∈ lw_all := lw_g (lw_at lw_m8 56 rfl) rfl
theorem q2639 : (Jvm.Cond.castable "WaysAtlas$SetVar" "WaysAtlas$Plain") ∈ lw_tbl := lw_at lw_m11 102 rfl
theorem q2642 : (Jvm.Cond.castable "WaysAtlas$SetVar" "WaysAtlas$Statement") ∈ lw_tbl := lw_at lw_m11 105 rfl
theorem q166 : (Jvm.Cond.initialized "WaysAtlas$PutRow") ∈ lw_all := lw_g (lw_at lw_m1 29 rfl) rfl
theorem q554 : (Jvm.Cond.fieldLinkNest "WaysAtlas$PutRow" (28 : Nat) "WaysAtlas$Run" "cells" "[I" "WaysAtlas") ∈ lw_tbl := lw_at lw_m2 177 rfl
theorem q949 : (Jvm.Cond.fieldLinkNest "WaysAtlas$PutRow" (17 : Nat) "WaysAtlas$Place" "at" "LWaysAtlas$Node;" "WaysAtlas") ∈ lw_tbl := lw_at lw_m4 92 rfl
theorem q1023 : (Jvm.Cond.instantiable "WaysAtlas$PutRow" (3 : Nat)) ∈ lw_all := lw_g (lw_at lw_m4 166 rfl) rfl
theorem q1025 : (Jvm.Cond.instanceMethod ({ cls := "WaysAtlas$PutRow", name := "<init>", desc := "(ILWaysAtlas$Place;LWaysAtlas$Node;)V" } : Jvm.MethodName)) ∈ lw_all := lw_g (lw_at lw_m4 168 rfl) rfl
theorem q1026 : (Jvm.Cond.code ({ cls := "WaysAtlas$PutRow", name := "<init>", desc := "(ILWaysAtlas$Place;LWaysAtlas$Node;)V" } : Jvm.MethodName) prog_20_method_1_code (4 : Nat) (Option.none : Option Jvm.ClassFile.FieldType)) ∈ lw_all := lw_g (lw_at lw_m4 169 rfl) rfl
theorem q1027 : (Jvm.Cond.methodLink "WaysAtlas$PutRow" (1 : Nat) ({ cls := "WaysAtlas$Plain", name := "<init>", desc := "(I)V" } : Jvm.MethodName)) ∈ lw_all := lw_g (lw_at lw_m4 170 rfl) rfl
theorem q1028 : (Jvm.Cond.fieldLink "WaysAtlas$PutRow" (7 : Nat) "WaysAtlas$PutRow" "place" "LWaysAtlas$Place;") ∈ lw_all := lw_g (lw_at lw_m4 171 rfl) rfl
theorem q1029 : (Jvm.Cond.fieldLink "WaysAtlas$PutRow" (13 : Nat) "WaysAtlas$PutRow" "of" "LWaysAtlas$Node;") ∈ lw_all := lw_g (lw_at lw_m4 172 rfl) rfl
theorem q1030 : (Jvm.Cond.laysFinal "WaysAtlas$PutRow" "WaysAtlas$PutRow" "place" "LWaysAtlas$Place;") ∈ lw_all := lw_g (lw_at lw_m4 173 rfl) rfl
theorem q1031 : (Jvm.Cond.soleField "WaysAtlas$PutRow" "place") ∈ lw_all := lw_g (lw_at lw_m4 174 rfl) rfl
theorem q1032 : (Jvm.Cond.laysFinal "WaysAtlas$PutRow" "WaysAtlas$PutRow" "of" "LWaysAtlas$Node;") ∈ lw_all := lw_g (lw_at lw_m4 175 rfl) rfl
theorem q1033 : (Jvm.Cond.soleField "WaysAtlas$PutRow" "of") ∈ lw_all := lw_g (lw_at lw_m4 176 rfl) rfl
theorem q1034 : (Jvm.Cond.laysFinal "WaysAtlas$PutRow" "WaysAtlas$Statement" "number" "I") ∈ lw_all := lw_g (lw_at lw_m4 177 rfl) rfl
theorem q1035 : (Jvm.Cond.superclass "WaysAtlas$PutRow" "WaysAtlas$Plain") ∈ lw_all := lw_g (lw_at lw_m4 178 rfl) rfl
theorem q1461 : (Jvm.Cond.castable "WaysAtlas$PutRow" "WaysAtlas$Walked") ∈ lw_tbl := lw_at lw_m6 124 rfl
theorem q1462 : (Jvm.Cond.selects "WaysAtlas$PutRow" ({ cls := "WaysAtlas$Walked", name := "tells", desc := "(LWaysAtlas$Lower;)V" } : Jvm.MethodName) ({ cls := "WaysAtlas$Plain", name := "tells", desc := "(LWaysAtlas$Lower;)V" } : Jvm.MethodName)) ∈ lw_all := lw_g (lw_at lw_m6 125 rfl) rfl
theorem q1463 : (Jvm.Cond.unhidden "WaysAtlas$PutRow" "tells" "(LWaysAtlas$Lower;)V") ∈ lw_tbl := lw_at lw_m6 126 rfl
theorem q1510 : (Jvm.Cond.selects "WaysAtlas$PutRow" ({ cls := "WaysAtlas$Statement", name := "isMark", desc := "()Z" } : Jvm.MethodName) ({ cls := "WaysAtlas$Statement", name := "isMark", desc := "()Z" } : Jvm.MethodName)) ∈ lw_all := lw_g (lw_at lw_m6 173 rfl) rfl
theorem q1527 : (Jvm.Cond.selects "WaysAtlas$PutRow" ({ cls := "WaysAtlas$Statement", name := "resources", desc := "()I" } : Jvm.MethodName) ({ cls := "WaysAtlas$Statement", name := "resources", desc := "()I" } : Jvm.MethodName)) ∈ lw_all := lw_g (lw_at lw_m6 190 rfl) rfl
theorem q1743 : (Jvm.Cond.selects "WaysAtlas$PutRow" ({ cls := "WaysAtlas$Plain", name := "does", desc := "(LWaysAtlas$Run;LWaysAtlas$Frame;)V" } : Jvm.MethodName) ({ cls := "WaysAtlas$PutRow", name := "does", desc := "(LWaysAtlas$Run;LWaysAtlas$Frame;)V" } : Jvm.MethodName)) ∈ lw_all := lw_g (lw_at lw_m7 166 rfl) rfl
theorem q1744 : (Jvm.Cond.instanceMethod ({ cls := "WaysAtlas$PutRow", name := "does", desc := "(LWaysAtlas$Run;LWaysAtlas$Frame;)V" } : Jvm.MethodName)) ∈ lw_all := lw_g (lw_at lw_m7 167 rfl) rfl
theorem q1745 : (Jvm.Cond.code ({ cls := "WaysAtlas$PutRow", name := "does", desc := "(LWaysAtlas$Run;LWaysAtlas$Frame;)V" } : Jvm.MethodName) prog_20_method_2_code (5 : Nat) (Option.none : Option Jvm.ClassFile.FieldType)) ∈ lw_all := lw_g (lw_at lw_m7 168 rfl) rfl
theorem q1746 : (Jvm.Cond.methodLink "WaysAtlas$PutRow" (22 : Nat) ({ cls := "WaysAtlas$Node", name := "value", desc := "(LWaysAtlas$Run;LWaysAtlas$Frame;)I" } : Jvm.MethodName)) ∈ lw_all := lw_g (lw_at lw_m7 169 rfl) rfl
theorem q1747 : (Jvm.Cond.methodLink "WaysAtlas$PutRow" (34 : Nat) ({ cls := "WaysAtlas$Place", name := "cell", desc := "(LWaysAtlas$Run;LWaysAtlas$Frame;I)I" } : Jvm.MethodName)) ∈ lw_all := lw_g (lw_at lw_m7 170 rfl) rfl
theorem q1761 : (Jvm.Cond.selects "WaysAtlas$PutRow" ({ cls := "WaysAtlas$Walked", name := "walk", desc := "(LWaysAtlas$Run;LWaysAtlas$Frame;)I" } : Jvm.MethodName) ({ cls := "WaysAtlas$Plain", name := "walk", desc := "(LWaysAtlas$Run;LWaysAtlas$Frame;)I" } : Jvm.MethodName)) ∈ lw_all := lw_g (lw_at lw_m7 184 rfl) rfl
theorem q1762 : (Jvm.Cond.unhidden "WaysAtlas$PutRow" "walk" "(LWaysAtlas$Run;LWaysAtlas$Frame;)I") ∈ lw_tbl := lw_at lw_m7 185 rfl
theorem q1870 : (Jvm.Cond.selects "WaysAtlas$PutRow" ({ cls := "WaysAtlas$Statement", name := "hasFinish", desc := "()Z" } : Jvm.MethodName) ({ cls := "WaysAtlas$Statement", name := "hasFinish", desc := "()Z" } : Jvm.MethodName)) ∈ lw_all := lw_g (lw_at lw_m8 53 rfl) rfl
theorem q2637 : (Jvm.Cond.castable "WaysAtlas$PutRow" "WaysAtlas$Plain") ∈ lw_tbl := lw_at lw_m11 100 rfl
theorem q2643 : (Jvm.Cond.castable "WaysAtlas$PutRow" "WaysAtlas$Statement") ∈ lw_tbl := lw_at lw_m11 106 rfl
theorem q167 : (Jvm.Cond.initialized "WaysAtlas$NewRow") ∈ lw_all := lw_g (lw_at lw_m1 30 rfl) rfl
theorem q460 : (Jvm.Cond.fieldLinkNest "WaysAtlas$NewRow" (45 : Nat) "WaysAtlas$Frame" "rows" "[I" "WaysAtlas") ∈ lw_tbl := lw_at lw_m2 83 rfl
theorem q552 : (Jvm.Cond.fieldLinkNest "WaysAtlas$NewRow" (38 : Nat) "WaysAtlas$Run" "rowSize" "[I" "WaysAtlas") ∈ lw_tbl := lw_at lw_m2 175 rfl
theorem q556 : (Jvm.Cond.fieldLinkNest "WaysAtlas$NewRow" (42 : Nat) "WaysAtlas$Run" "cells" "[I" "WaysAtlas") ∈ lw_tbl := lw_at lw_m2 179 rfl
theorem q557 : (Jvm.Cond.fieldLinkNest "WaysAtlas$NewRow" (35 : Nat) "WaysAtlas$Run" "rowMany" "I" "WaysAtlas") ∈ lw_tbl := lw_at lw_m2 180 rfl
theorem q1041 : (Jvm.Cond.instantiable "WaysAtlas$NewRow" (3 : Nat)) ∈ lw_all := lw_g (lw_at lw_m4 184 rfl) rfl
theorem q1043 : (Jvm.Cond.instanceMethod ({ cls := "WaysAtlas$NewRow", name := "<init>", desc := "(IILWaysAtlas$Node;)V" } : Jvm.MethodName)) ∈ lw_all := lw_g (lw_at lw_m4 186 rfl) rfl
theorem q1044 : (Jvm.Cond.code ({ cls := "WaysAtlas$NewRow", name := "<init>", desc := "(IILWaysAtlas$Node;)V" } : Jvm.MethodName) prog_13_method_1_code (4 : Nat) (Option.none : Option Jvm.ClassFile.FieldType)) ∈ lw_all := lw_g (lw_at lw_m4 187 rfl) rfl
theorem q1045 : (Jvm.Cond.methodLink "WaysAtlas$NewRow" (3 : Nat) ({ cls := "WaysAtlas$Plain", name := "<init>", desc := "(I)V" } : Jvm.MethodName)) ∈ lw_all := lw_g (lw_at lw_m4 188 rfl) rfl
theorem q1046 : (Jvm.Cond.fieldLink "WaysAtlas$NewRow" (9 : Nat) "WaysAtlas$NewRow" "row" "I") ∈ lw_all := lw_g (lw_at lw_m4 189 rfl) rfl
theorem q1047 : (Jvm.Cond.fieldLink "WaysAtlas$NewRow" (15 : Nat) "WaysAtlas$NewRow" "of" "LWaysAtlas$Node;") ∈ lw_all := lw_g (lw_at lw_m4 190 rfl) rfl
theorem q1048 : (Jvm.Cond.laysFinal "WaysAtlas$NewRow" "WaysAtlas$NewRow" "row" "I") ∈ lw_all := lw_g (lw_at lw_m4 191 rfl) rfl
theorem q1049 : (Jvm.Cond.soleField "WaysAtlas$NewRow" "row") ∈ lw_all := lw_g (lw_at lw_m4 192 rfl) rfl
theorem q1050 : (Jvm.Cond.laysFinal "WaysAtlas$NewRow" "WaysAtlas$NewRow" "of" "LWaysAtlas$Node;") ∈ lw_all := lw_g (lw_at lw_m4 193 rfl) rfl
theorem q1051 : (Jvm.Cond.soleField "WaysAtlas$NewRow" "of") ∈ lw_all := lw_g (lw_at lw_m4 194 rfl) rfl
theorem q1052 : (Jvm.Cond.laysFinal "WaysAtlas$NewRow" "WaysAtlas$Statement" "number" "I") ∈ lw_all := lw_g (lw_at lw_m4 195 rfl) rfl
theorem q1053 : (Jvm.Cond.superclass "WaysAtlas$NewRow" "WaysAtlas$Plain") ∈ lw_all := lw_g (lw_at lw_m4 196 rfl) rfl
theorem q1458 : (Jvm.Cond.castable "WaysAtlas$NewRow" "WaysAtlas$Walked") ∈ lw_tbl := lw_at lw_m6 121 rfl
theorem q1459 : (Jvm.Cond.selects "WaysAtlas$NewRow" ({ cls := "WaysAtlas$Walked", name := "tells", desc := "(LWaysAtlas$Lower;)V" } : Jvm.MethodName) ({ cls := "WaysAtlas$Plain", name := "tells", desc := "(LWaysAtlas$Lower;)V" } : Jvm.MethodName)) ∈ lw_all := lw_g (lw_at lw_m6 122 rfl) rfl
theorem q1460 : (Jvm.Cond.unhidden "WaysAtlas$NewRow" "tells" "(LWaysAtlas$Lower;)V") ∈ lw_tbl := lw_at lw_m6 123 rfl
theorem q1509 : (Jvm.Cond.selects "WaysAtlas$NewRow" ({ cls := "WaysAtlas$Statement", name := "isMark", desc := "()Z" } : Jvm.MethodName) ({ cls := "WaysAtlas$Statement", name := "isMark", desc := "()Z" } : Jvm.MethodName)) ∈ lw_all := lw_g (lw_at lw_m6 172 rfl) rfl
theorem q1526 : (Jvm.Cond.selects "WaysAtlas$NewRow" ({ cls := "WaysAtlas$Statement", name := "resources", desc := "()I" } : Jvm.MethodName) ({ cls := "WaysAtlas$Statement", name := "resources", desc := "()I" } : Jvm.MethodName)) ∈ lw_all := lw_g (lw_at lw_m6 189 rfl) rfl
theorem q1737 : (Jvm.Cond.selects "WaysAtlas$NewRow" ({ cls := "WaysAtlas$Plain", name := "does", desc := "(LWaysAtlas$Run;LWaysAtlas$Frame;)V" } : Jvm.MethodName) ({ cls := "WaysAtlas$NewRow", name := "does", desc := "(LWaysAtlas$Run;LWaysAtlas$Frame;)V" } : Jvm.MethodName)) ∈ lw_all := lw_g (lw_at lw_m7 160 rfl) rfl
theorem q1738 : (Jvm.Cond.instanceMethod ({ cls := "WaysAtlas$NewRow", name := "does", desc := "(LWaysAtlas$Run;LWaysAtlas$Frame;)V" } : Jvm.MethodName)) ∈ lw_all := lw_g (lw_at lw_m7 161 rfl) rfl
theorem q1739 : (Jvm.Cond.code ({ cls := "WaysAtlas$NewRow", name := "does", desc := "(LWaysAtlas$Run;LWaysAtlas$Frame;)V" } : Jvm.MethodName) prog_13_method_2_code (6 : Nat) (Option.none : Option Jvm.ClassFile.FieldType)) ∈ lw_all := lw_g (lw_at lw_m7 162 rfl) rfl
theorem q1740 : (Jvm.Cond.methodLink "WaysAtlas$NewRow" (19 : Nat) ({ cls := "WaysAtlas$Node", name := "value", desc := "(LWaysAtlas$Run;LWaysAtlas$Frame;)I" } : Jvm.MethodName)) ∈ lw_all := lw_g (lw_at lw_m7 163 rfl) rfl
theorem q1741 : (Jvm.Cond.methodLinkNest "WaysAtlas$NewRow" (25 : Nat) ({ cls := "WaysAtlas", name := "isIn", desc := "(III)Z" } : Jvm.MethodName) "WaysAtlas") ∈ lw_tbl := lw_at lw_m7 164 rfl
theorem q1742 : (Jvm.Cond.methodLink "WaysAtlas$NewRow" (29 : Nat) ({ cls := "WaysAtlas$Run", name := "fails", desc := "(I)LWaysAtlas$Thrown;" } : Jvm.MethodName)) ∈ lw_all := lw_g (lw_at lw_m7 165 rfl) rfl
theorem q1759 : (Jvm.Cond.selects "WaysAtlas$NewRow" ({ cls := "WaysAtlas$Walked", name := "walk", desc := "(LWaysAtlas$Run;LWaysAtlas$Frame;)I" } : Jvm.MethodName) ({ cls := "WaysAtlas$Plain", name := "walk", desc := "(LWaysAtlas$Run;LWaysAtlas$Frame;)I" } : Jvm.MethodName)) ∈ lw_all := lw_g (lw_at lw_m7 182 rfl) rfl
theorem q1760 : (Jvm.Cond.unhidden "WaysAtlas$NewRow" "walk" "(LWaysAtlas$Run;LWaysAtlas$Frame;)I") ∈ lw_tbl := lw_at lw_m7 183 rfl
theorem q1869 : (Jvm.Cond.selects "WaysAtlas$NewRow" ({ cls := "WaysAtlas$Statement", name := "hasFinish", desc := "()Z" } : Jvm.MethodName) ({ cls := "WaysAtlas$Statement", name := "hasFinish", desc := "()Z" } : Jvm.MethodName)) ∈ lw_all := lw_g (lw_at lw_m8 52 rfl) rfl
theorem q2636 : (Jvm.Cond.castable "WaysAtlas$NewRow" "WaysAtlas$Plain") ∈ lw_tbl := lw_at lw_m11 99 rfl
theorem q2644 : (Jvm.Cond.castable "WaysAtlas$NewRow" "WaysAtlas$Statement") ∈ lw_tbl := lw_at lw_m11 107 rfl
theorem q168 : (Jvm.Cond.initialized "WaysAtlas$SameRow") ∈ lw_all := lw_g (lw_at lw_m1 31 rfl) rfl
theorem q458 : (Jvm.Cond.fieldLinkNest "WaysAtlas$SameRow" (18 : Nat) "WaysAtlas$Frame" "rows" "[I" "WaysAtlas") ∈ lw_tbl := lw_at lw_m2 81 rfl
theorem q1055 : (Jvm.Cond.instantiable "WaysAtlas$SameRow" (3 : Nat)) ∈ lw_all := lw_g (lw_at lw_m4 198 rfl) rfl
theorem q1057 : (Jvm.Cond.instanceMethod ({ cls := "WaysAtlas$SameRow", name := "<init>", desc := "(III)V" } : Jvm.MethodName)) ∈ lw_all := lw_g (lw_at lw_m4 200 rfl) rfl
theorem q1058 : (Jvm.Cond.code ({ cls := "WaysAtlas$SameRow", name := "<init>", desc := "(III)V" } : Jvm.MethodName) prog_24_method_1_code (4 : Nat) (Option.none : Option Jvm.ClassFile.FieldType)) ∈ lw_all := lw_g (lw_at lw_m4 201 rfl) rfl
theorem q1059 : (Jvm.Cond.methodLink "WaysAtlas$SameRow" (3 : Nat) ({ cls := "WaysAtlas$Plain", name := "<init>", desc := "(I)V" } : Jvm.MethodName)) ∈ lw_all := lw_g (lw_at lw_m4 202 rfl) rfl
theorem q1060 : (Jvm.Cond.fieldLink "WaysAtlas$SameRow" (9 : Nat) "WaysAtlas$SameRow" "row" "I") ∈ lw_all := lw_g (lw_at lw_m4 203 rfl) rfl
theorem q1061 : (Jvm.Cond.fieldLink "WaysAtlas$SameRow" (15 : Nat) "WaysAtlas$SameRow" "other" "I") ∈ lw_all := lw_g (lw_at lw_m4 204 rfl) rfl
theorem q1062 : (Jvm.Cond.laysFinal "WaysAtlas$SameRow" "WaysAtlas$SameRow" "row" "I") ∈ lw_all := lw_g (lw_at lw_m4 205 rfl) rfl
theorem q1063 : (Jvm.Cond.soleField "WaysAtlas$SameRow" "row") ∈ lw_all := lw_g (lw_at lw_m4 206 rfl) rfl
theorem q1064 : (Jvm.Cond.laysFinal "WaysAtlas$SameRow" "WaysAtlas$SameRow" "other" "I") ∈ lw_all := lw_g (lw_at lw_m4 207 rfl) rfl
theorem q1065 : (Jvm.Cond.soleField "WaysAtlas$SameRow" "other") ∈ lw_all := lw_g (lw_at lw_m4 208 rfl) rfl
theorem q1066 : (Jvm.Cond.laysFinal "WaysAtlas$SameRow" "WaysAtlas$Statement" "number" "I") ∈ lw_all := lw_g (lw_at lw_m4 209 rfl) rfl
theorem q1067 : (Jvm.Cond.superclass "WaysAtlas$SameRow" "WaysAtlas$Plain") ∈ lw_all := lw_g (lw_at lw_m4 210 rfl) rfl
theorem q1472 : (Jvm.Cond.castable "WaysAtlas$SameRow" "WaysAtlas$Walked") ∈ lw_tbl := lw_at lw_m6 135 rfl
theorem q1473 : (Jvm.Cond.selects "WaysAtlas$SameRow" ({ cls := "WaysAtlas$Walked", name := "tells", desc := "(LWaysAtlas$Lower;)V" } : Jvm.MethodName) ({ cls := "WaysAtlas$Plain", name := "tells", desc := "(LWaysAtlas$Lower;)V" } : Jvm.MethodName)) ∈ lw_all := lw_g (lw_at lw_m6 136 rfl) rfl
theorem q1474 : (Jvm.Cond.unhidden "WaysAtlas$SameRow" "tells" "(LWaysAtlas$Lower;)V") ∈ lw_tbl := lw_at lw_m6 137 rfl
theorem q1512 : (Jvm.Cond.selects "WaysAtlas$SameRow" ({ cls := "WaysAtlas$Statement", name := "isMark", desc := "()Z" } : Jvm.MethodName) ({ cls := "WaysAtlas$Statement", name := "isMark", desc := "()Z" } : Jvm.MethodName)) ∈ lw_all := lw_g (lw_at lw_m6 175 rfl) rfl
theorem q1529 : (Jvm.Cond.selects "WaysAtlas$SameRow" ({ cls := "WaysAtlas$Statement", name := "resources", desc := "()I" } : Jvm.MethodName) ({ cls := "WaysAtlas$Statement", name := "resources", desc := "()I" } : Jvm.MethodName)) ∈ lw_all := lw_g (lw_at lw_m6 192 rfl) rfl
theorem q1748 : (Jvm.Cond.selects "WaysAtlas$SameRow" ({ cls := "WaysAtlas$Plain", name := "does", desc := "(LWaysAtlas$Run;LWaysAtlas$Frame;)V" } : Jvm.MethodName) ({ cls := "WaysAtlas$SameRow", name := "does", desc := "(LWaysAtlas$Run;LWaysAtlas$Frame;)V" } : Jvm.MethodName)) ∈ lw_all := lw_g (lw_at lw_m7 171 rfl) rfl
theorem q1749 : (Jvm.Cond.instanceMethod ({ cls := "WaysAtlas$SameRow", name := "does", desc := "(LWaysAtlas$Run;LWaysAtlas$Frame;)V" } : Jvm.MethodName)) ∈ lw_all := lw_g (lw_at lw_m7 172 rfl) rfl
theorem q1750 : (Jvm.Cond.code ({ cls := "WaysAtlas$SameRow", name := "does", desc := "(LWaysAtlas$Run;LWaysAtlas$Frame;)V" } : Jvm.MethodName) prog_24_method_2_code (3 : Nat) (Option.none : Option Jvm.ClassFile.FieldType)) ∈ lw_all := lw_g (lw_at lw_m7 173 rfl) rfl
theorem q1773 : (Jvm.Cond.selects "WaysAtlas$SameRow" ({ cls := "WaysAtlas$Walked", name := "walk", desc := "(LWaysAtlas$Run;LWaysAtlas$Frame;)I" } : Jvm.MethodName) ({ cls := "WaysAtlas$Plain", name := "walk", desc := "(LWaysAtlas$Run;LWaysAtlas$Frame;)I" } : Jvm.MethodName)) ∈ lw_all := lw_g (lw_at lw_m7 196 rfl) rfl
theorem q1774 : (Jvm.Cond.unhidden "WaysAtlas$SameRow" "walk" "(LWaysAtlas$Run;LWaysAtlas$Frame;)I") ∈ lw_tbl := lw_at lw_m7 197 rfl
theorem q1872 : (Jvm.Cond.selects "WaysAtlas$SameRow" ({ cls := "WaysAtlas$Statement", name := "hasFinish", desc := "()Z" } : Jvm.MethodName) ({ cls := "WaysAtlas$Statement", name := "hasFinish", desc := "()Z" } : Jvm.MethodName)) ∈ lw_all := lw_g (lw_at lw_m8 55 rfl) rfl
theorem q2638 : (Jvm.Cond.castable "WaysAtlas$SameRow" "WaysAtlas$Plain") ∈ lw_tbl := lw_at lw_m11 101 rfl
theorem q2645 : (Jvm.Cond.castable "WaysAtlas$SameRow" "WaysAtlas$Statement") ∈ lw_tbl := lw_at lw_m11 108 rfl
theorem q169 : (Jvm.Cond.initialized "WaysAtlas$Mark") ∈ lw_all := lw_g (lw_at lw_m1 32 rfl) rfl
theorem q973 : (Jvm.Cond.fieldLink "WaysAtlas$Mark" (13 : Nat) "WaysAtlas$Mark" "number" "I") ∈ lw_all := lw_g (lw_at lw_m4 116 rfl) rfl
theorem q974 : (Jvm.Cond.sameField "WaysAtlas$Mark" "WaysAtlas$Statement" "number" "I") ∈ lw_all := lw_g (lw_at lw_m4 117 rfl) rfl
theorem q1073 : (Jvm.Cond.instantiable "WaysAtlas$Mark" (2 : Nat)) ∈ lw_all := lw_g (lw_at lw_m4 216 rfl) rfl
theorem q1075 : (Jvm.Cond.instanceMethod ({ cls := "WaysAtlas$Mark", name := "<init>", desc := "(II)V" } : Jvm.MethodName)) ∈ lw_all := lw_g (lw_at lw_m4 218 rfl) rfl
theorem q1076 : (Jvm.Cond.code ({ cls := "WaysAtlas$Mark", name := "<init>", desc := "(II)V" } : Jvm.MethodName) prog_11_method_1_code (3 : Nat) (Option.none : Option Jvm.ClassFile.FieldType)) ∈ lw_all := lw_g (lw_at lw_m4 219 rfl) rfl
theorem q1077 : (Jvm.Cond.methodLink "WaysAtlas$Mark" (1 : Nat) ({ cls := "WaysAtlas$Plain", name := "<init>", desc := "(I)V" } : Jvm.MethodName)) ∈ lw_all := lw_g (lw_at lw_m4 220 rfl) rfl
theorem q1078 : (Jvm.Cond.fieldLink "WaysAtlas$Mark" (7 : Nat) "WaysAtlas$Mark" "v" "I") ∈ lw_all := lw_g (lw_at lw_m4 221 rfl) rfl
theorem q1079 : (Jvm.Cond.laysFinal "WaysAtlas$Mark" "WaysAtlas$Mark" "v" "I") ∈ lw_all := lw_g (lw_at lw_m4 222 rfl) rfl
theorem q1080 : (Jvm.Cond.soleField "WaysAtlas$Mark" "v") ∈ lw_all := lw_g (lw_at lw_m4 223 rfl) rfl
theorem q1081 : (Jvm.Cond.laysFinal "WaysAtlas$Mark" "WaysAtlas$Statement" "number" "I") ∈ lw_all := lw_g (lw_at lw_m4 224 rfl) rfl
theorem q1082 : (Jvm.Cond.superclass "WaysAtlas$Mark" "WaysAtlas$Plain") ∈ lw_all := lw_g (lw_at lw_m4 225 rfl) rfl
theorem q1451 : (Jvm.Cond.castable "WaysAtlas$Mark" "WaysAtlas$Walked") ∈ lw_tbl := lw_at lw_m6 114 rfl
theorem q1452 : (Jvm.Cond.selects "WaysAtlas$Mark" ({ cls := "WaysAtlas$Walked", name := "tells", desc := "(LWaysAtlas$Lower;)V" } : Jvm.MethodName) ({ cls := "WaysAtlas$Plain", name := "tells", desc := "(LWaysAtlas$Lower;)V" } : Jvm.MethodName)) ∈ lw_all := lw_g (lw_at lw_m6 115 rfl) rfl
theorem q1453 : (Jvm.Cond.unhidden "WaysAtlas$Mark" "tells" "(LWaysAtlas$Lower;)V") ∈ lw_tbl := lw_at lw_m6 116 rfl
theorem q1506 : (Jvm.Cond.selects "WaysAtlas$Mark" ({ cls := "WaysAtlas$Statement", name := "isMark", desc := "()Z" } : Jvm.MethodName) ({ cls := "WaysAtlas$Mark", name := "isMark", desc := "()Z" } : Jvm.MethodName)) ∈ lw_all := lw_g (lw_at lw_m6 169 rfl) rfl
theorem q1507 : (Jvm.Cond.instanceMethod ({ cls := "WaysAtlas$Mark", name := "isMark", desc := "()Z" } : Jvm.MethodName)) ∈ lw_all := lw_g (lw_at lw_m6 170 rfl) rfl
theorem q1508 : (Jvm.Cond.code ({ cls := "WaysAtlas$Mark", name := "isMark", desc := "()Z" } : Jvm.MethodName) prog_11_method_2_code (1 : Nat) (Option.some Jvm.ClassFile.FieldType.boolean)) ∈ lw_all := lw_g (lw_at lw_m6 171 rfl) rfl
theorem q1525 : (Jvm.Cond.selects "WaysAtlas$Mark" ({ cls := "WaysAtlas$Statement", name := "resources", desc := "()I" } : Jvm.MethodName) ({ cls := "WaysAtlas$Statement", name := "resources", desc := "()I" } : Jvm.MethodName)) ∈ lw_all := lw_g (lw_at lw_m6 188 rfl) rfl
theorem q1722 : (Jvm.Cond.selects "WaysAtlas$Mark" ({ cls := "WaysAtlas$Walked", name := "walk", desc := "(LWaysAtlas$Run;LWaysAtlas$Frame;)I" } : Jvm.MethodName) ({ cls := "WaysAtlas$Plain", name := "walk", desc := "(LWaysAtlas$Run;LWaysAtlas$Frame;)I" } : Jvm.MethodName)) ∈ lw_all := lw_g (lw_at lw_m7 145 rfl) rfl
theorem q1723 : (Jvm.Cond.unhidden "WaysAtlas$Mark" "walk" "(LWaysAtlas$Run;LWaysAtlas$Frame;)I") ∈ lw_tbl := lw_at lw_m7 146 rfl
theorem q1730 : (Jvm.Cond.selects "WaysAtlas$Mark" ({ cls := "WaysAtlas$Plain", name := "does", desc := "(LWaysAtlas$Run;LWaysAtlas$Frame;)V" } : Jvm.MethodName) ({ cls := "WaysAtlas$Mark", name := "does", desc := "(LWaysAtlas$Run;LWaysAtlas$Frame;)V" } : Jvm.MethodName)) ∈ lw_all := lw_g (lw_at lw_m7 153 rfl) rfl
theorem q1731 : (Jvm.Cond.instanceMethod ({ cls := "WaysAtlas$Mark", name := "does", desc := "(LWaysAtlas$Run;LWaysAtlas$Frame;)V" } : Jvm.MethodName)) ∈ lw_all := lw_g (lw_at lw_m7 154 rfl) rfl
theorem q1732 : (Jvm.Cond.code ({ cls := "WaysAtlas$Mark", name := "does", desc := "(LWaysAtlas$Run;LWaysAtlas$Frame;)V" } : Jvm.MethodName) prog_11_method_3_code (3 : Nat) (Option.none : Option Jvm.ClassFile.FieldType)) ∈ lw_all := lw_g (lw_at lw_m7 155 rfl) rfl
theorem q1733 : (Jvm.Cond.methodLink "WaysAtlas$Mark" (16 : Nat) ({ cls := "WaysAtlas$Run", name := "marks", desc := "(II)V" } : Jvm.MethodName)) ∈ lw_all := lw_g (lw_at lw_m7 156 rfl) rfl
theorem q1868 : (Jvm.Cond.selects "WaysAtlas$Mark" ({ cls := "WaysAtlas$Statement", name := "hasFinish", desc := "()Z" } : Jvm.MethodName) ({ cls := "WaysAtlas$Statement", name := "hasFinish", desc := "()Z" } : Jvm.MethodName)) ∈ lw_all := lw_g (lw_at lw_m8 51 rfl) rfl
theorem q2635 : (Jvm.Cond.castable "WaysAtlas$Mark" "WaysAtlas$Plain") ∈ lw_tbl := lw_at lw_m11 98 rfl
theorem q2646 : (Jvm.Cond.castable "WaysAtlas$Mark" "WaysAtlas$Statement") ∈ lw_tbl := lw_at lw_m11 109 rfl
theorem q170 : (Jvm.Cond.initialized "WaysAtlas$Return") ∈ lw_all := lw_g (lw_at lw_m1 33 rfl) rfl
theorem q465 : (Jvm.Cond.fieldLinkNest "WaysAtlas$Return" (21 : Nat) "WaysAtlas$Frame" "result" "I" "WaysAtlas") ∈ lw_tbl := lw_at lw_m2 88 rfl
theorem q983 : (Jvm.Cond.fieldLink "WaysAtlas$Return" (31 : Nat) "WaysAtlas$Return" "number" "I") ∈ lw_all := lw_g (lw_at lw_m4 126 rfl) rfl
theorem q984 : (Jvm.Cond.sameField "WaysAtlas$Return" "WaysAtlas$Statement" "number" "I") ∈ lw_all := lw_g (lw_at lw_m4 127 rfl) rfl
theorem q1084 : (Jvm.Cond.instantiable "WaysAtlas$Return" (2 : Nat)) ∈ lw_all := lw_g (lw_at lw_m4 227 rfl) rfl
theorem q1086 : (Jvm.Cond.instanceMethod ({ cls := "WaysAtlas$Return", name := "<init>", desc := "(ILWaysAtlas$Node;)V" } : Jvm.MethodName)) ∈ lw_all := lw_g (lw_at lw_m4 229 rfl) rfl
theorem q1087 : (Jvm.Cond.code ({ cls := "WaysAtlas$Return", name := "<init>", desc := "(ILWaysAtlas$Node;)V" } : Jvm.MethodName) prog_22_method_1_code (3 : Nat) (Option.none : Option Jvm.ClassFile.FieldType)) ∈ lw_all := lw_g (lw_at lw_m4 230 rfl) rfl
theorem q1088 : (Jvm.Cond.methodLink "WaysAtlas$Return" (3 : Nat) ({ cls := "WaysAtlas$Statement", name := "<init>", desc := "(I)V" } : Jvm.MethodName)) ∈ lw_all := lw_g (lw_at lw_m4 231 rfl) rfl
theorem q1089 : (Jvm.Cond.fieldLink "WaysAtlas$Return" (9 : Nat) "WaysAtlas$Return" "of" "LWaysAtlas$Node;") ∈ lw_all := lw_g (lw_at lw_m4 232 rfl) rfl
theorem q1090 : (Jvm.Cond.laysFinal "WaysAtlas$Return" "WaysAtlas$Return" "of" "LWaysAtlas$Node;") ∈ lw_all := lw_g (lw_at lw_m4 233 rfl) rfl
theorem q1091 : (Jvm.Cond.soleField "WaysAtlas$Return" "of") ∈ lw_all := lw_g (lw_at lw_m4 234 rfl) rfl
theorem q1092 : (Jvm.Cond.laysFinal "WaysAtlas$Return" "WaysAtlas$Statement" "number" "I") ∈ lw_all := lw_g (lw_at lw_m4 235 rfl) rfl
theorem q1093 : (Jvm.Cond.superclass "WaysAtlas$Return" "WaysAtlas$Statement") ∈ lw_all := lw_g (lw_at lw_m4 236 rfl) rfl
theorem q1464 : (Jvm.Cond.castable "WaysAtlas$Return" "WaysAtlas$Walked") ∈ lw_tbl := lw_at lw_m6 127 rfl
theorem q1465 : (Jvm.Cond.selects "WaysAtlas$Return" ({ cls := "WaysAtlas$Walked", name := "tells", desc := "(LWaysAtlas$Lower;)V" } : Jvm.MethodName) ({ cls := "WaysAtlas$Return", name := "tells", desc := "(LWaysAtlas$Lower;)V" } : Jvm.MethodName)) ∈ lw_all := lw_g (lw_at lw_m6 128 rfl) rfl
theorem q1466 : (Jvm.Cond.unhidden "WaysAtlas$Return" "tells" "(LWaysAtlas$Lower;)V") ∈ lw_tbl := lw_at lw_m6 129 rfl
theorem q1467 : (Jvm.Cond.instanceMethod ({ cls := "WaysAtlas$Return", name := "tells", desc := "(LWaysAtlas$Lower;)V" } : Jvm.MethodName)) ∈ lw_all := lw_g (lw_at lw_m6 130 rfl) rfl
theorem q1468 : (Jvm.Cond.publicMethod ({ cls := "WaysAtlas$Return", name := "tells", desc := "(LWaysAtlas$Lower;)V" } : Jvm.MethodName)) ∈ lw_tbl := lw_at lw_m6 131 rfl
theorem q1469 : (Jvm.Cond.code ({ cls := "WaysAtlas$Return", name := "tells", desc := "(LWaysAtlas$Lower;)V" } : Jvm.MethodName) prog_22_method_4_code (2 : Nat) (Option.none : Option Jvm.ClassFile.FieldType)) ∈ lw_all := lw_g (lw_at lw_m6 132 rfl) rfl
theorem q1470 : (Jvm.Cond.methodLink "WaysAtlas$Return" (34 : Nat) ({ cls := "WaysAtlas$Lower", name := "add", desc := "(III)I" } : Jvm.MethodName)) ∈ lw_all := lw_g (lw_at lw_m6 133 rfl) rfl
theorem q1471 : (Jvm.Cond.methodLink "WaysAtlas$Return" (40 : Nat) ({ cls := "WaysAtlas$Lower", name := "leaves", desc := "(I)V" } : Jvm.MethodName)) ∈ lw_all := lw_g (lw_at lw_m6 134 rfl) rfl
theorem q1511 : (Jvm.Cond.selects "WaysAtlas$Return" ({ cls := "WaysAtlas$Statement", name := "isMark", desc := "()Z" } : Jvm.MethodName) ({ cls := "WaysAtlas$Statement", name := "isMark", desc := "()Z" } : Jvm.MethodName)) ∈ lw_all := lw_g (lw_at lw_m6 174 rfl) rfl
theorem q1528 : (Jvm.Cond.selects "WaysAtlas$Return" ({ cls := "WaysAtlas$Statement", name := "resources", desc := "()I" } : Jvm.MethodName) ({ cls := "WaysAtlas$Statement", name := "resources", desc := "()I" } : Jvm.MethodName)) ∈ lw_all := lw_g (lw_at lw_m6 191 rfl) rfl
theorem q1763 : (Jvm.Cond.selects "WaysAtlas$Return" ({ cls := "WaysAtlas$Walked", name := "walk", desc := "(LWaysAtlas$Run;LWaysAtlas$Frame;)I" } : Jvm.MethodName) ({ cls := "WaysAtlas$Return", name := "walk", desc := "(LWaysAtlas$Run;LWaysAtlas$Frame;)I" } : Jvm.MethodName)) ∈ lw_all := lw_g (lw_at lw_m7 186 rfl) rfl
theorem q1764 : (Jvm.Cond.unhidden "WaysAtlas$Return" "walk" "(LWaysAtlas$Run;LWaysAtlas$Frame;)I") ∈ lw_tbl := lw_at lw_m7 187 rfl
theorem q1765 : (Jvm.Cond.instanceMethod ({ cls := "WaysAtlas$Return", name := "walk", desc := "(LWaysAtlas$Run;LWaysAtlas$Frame;)I" } : Jvm.MethodName)) ∈ lw_all := lw_g (lw_at lw_m7 188 rfl) rfl
theorem q1766 : (Jvm.Cond.publicMethod ({ cls := "WaysAtlas$Return", name := "walk", desc := "(LWaysAtlas$Run;LWaysAtlas$Frame;)I" } : Jvm.MethodName)) ∈ lw_tbl := lw_at lw_m7 189 rfl
theorem q1767 : (Jvm.Cond.code ({ cls := "WaysAtlas$Return", name := "walk", desc := "(LWaysAtlas$Run;LWaysAtlas$Frame;)I" } : Jvm.MethodName) prog_22_method_3_code (3 : Nat) (Option.some Jvm.ClassFile.FieldType.int)) ∈ lw_all := lw_g (lw_at lw_m7 190 rfl) rfl
theorem q1768 : (Jvm.Cond.methodLink "WaysAtlas$Return" (27 : Nat) ({ cls := "WaysAtlas$Return", name := "does", desc := "(LWaysAtlas$Run;LWaysAtlas$Frame;)V" } : Jvm.MethodName)) ∈ lw_all := lw_g (lw_at lw_m7 191 rfl) rfl
theorem q1769 : (Jvm.Cond.instanceMethod ({ cls := "WaysAtlas$Return", name := "does", desc := "(LWaysAtlas$Run;LWaysAtlas$Frame;)V" } : Jvm.MethodName)) ∈ lw_all := lw_g (lw_at lw_m7 192 rfl) rfl
theorem q1770 : (Jvm.Cond.selects "WaysAtlas$Return" ({ cls := "WaysAtlas$Return", name := "does", desc := "(LWaysAtlas$Run;LWaysAtlas$Frame;)V" } : Jvm.MethodName) ({ cls := "WaysAtlas$Return", name := "does", desc := "(LWaysAtlas$Run;LWaysAtlas$Frame;)V" } : Jvm.MethodName)) ∈ lw_all := lw_g (lw_at lw_m7 193 rfl) rfl
theorem q1771 : (Jvm.Cond.code ({ cls := "WaysAtlas$Return", name := "does", desc := "(LWaysAtlas$Run;LWaysAtlas$Frame;)V" } : Jvm.MethodName) prog_22_method_2_code (3 : Nat) (Option.none : Option Jvm.ClassFile.FieldType)) ∈ lw_all := lw_g (lw_at lw_m7 194 rfl) rfl
theorem q1772 : (Jvm.Cond.methodLink "WaysAtlas$Return" (15 : Nat) ({ cls := "WaysAtlas$Node", name := "value", desc := "(LWaysAtlas$Run;LWaysAtlas$Frame;)I" } : Jvm.MethodName)) ∈ lw_all := lw_g (lw_at lw_m7 195 rfl) rfl
theorem q1871 : (Jvm.Cond.selects "WaysAtlas$Return" ({ cls := "WaysAtlas$Statement", name := "hasFinish", desc := "()Z" } : Jvm.MethodName) ({ cls := "WaysAtlas$Statement", name := "hasFinish", desc := "()Z" } : Jvm.MethodName)) ∈ lw_all := lw_g (lw_at lw_m8 54 rfl) rfl
theorem q2647 : (Jvm.Cond.castable "WaysAtlas$Return" "WaysAtlas$Statement") ∈ lw_tbl := lw_at lw_m11 110 rfl
theorem q171 : (Jvm.Cond.initialized "WaysAtlas$If") ∈ lw_all := lw_g (lw_at lw_m1 34 rfl) rfl
theorem q977 : (Jvm.Cond.fieldLink "WaysAtlas$If" (43 : Nat) "WaysAtlas$If" "number" "I") ∈ lw_all := lw_g (lw_at lw_m4 120 rfl) rfl
theorem q978 : (Jvm.Cond.sameField "WaysAtlas$If" "WaysAtlas$Statement" "number" "I") ∈ lw_all := lw_g (lw_at lw_m4 121 rfl) rfl
theorem q1099 : (Jvm.Cond.instantiable "WaysAtlas$If" (6 : Nat)) ∈ lw_all := lw_g (lw_at lw_m5 2 rfl) rfl
theorem q1101 : (Jvm.Cond.instanceMethod ({ cls := "WaysAtlas$If", name := "<init>", desc := "(ILWaysAtlas$Node;ILWaysAtlas$Node;)V" } : Jvm.MethodName)) ∈ lw_all := lw_g (lw_at lw_m5 4 rfl) rfl
theorem q1102 : (Jvm.Cond.code ({ cls := "WaysAtlas$If", name := "<init>", desc := "(ILWaysAtlas$Node;ILWaysAtlas$Node;)V" } : Jvm.MethodName) prog_7_method_1_code (5 : Nat) (Option.none : Option Jvm.ClassFile.FieldType)) ∈ lw_all := lw_g (lw_at lw_m5 5 rfl) rfl
theorem q1103 : (Jvm.Cond.methodLink "WaysAtlas$If" (3 : Nat) ({ cls := "WaysAtlas$Statement", name := "<init>", desc := "(I)V" } : Jvm.MethodName)) ∈ lw_all := lw_g (lw_at lw_m5 6 rfl) rfl
theorem q1104 : (Jvm.Cond.fieldLink "WaysAtlas$If" (9 : Nat) "WaysAtlas$If" "left" "LWaysAtlas$Node;") ∈ lw_all := lw_g (lw_at lw_m5 7 rfl) rfl
theorem q1105 : (Jvm.Cond.fieldLink "WaysAtlas$If" (15 : Nat) "WaysAtlas$If" "sign" "I") ∈ lw_all := lw_g (lw_at lw_m5 8 rfl) rfl
theorem q1106 : (Jvm.Cond.fieldLink "WaysAtlas$If" (19 : Nat) "WaysAtlas$If" "right" "LWaysAtlas$Node;") ∈ lw_all := lw_g (lw_at lw_m5 9 rfl) rfl
theorem q1107 : (Jvm.Cond.fieldLink "WaysAtlas$If" (32 : Nat) "WaysAtlas$If" "then" "[LWaysAtlas$Statement;") ∈ lw_all := lw_g (lw_at lw_m5 10 rfl) rfl
theorem q1109 : (Jvm.Cond.fieldLink "WaysAtlas$If" (36 : Nat) "WaysAtlas$If" "other" "[LWaysAtlas$Statement;") ∈ lw_all := lw_g (lw_at lw_m5 12 rfl) rfl
theorem q1111 : (Jvm.Cond.laysFinal "WaysAtlas$If" "WaysAtlas$If" "left" "LWaysAtlas$Node;") ∈ lw_all := lw_g (lw_at lw_m5 14 rfl) rfl
theorem q1112 : (Jvm.Cond.soleField "WaysAtlas$If" "left") ∈ lw_all := lw_g (lw_at lw_m5 15 rfl) rfl
theorem q1113 : (Jvm.Cond.laysFinal "WaysAtlas$If" "WaysAtlas$If" "sign" "I") ∈ lw_all := lw_g (lw_at lw_m5 16 rfl) rfl
theorem q1114 : (Jvm.Cond.soleField "WaysAtlas$If" "sign") ∈ lw_all := lw_g (lw_at lw_m5 17 rfl) rfl
theorem q1115 : (Jvm.Cond.laysFinal "WaysAtlas$If" "WaysAtlas$If" "right" "LWaysAtlas$Node;") ∈ lw_all := lw_g (lw_at lw_m5 18 rfl) rfl
theorem q1116 : (Jvm.Cond.soleField "WaysAtlas$If" "right") ∈ lw_all := lw_g (lw_at lw_m5 19 rfl) rfl
theorem q1117 : (Jvm.Cond.lays "WaysAtlas$If" "WaysAtlas$If" "then" "[LWaysAtlas$Statement;") ∈ lw_all := lw_g (lw_at lw_m5 20 rfl) rfl
theorem q1118 : (Jvm.Cond.soleField "WaysAtlas$If" "then") ∈ lw_all := lw_g (lw_at lw_m5 21 rfl) rfl
theorem q1119 : (Jvm.Cond.lays "WaysAtlas$If" "WaysAtlas$If" "other" "[LWaysAtlas$Statement;") ∈ lw_all := lw_g (lw_at lw_m5 22 rfl) rfl
theorem q1120 : (Jvm.Cond.soleField "WaysAtlas$If" "other") ∈ lw_all := lw_g (lw_at lw_m5 23 rfl) rfl
theorem q1121 : (Jvm.Cond.laysFinal "WaysAtlas$If" "WaysAtlas$Statement" "number" "I") ∈ lw_all := lw_g (lw_at lw_m5 24 rfl) rfl
theorem q1122 : (Jvm.Cond.superclass "WaysAtlas$If" "WaysAtlas$Statement") ∈ lw_all := lw_g (lw_at lw_m5 25 rfl) rfl
theorem q1245 : (Jvm.Cond.fieldLinkNest "WaysAtlas$If" (56 : Nat) "WaysAtlas$Lower" "size" "I" "WaysAtlas") ∈ lw_tbl := lw_at lw_m5 148 rfl
theorem q1402 : (Jvm.Cond.castable "WaysAtlas$If" "WaysAtlas$Walked") ∈ lw_tbl := lw_at lw_m6 65 rfl
theorem q1403 : (Jvm.Cond.selects "WaysAtlas$If" ({ cls := "WaysAtlas$Walked", name := "tells", desc := "(LWaysAtlas$Lower;)V" } : Jvm.MethodName) ({ cls := "WaysAtlas$If", name := "tells", desc := "(LWaysAtlas$Lower;)V" } : Jvm.MethodName)) ∈ lw_all := lw_g (lw_at lw_m6 66 rfl) rfl
theorem q1404 : (Jvm.Cond.unhidden "WaysAtlas$If" "tells" "(LWaysAtlas$Lower;)V") ∈ lw_tbl := lw_at lw_m6 67 rfl
theorem q1405 : (Jvm.Cond.instanceMethod ({ cls := "WaysAtlas$If", name := "tells", desc := "(LWaysAtlas$Lower;)V" } : Jvm.MethodName)) ∈ lw_all := lw_g (lw_at lw_m6 68 rfl) rfl
theorem q1406 : (Jvm.Cond.publicMethod ({ cls := "WaysAtlas$If", name := "tells", desc := "(LWaysAtlas$Lower;)V" } : Jvm.MethodName)) ∈ lw_tbl := lw_at lw_m6 69 rfl
theorem q1407 : (Jvm.Cond.code ({ cls := "WaysAtlas$If", name := "tells", desc := "(LWaysAtlas$Lower;)V" } : Jvm.MethodName) prog_7_method_4_code (4 : Nat) (Option.none : Option Jvm.ClassFile.FieldType)) ∈ lw_all := lw_g (lw_at lw_m6 70 rfl) rfl
theorem q1408 : (Jvm.Cond.methodLink "WaysAtlas$If" (46 : Nat) ({ cls := "WaysAtlas$Lower", name := "add", desc := "(III)I" } : Jvm.MethodName)) ∈ lw_all := lw_g (lw_at lw_m6 71 rfl) rfl
theorem q1409 : (Jvm.Cond.methodLink "WaysAtlas$If" (52 : Nat) ({ cls := "WaysAtlas$Lower", name := "block", desc := "([LWaysAtlas$Statement;)V" } : Jvm.MethodName)) ∈ lw_all := lw_g (lw_at lw_m6 72 rfl) rfl
theorem q1410 : (Jvm.Cond.methodLink "WaysAtlas$If" (59 : Nat) ({ cls := "WaysAtlas$Lower", name := "lands", desc := "(II)V" } : Jvm.MethodName)) ∈ lw_all := lw_g (lw_at lw_m6 73 rfl) rfl
theorem q1503 : (Jvm.Cond.selects "WaysAtlas$If" ({ cls := "WaysAtlas$Statement", name := "isMark", desc := "()Z" } : Jvm.MethodName) ({ cls := "WaysAtlas$Statement", name := "isMark", desc := "()Z" } : Jvm.MethodName)) ∈ lw_all := lw_g (lw_at lw_m6 166 rfl) rfl
theorem q1522 : (Jvm.Cond.selects "WaysAtlas$If" ({ cls := "WaysAtlas$Statement", name := "resources", desc := "()I" } : Jvm.MethodName) ({ cls := "WaysAtlas$Statement", name := "resources", desc := "()I" } : Jvm.MethodName)) ∈ lw_all := lw_g (lw_at lw_m6 185 rfl) rfl
theorem q1694 : (Jvm.Cond.selects "WaysAtlas$If" ({ cls := "WaysAtlas$Walked", name := "walk", desc := "(LWaysAtlas$Run;LWaysAtlas$Frame;)I" } : Jvm.MethodName) ({ cls := "WaysAtlas$If", name := "walk", desc := "(LWaysAtlas$Run;LWaysAtlas$Frame;)I" } : Jvm.MethodName)) ∈ lw_all := lw_g (lw_at lw_m7 117 rfl) rfl
theorem q1695 : (Jvm.Cond.unhidden "WaysAtlas$If" "walk" "(LWaysAtlas$Run;LWaysAtlas$Frame;)I") ∈ lw_tbl := lw_at lw_m7 118 rfl
theorem q1696 : (Jvm.Cond.instanceMethod ({ cls := "WaysAtlas$If", name := "walk", desc := "(LWaysAtlas$Run;LWaysAtlas$Frame;)I" } : Jvm.MethodName)) ∈ lw_all := lw_g (lw_at lw_m7 119 rfl) rfl
theorem q1697 : (Jvm.Cond.publicMethod ({ cls := "WaysAtlas$If", name := "walk", desc := "(LWaysAtlas$Run;LWaysAtlas$Frame;)I" } : Jvm.MethodName)) ∈ lw_tbl := lw_at lw_m7 120 rfl
theorem q1698 : (Jvm.Cond.code ({ cls := "WaysAtlas$If", name := "walk", desc := "(LWaysAtlas$Run;LWaysAtlas$Frame;)I" } : Jvm.MethodName) prog_7_method_3_code (3 : Nat) (Option.some Jvm.ClassFile.FieldType.int)) ∈ lw_all := lw_g (lw_at lw_m7 121 rfl) rfl
theorem q1699 : (Jvm.Cond.methodLink "WaysAtlas$If" (28 : Nat) ({ cls := "WaysAtlas$If", name := "holds", desc := "(LWaysAtlas$Run;LWaysAtlas$Frame;)Z" } : Jvm.MethodName)) ∈ lw_all := lw_g (lw_at lw_m7 122 rfl) rfl
theorem q1700 : (Jvm.Cond.instanceMethod ({ cls := "WaysAtlas$If", name := "holds", desc := "(LWaysAtlas$Run;LWaysAtlas$Frame;)Z" } : Jvm.MethodName)) ∈ lw_all := lw_g (lw_at lw_m7 123 rfl) rfl
theorem q1701 : (Jvm.Cond.selects "WaysAtlas$If" ({ cls := "WaysAtlas$If", name := "holds", desc := "(LWaysAtlas$Run;LWaysAtlas$Frame;)Z" } : Jvm.MethodName) ({ cls := "WaysAtlas$If", name := "holds", desc := "(LWaysAtlas$Run;LWaysAtlas$Frame;)Z" } : Jvm.MethodName)) ∈ lw_all := lw_g (lw_at lw_m7 124 rfl) rfl
theorem q1702 : (Jvm.Cond.code ({ cls := "WaysAtlas$If", name := "holds", desc := "(LWaysAtlas$Run;LWaysAtlas$Frame;)Z" } : Jvm.MethodName) prog_7_method_2_code (5 : Nat) (Option.some Jvm.ClassFile.FieldType.boolean)) ∈ lw_all := lw_g (lw_at lw_m7 125 rfl) rfl
theorem q1703 : (Jvm.Cond.methodLink "WaysAtlas$If" (22 : Nat) ({ cls := "WaysAtlas$Node", name := "value", desc := "(LWaysAtlas$Run;LWaysAtlas$Frame;)I" } : Jvm.MethodName)) ∈ lw_all := lw_g (lw_at lw_m7 126 rfl) rfl
theorem q1704 : (Jvm.Cond.methodLinkNest "WaysAtlas$If" (39 : Nat) ({ cls := "WaysAtlas", name := "walks", desc := "([LWaysAtlas$Statement;LWaysAtlas$Run;LWaysAtlas$Frame;)I" } : Jvm.MethodName) "WaysAtlas") ∈ lw_tbl := lw_at lw_m7 127 rfl
theorem q1865 : (Jvm.Cond.selects "WaysAtlas$If" ({ cls := "WaysAtlas$Statement", name := "hasFinish", desc := "()Z" } : Jvm.MethodName) ({ cls := "WaysAtlas$Statement", name := "hasFinish", desc := "()Z" } : Jvm.MethodName)) ∈ lw_all := lw_g (lw_at lw_m8 48 rfl) rfl
theorem q2648 : (Jvm.Cond.castable "WaysAtlas$If" "WaysAtlas$Statement") ∈ lw_tbl := lw_at lw_m11 111 rfl
theorem q172 : (Jvm.Cond.initialized "WaysAtlas$Loop") ∈ lw_all := lw_g (lw_at lw_m1 35 rfl) rfl
theorem q979 : (Jvm.Cond.fieldLink "WaysAtlas$Loop" (38 : Nat) "WaysAtlas$Loop" "number" "I") ∈ lw_all := lw_g (lw_at lw_m4 122 rfl) rfl
theorem q980 : (Jvm.Cond.sameField "WaysAtlas$Loop" "WaysAtlas$Statement" "number" "I") ∈ lw_all := lw_g (lw_at lw_m4 123 rfl) rfl
theorem q1128 : (Jvm.Cond.instantiable "WaysAtlas$Loop" (3 : Nat)) ∈ lw_all := lw_g (lw_at lw_m5 31 rfl) rfl
theorem q1130 : (Jvm.Cond.instanceMethod ({ cls := "WaysAtlas$Loop", name := "<init>", desc := "(ILWaysAtlas$Node;)V" } : Jvm.MethodName)) ∈ lw_all := lw_g (lw_at lw_m5 33 rfl) rfl
theorem q1131 : (Jvm.Cond.code ({ cls := "WaysAtlas$Loop", name := "<init>", desc := "(ILWaysAtlas$Node;)V" } : Jvm.MethodName) prog_9_method_1_code (3 : Nat) (Option.none : Option Jvm.ClassFile.FieldType)) ∈ lw_all := lw_g (lw_at lw_m5 34 rfl) rfl
theorem q1132 : (Jvm.Cond.methodLink "WaysAtlas$Loop" (3 : Nat) ({ cls := "WaysAtlas$Statement", name := "<init>", desc := "(I)V" } : Jvm.MethodName)) ∈ lw_all := lw_g (lw_at lw_m5 35 rfl) rfl
theorem q1133 : (Jvm.Cond.fieldLink "WaysAtlas$Loop" (9 : Nat) "WaysAtlas$Loop" "of" "LWaysAtlas$Node;") ∈ lw_all := lw_g (lw_at lw_m5 36 rfl) rfl
theorem q1134 : (Jvm.Cond.fieldLink "WaysAtlas$Loop" (30 : Nat) "WaysAtlas$Loop" "block" "[LWaysAtlas$Statement;") ∈ lw_all := lw_g (lw_at lw_m5 37 rfl) rfl
theorem q1136 : (Jvm.Cond.laysFinal "WaysAtlas$Loop" "WaysAtlas$Loop" "of" "LWaysAtlas$Node;") ∈ lw_all := lw_g (lw_at lw_m5 39 rfl) rfl
theorem q1137 : (Jvm.Cond.soleField "WaysAtlas$Loop" "of") ∈ lw_all := lw_g (lw_at lw_m5 40 rfl) rfl
theorem q1138 : (Jvm.Cond.lays "WaysAtlas$Loop" "WaysAtlas$Loop" "block" "[LWaysAtlas$Statement;") ∈ lw_all := lw_g (lw_at lw_m5 41 rfl) rfl
theorem q1139 : (Jvm.Cond.soleField "WaysAtlas$Loop" "block") ∈ lw_all := lw_g (lw_at lw_m5 42 rfl) rfl
theorem q1140 : (Jvm.Cond.laysFinal "WaysAtlas$Loop" "WaysAtlas$Statement" "number" "I") ∈ lw_all := lw_g (lw_at lw_m5 43 rfl) rfl
theorem q1141 : (Jvm.Cond.superclass "WaysAtlas$Loop" "WaysAtlas$Statement") ∈ lw_all := lw_g (lw_at lw_m5 44 rfl) rfl
theorem q1246 : (Jvm.Cond.fieldLinkNest "WaysAtlas$Loop" (52 : Nat) "WaysAtlas$Lower" "size" "I" "WaysAtlas") ∈ lw_tbl := lw_at lw_m5 149 rfl
theorem q1346 : (Jvm.Cond.fieldLinkNest "WaysAtlas$Loop" (59 : Nat) "WaysAtlas$Scope" "goal" "I" "WaysAtlas") ∈ lw_tbl := lw_at lw_m6 9 rfl
theorem q1435 : (Jvm.Cond.castable "WaysAtlas$Loop" "WaysAtlas$Walked") ∈ lw_tbl := lw_at lw_m6 98 rfl
theorem q1436 : (Jvm.Cond.selects "WaysAtlas$Loop" ({ cls := "WaysAtlas$Walked", name := "tells", desc := "(LWaysAtlas$Lower;)V" } : Jvm.MethodName) ({ cls := "WaysAtlas$Loop", name := "tells", desc := "(LWaysAtlas$Lower;)V" } : Jvm.MethodName)) ∈ lw_all := lw_g (lw_at lw_m6 99 rfl) rfl
theorem q1437 : (Jvm.Cond.unhidden "WaysAtlas$Loop" "tells" "(LWaysAtlas$Lower;)V") ∈ lw_tbl := lw_at lw_m6 100 rfl
theorem q1438 : (Jvm.Cond.instanceMethod ({ cls := "WaysAtlas$Loop", name := "tells", desc := "(LWaysAtlas$Lower;)V" } : Jvm.MethodName)) ∈ lw_all := lw_g (lw_at lw_m6 101 rfl) rfl
theorem q1439 : (Jvm.Cond.publicMethod ({ cls := "WaysAtlas$Loop", name := "tells", desc := "(LWaysAtlas$Lower;)V" } : Jvm.MethodName)) ∈ lw_tbl := lw_at lw_m6 102 rfl
theorem q1440 : (Jvm.Cond.code ({ cls := "WaysAtlas$Loop", name := "tells", desc := "(LWaysAtlas$Lower;)V" } : Jvm.MethodName) prog_9_method_5_code (6 : Nat) (Option.none : Option Jvm.ClassFile.FieldType)) ∈ lw_all := lw_g (lw_at lw_m6 103 rfl) rfl
theorem q1441 : (Jvm.Cond.methodLink "WaysAtlas$Loop" (42 : Nat) ({ cls := "WaysAtlas$Loop", name := "slot", desc := "()I" } : Jvm.MethodName)) ∈ lw_all := lw_g (lw_at lw_m6 104 rfl) rfl
theorem q1442 : (Jvm.Cond.instanceMethod ({ cls := "WaysAtlas$Loop", name := "slot", desc := "()I" } : Jvm.MethodName)) ∈ lw_all := lw_g (lw_at lw_m6 105 rfl) rfl
theorem q1443 : (Jvm.Cond.selects "WaysAtlas$Loop" ({ cls := "WaysAtlas$Loop", name := "slot", desc := "()I" } : Jvm.MethodName) ({ cls := "WaysAtlas$Loop", name := "slot", desc := "()I" } : Jvm.MethodName)) ∈ lw_all := lw_g (lw_at lw_m6 106 rfl) rfl
theorem q1444 : (Jvm.Cond.code ({ cls := "WaysAtlas$Loop", name := "slot", desc := "()I" } : Jvm.MethodName) prog_9_method_4_code (1 : Nat) (Option.some Jvm.ClassFile.FieldType.int)) ∈ lw_all := lw_g (lw_at lw_m6 107 rfl) rfl
theorem q1445 : (Jvm.Cond.methodLink "WaysAtlas$Loop" (46 : Nat) ({ cls := "WaysAtlas$Lower", name := "add", desc := "(III)I" } : Jvm.MethodName)) ∈ lw_all := lw_g (lw_at lw_m6 108 rfl) rfl
theorem q1446 : (Jvm.Cond.methodLink "WaysAtlas$Loop" (55 : Nat) ({ cls := "WaysAtlas$Lower", name := "enters", desc := "(ILWaysAtlas$Statement;)LWaysAtlas$Scope;" } : Jvm.MethodName)) ∈ lw_all := lw_g (lw_at lw_m6 109 rfl) rfl
theorem q1447 : (Jvm.Cond.methodLink "WaysAtlas$Loop" (64 : Nat) ({ cls := "WaysAtlas$Lower", name := "block", desc := "([LWaysAtlas$Statement;)V" } : Jvm.MethodName)) ∈ lw_all := lw_g (lw_at lw_m6 110 rfl) rfl
theorem q1448 : (Jvm.Cond.methodLink "WaysAtlas$Loop" (67 : Nat) ({ cls := "WaysAtlas$Lower", name := "exits", desc := "()V" } : Jvm.MethodName)) ∈ lw_all := lw_g (lw_at lw_m6 111 rfl) rfl
theorem q1449 : (Jvm.Cond.methodLink "WaysAtlas$Loop" (70 : Nat) ({ cls := "WaysAtlas$Lower", name := "lands", desc := "(II)V" } : Jvm.MethodName)) ∈ lw_all := lw_g (lw_at lw_m6 112 rfl) rfl
theorem q1450 : (Jvm.Cond.methodLink "WaysAtlas$Loop" (74 : Nat) ({ cls := "WaysAtlas$Scope", name := "lands", desc := "(LWaysAtlas$Lower;I)V" } : Jvm.MethodName)) ∈ lw_all := lw_g (lw_at lw_m6 113 rfl) rfl
theorem q1505 : (Jvm.Cond.selects "WaysAtlas$Loop" ({ cls := "WaysAtlas$Statement", name := "isMark", desc := "()Z" } : Jvm.MethodName) ({ cls := "WaysAtlas$Statement", name := "isMark", desc := "()Z" } : Jvm.MethodName)) ∈ lw_all := lw_g (lw_at lw_m6 168 rfl) rfl
theorem q1524 : (Jvm.Cond.selects "WaysAtlas$Loop" ({ cls := "WaysAtlas$Statement", name := "resources", desc := "()I" } : Jvm.MethodName) ({ cls := "WaysAtlas$Statement", name := "resources", desc := "()I" } : Jvm.MethodName)) ∈ lw_all := lw_g (lw_at lw_m6 187 rfl) rfl
theorem q1710 : (Jvm.Cond.selects "WaysAtlas$Loop" ({ cls := "WaysAtlas$Walked", name := "walk", desc := "(LWaysAtlas$Run;LWaysAtlas$Frame;)I" } : Jvm.MethodName) ({ cls := "WaysAtlas$Loop", name := "walk", desc := "(LWaysAtlas$Run;LWaysAtlas$Frame;)I" } : Jvm.MethodName)) ∈ lw_all := lw_g (lw_at lw_m7 133 rfl) rfl
theorem q1711 : (Jvm.Cond.unhidden "WaysAtlas$Loop" "walk" "(LWaysAtlas$Run;LWaysAtlas$Frame;)I") ∈ lw_tbl := lw_at lw_m7 134 rfl
theorem q1712 : (Jvm.Cond.instanceMethod ({ cls := "WaysAtlas$Loop", name := "walk", desc := "(LWaysAtlas$Run;LWaysAtlas$Frame;)I" } : Jvm.MethodName)) ∈ lw_all := lw_g (lw_at lw_m7 135 rfl) rfl
theorem q1713 : (Jvm.Cond.publicMethod ({ cls := "WaysAtlas$Loop", name := "walk", desc := "(LWaysAtlas$Run;LWaysAtlas$Frame;)I" } : Jvm.MethodName)) ∈ lw_tbl := lw_at lw_m7 136 rfl
theorem q1714 : (Jvm.Cond.code ({ cls := "WaysAtlas$Loop", name := "walk", desc := "(LWaysAtlas$Run;LWaysAtlas$Frame;)I" } : Jvm.MethodName) prog_9_method_3_code (6 : Nat) (Option.some Jvm.ClassFile.FieldType.int)) ∈ lw_all := lw_g (lw_at lw_m7 137 rfl) rfl
theorem q1715 : (Jvm.Cond.methodLink "WaysAtlas$Loop" (21 : Nat) ({ cls := "WaysAtlas$Loop", name := "turns", desc := "(LWaysAtlas$Run;LWaysAtlas$Frame;)I" } : Jvm.MethodName)) ∈ lw_all := lw_g (lw_at lw_m7 138 rfl) rfl
theorem q1716 : (Jvm.Cond.instanceMethod ({ cls := "WaysAtlas$Loop", name := "turns", desc := "(LWaysAtlas$Run;LWaysAtlas$Frame;)I" } : Jvm.MethodName)) ∈ lw_all := lw_g (lw_at lw_m7 139 rfl) rfl
theorem q1717 : (Jvm.Cond.selects "WaysAtlas$Loop" ({ cls := "WaysAtlas$Loop", name := "turns", desc := "(LWaysAtlas$Run;LWaysAtlas$Frame;)I" } : Jvm.MethodName) ({ cls := "WaysAtlas$Loop", name := "turns", desc := "(LWaysAtlas$Run;LWaysAtlas$Frame;)I" } : Jvm.MethodName)) ∈ lw_all := lw_g (lw_at lw_m7 140 rfl) rfl
theorem q1718 : (Jvm.Cond.code ({ cls := "WaysAtlas$Loop", name := "turns", desc := "(LWaysAtlas$Run;LWaysAtlas$Frame;)I" } : Jvm.MethodName) prog_9_method_2_code (3 : Nat) (Option.some Jvm.ClassFile.FieldType.int)) ∈ lw_all := lw_g (lw_at lw_m7 141 rfl) rfl
theorem q1719 : (Jvm.Cond.methodLink "WaysAtlas$Loop" (15 : Nat) ({ cls := "WaysAtlas$Node", name := "value", desc := "(LWaysAtlas$Run;LWaysAtlas$Frame;)I" } : Jvm.MethodName)) ∈ lw_all := lw_g (lw_at lw_m7 142 rfl) rfl
theorem q1720 : (Jvm.Cond.methodLink "WaysAtlas$Loop" (24 : Nat) ({ cls := "WaysAtlas$Run", name := "step", desc := "()V" } : Jvm.MethodName)) ∈ lw_all := lw_g (lw_at lw_m7 143 rfl) rfl
theorem q1721 : (Jvm.Cond.methodLinkNest "WaysAtlas$Loop" (34 : Nat) ({ cls := "WaysAtlas", name := "walks", desc := "([LWaysAtlas$Statement;LWaysAtlas$Run;LWaysAtlas$Frame;)I" } : Jvm.MethodName) "WaysAtlas") ∈ lw_tbl := lw_at lw_m7 144 rfl
theorem q1867 : (Jvm.Cond.selects "WaysAtlas$Loop" ({ cls := "WaysAtlas$Statement", name := "hasFinish", desc := "()Z" } : Jvm.MethodName) ({ cls := "WaysAtlas$Statement", name := "hasFinish", desc := "()Z" } : Jvm.MethodName)) ∈ lw_all := lw_g (lw_at lw_m8 50 rfl) rfl
theorem q2649 : (Jvm.Cond.castable "WaysAtlas$Loop" "WaysAtlas$Statement") ∈ lw_tbl := lw_at lw_m11 112 rfl
theorem q173 : (Jvm.Cond.initialized "WaysAtlas$Leave") ∈ lw_all := lw_g (lw_at lw_m1 36 rfl) rfl
theorem q1143 : (Jvm.Cond.instantiable "WaysAtlas$Leave" (2 : Nat)) ∈ lw_all := lw_g (lw_at lw_m5 46 rfl) rfl
theorem q1145 : (Jvm.Cond.instanceMethod ({ cls := "WaysAtlas$Leave", name := "<init>", desc := "(II)V" } : Jvm.MethodName)) ∈ lw_all := lw_g (lw_at lw_m5 48 rfl) rfl
theorem q1146 : (Jvm.Cond.code ({ cls := "WaysAtlas$Leave", name := "<init>", desc := "(II)V" } : Jvm.MethodName) prog_8_method_1_code (3 : Nat) (Option.none : Option Jvm.ClassFile.FieldType)) ∈ lw_all := lw_g (lw_at lw_m5 49 rfl) rfl
theorem q1147 : (Jvm.Cond.methodLink "WaysAtlas$Leave" (1 : Nat) ({ cls := "WaysAtlas$Statement", name := "<init>", desc := "(I)V" } : Jvm.MethodName)) ∈ lw_all := lw_g (lw_at lw_m5 50 rfl) rfl
theorem q1148 : (Jvm.Cond.fieldLink "WaysAtlas$Leave" (7 : Nat) "WaysAtlas$Leave" "way" "I") ∈ lw_all := lw_g (lw_at lw_m5 51 rfl) rfl
theorem q1149 : (Jvm.Cond.laysFinal "WaysAtlas$Leave" "WaysAtlas$Leave" "way" "I") ∈ lw_all := lw_g (lw_at lw_m5 52 rfl) rfl
theorem q1150 : (Jvm.Cond.soleField "WaysAtlas$Leave" "way") ∈ lw_all := lw_g (lw_at lw_m5 53 rfl) rfl
theorem q1151 : (Jvm.Cond.laysFinal "WaysAtlas$Leave" "WaysAtlas$Statement" "number" "I") ∈ lw_all := lw_g (lw_at lw_m5 54 rfl) rfl
theorem q1152 : (Jvm.Cond.superclass "WaysAtlas$Leave" "WaysAtlas$Statement") ∈ lw_all := lw_g (lw_at lw_m5 55 rfl) rfl
theorem q1411 : (Jvm.Cond.castable "WaysAtlas$Leave" "WaysAtlas$Walked") ∈ lw_tbl := lw_at lw_m6 74 rfl
theorem q1412 : (Jvm.Cond.selects "WaysAtlas$Leave" ({ cls := "WaysAtlas$Walked", name := "tells", desc := "(LWaysAtlas$Lower;)V" } : Jvm.MethodName) ({ cls := "WaysAtlas$Leave", name := "tells", desc := "(LWaysAtlas$Lower;)V" } : Jvm.MethodName)) ∈ lw_all := lw_g (lw_at lw_m6 75 rfl) rfl
theorem q1413 : (Jvm.Cond.unhidden "WaysAtlas$Leave" "tells" "(LWaysAtlas$Lower;)V") ∈ lw_tbl := lw_at lw_m6 76 rfl
theorem q1414 : (Jvm.Cond.instanceMethod ({ cls := "WaysAtlas$Leave", name := "tells", desc := "(LWaysAtlas$Lower;)V" } : Jvm.MethodName)) ∈ lw_all := lw_g (lw_at lw_m6 77 rfl) rfl
theorem q1415 : (Jvm.Cond.publicMethod ({ cls := "WaysAtlas$Leave", name := "tells", desc := "(LWaysAtlas$Lower;)V" } : Jvm.MethodName)) ∈ lw_tbl := lw_at lw_m6 78 rfl
theorem q1416 : (Jvm.Cond.code ({ cls := "WaysAtlas$Leave", name := "tells", desc := "(LWaysAtlas$Lower;)V" } : Jvm.MethodName) prog_8_method_3_code (2 : Nat) (Option.none : Option Jvm.ClassFile.FieldType)) ∈ lw_all := lw_g (lw_at lw_m6 79 rfl) rfl
theorem q1417 : (Jvm.Cond.methodLink "WaysAtlas$Leave" (13 : Nat) ({ cls := "WaysAtlas$Lower", name := "leaves", desc := "(I)V" } : Jvm.MethodName)) ∈ lw_all := lw_g (lw_at lw_m6 80 rfl) rfl
theorem q1504 : (Jvm.Cond.selects "WaysAtlas$Leave" ({ cls := "WaysAtlas$Statement", name := "isMark", desc := "()Z" } : Jvm.MethodName) ({ cls := "WaysAtlas$Statement", name := "isMark", desc := "()Z" } : Jvm.MethodName)) ∈ lw_all := lw_g (lw_at lw_m6 167 rfl) rfl
theorem q1523 : (Jvm.Cond.selects "WaysAtlas$Leave" ({ cls := "WaysAtlas$Statement", name := "resources", desc := "()I" } : Jvm.MethodName) ({ cls := "WaysAtlas$Statement", name := "resources", desc := "()I" } : Jvm.MethodName)) ∈ lw_all := lw_g (lw_at lw_m6 186 rfl) rfl
theorem q1705 : (Jvm.Cond.selects "WaysAtlas$Leave" ({ cls := "WaysAtlas$Walked", name := "walk", desc := "(LWaysAtlas$Run;LWaysAtlas$Frame;)I" } : Jvm.MethodName) ({ cls := "WaysAtlas$Leave", name := "walk", desc := "(LWaysAtlas$Run;LWaysAtlas$Frame;)I" } : Jvm.MethodName)) ∈ lw_all := lw_g (lw_at lw_m7 128 rfl) rfl
theorem q1706 : (Jvm.Cond.unhidden "WaysAtlas$Leave" "walk" "(LWaysAtlas$Run;LWaysAtlas$Frame;)I") ∈ lw_tbl := lw_at lw_m7 129 rfl
theorem q1707 : (Jvm.Cond.instanceMethod ({ cls := "WaysAtlas$Leave", name := "walk", desc := "(LWaysAtlas$Run;LWaysAtlas$Frame;)I" } : Jvm.MethodName)) ∈ lw_all := lw_g (lw_at lw_m7 130 rfl) rfl
theorem q1708 : (Jvm.Cond.publicMethod ({ cls := "WaysAtlas$Leave", name := "walk", desc := "(LWaysAtlas$Run;LWaysAtlas$Frame;)I" } : Jvm.MethodName)) ∈ lw_tbl := lw_at lw_m7 131 rfl
theorem q1709 : (Jvm.Cond.code ({ cls := "WaysAtlas$Leave", name := "walk", desc := "(LWaysAtlas$Run;LWaysAtlas$Frame;)I" } : Jvm.MethodName) prog_8_method_2_code (3 : Nat) (Option.some Jvm.ClassFile.FieldType.int)) ∈ lw_all := lw_g (lw_at lw_m7 132 rfl) rfl
theorem q1866 : (Jvm.Cond.selects "WaysAtlas$Leave" ({ cls := "WaysAtlas$Statement", name := "hasFinish", desc := "()Z" } : Jvm.MethodName) ({ cls := "WaysAtlas$Statement", name := "hasFinish", desc := "()Z" } : Jvm.MethodName)) ∈ lw_all := lw_g (lw_at lw_m8 49 rfl) rfl
theorem q2650 : (Jvm.Cond.castable "WaysAtlas$Leave" "WaysAtlas$Statement") ∈ lw_tbl := lw_at lw_m11 113 rfl
theorem q174 : (Jvm.Cond.initialized "WaysAtlas$Throw") ∈ lw_all := lw_g (lw_at lw_m1 37 rfl) rfl
theorem q1154 : (Jvm.Cond.instantiable "WaysAtlas$Throw" (2 : Nat)) ∈ lw_all := lw_g (lw_at lw_m5 57 rfl) rfl
theorem q1156 : (Jvm.Cond.instanceMethod ({ cls := "WaysAtlas$Throw", name := "<init>", desc := "(II)V" } : Jvm.MethodName)) ∈ lw_all := lw_g (lw_at lw_m5 59 rfl) rfl
theorem q1157 : (Jvm.Cond.code ({ cls := "WaysAtlas$Throw", name := "<init>", desc := "(II)V" } : Jvm.MethodName) prog_31_method_1_code (3 : Nat) (Option.none : Option Jvm.ClassFile.FieldType)) ∈ lw_all := lw_g (lw_at lw_m5 60 rfl) rfl
theorem q1158 : (Jvm.Cond.methodLink "WaysAtlas$Throw" (1 : Nat) ({ cls := "WaysAtlas$Plain", name := "<init>", desc := "(I)V" } : Jvm.MethodName)) ∈ lw_all := lw_g (lw_at lw_m5 61 rfl) rfl
theorem q1159 : (Jvm.Cond.fieldLink "WaysAtlas$Throw" (7 : Nat) "WaysAtlas$Throw" "kind" "I") ∈ lw_all := lw_g (lw_at lw_m5 62 rfl) rfl
theorem q1160 : (Jvm.Cond.laysFinal "WaysAtlas$Throw" "WaysAtlas$Throw" "kind" "I") ∈ lw_all := lw_g (lw_at lw_m5 63 rfl) rfl
theorem q1161 : (Jvm.Cond.soleField "WaysAtlas$Throw" "kind") ∈ lw_all := lw_g (lw_at lw_m5 64 rfl) rfl
theorem q1162 : (Jvm.Cond.laysFinal "WaysAtlas$Throw" "WaysAtlas$Statement" "number" "I") ∈ lw_all := lw_g (lw_at lw_m5 65 rfl) rfl
theorem q1163 : (Jvm.Cond.superclass "WaysAtlas$Throw" "WaysAtlas$Plain") ∈ lw_all := lw_g (lw_at lw_m5 66 rfl) rfl
theorem q1478 : (Jvm.Cond.castable "WaysAtlas$Throw" "WaysAtlas$Walked") ∈ lw_tbl := lw_at lw_m6 141 rfl
theorem q1479 : (Jvm.Cond.selects "WaysAtlas$Throw" ({ cls := "WaysAtlas$Walked", name := "tells", desc := "(LWaysAtlas$Lower;)V" } : Jvm.MethodName) ({ cls := "WaysAtlas$Plain", name := "tells", desc := "(LWaysAtlas$Lower;)V" } : Jvm.MethodName)) ∈ lw_all := lw_g (lw_at lw_m6 142 rfl) rfl
theorem q1480 : (Jvm.Cond.unhidden "WaysAtlas$Throw" "tells" "(LWaysAtlas$Lower;)V") ∈ lw_tbl := lw_at lw_m6 143 rfl
theorem q1514 : (Jvm.Cond.selects "WaysAtlas$Throw" ({ cls := "WaysAtlas$Statement", name := "isMark", desc := "()Z" } : Jvm.MethodName) ({ cls := "WaysAtlas$Statement", name := "isMark", desc := "()Z" } : Jvm.MethodName)) ∈ lw_all := lw_g (lw_at lw_m6 177 rfl) rfl
theorem q1531 : (Jvm.Cond.selects "WaysAtlas$Throw" ({ cls := "WaysAtlas$Statement", name := "resources", desc := "()I" } : Jvm.MethodName) ({ cls := "WaysAtlas$Statement", name := "resources", desc := "()I" } : Jvm.MethodName)) ∈ lw_all := lw_g (lw_at lw_m6 194 rfl) rfl
theorem q1755 : (Jvm.Cond.selects "WaysAtlas$Throw" ({ cls := "WaysAtlas$Plain", name := "does", desc := "(LWaysAtlas$Run;LWaysAtlas$Frame;)V" } : Jvm.MethodName) ({ cls := "WaysAtlas$Throw", name := "does", desc := "(LWaysAtlas$Run;LWaysAtlas$Frame;)V" } : Jvm.MethodName)) ∈ lw_all := lw_g (lw_at lw_m7 178 rfl) rfl
theorem q1756 : (Jvm.Cond.instanceMethod ({ cls := "WaysAtlas$Throw", name := "does", desc := "(LWaysAtlas$Run;LWaysAtlas$Frame;)V" } : Jvm.MethodName)) ∈ lw_all := lw_g (lw_at lw_m7 179 rfl) rfl
theorem q1757 : (Jvm.Cond.code ({ cls := "WaysAtlas$Throw", name := "does", desc := "(LWaysAtlas$Run;LWaysAtlas$Frame;)V" } : Jvm.MethodName) prog_31_method_2_code (3 : Nat) (Option.none : Option Jvm.ClassFile.FieldType)) ∈ lw_all := lw_g (lw_at lw_m7 180 rfl) rfl
theorem q1758 : (Jvm.Cond.methodLink "WaysAtlas$Throw" (13 : Nat) ({ cls := "WaysAtlas$Run", name := "fails", desc := "(I)LWaysAtlas$Thrown;" } : Jvm.MethodName)) ∈ lw_all := lw_g (lw_at lw_m7 181 rfl) rfl
theorem q1777 : (Jvm.Cond.selects "WaysAtlas$Throw" ({ cls := "WaysAtlas$Walked", name := "walk", desc := "(LWaysAtlas$Run;LWaysAtlas$Frame;)I" } : Jvm.MethodName) ({ cls := "WaysAtlas$Plain", name := "walk", desc := "(LWaysAtlas$Run;LWaysAtlas$Frame;)I" } : Jvm.MethodName)) ∈ lw_all := lw_g (lw_at lw_m7 200 rfl) rfl
theorem q1778 : (Jvm.Cond.unhidden "WaysAtlas$Throw" "walk" "(LWaysAtlas$Run;LWaysAtlas$Frame;)I") ∈ lw_tbl := lw_at lw_m7 201 rfl
theorem q1874 : (Jvm.Cond.selects "WaysAtlas$Throw" ({ cls := "WaysAtlas$Statement", name := "hasFinish", desc := "()Z" } : Jvm.MethodName) ({ cls := "WaysAtlas$Statement", name := "hasFinish", desc := "()Z" } : Jvm.MethodName)) ∈ lw_all := lw_g (lw_at lw_m8 57 rfl) rfl
theorem q2640 : (Jvm.Cond.castable "WaysAtlas$Throw" "WaysAtlas$Plain") ∈ lw_tbl := lw_at lw_m11 103 rfl
theorem q2651 : (Jvm.Cond.castable "WaysAtlas$Throw" "WaysAtlas$Statement") ∈ lw_tbl := lw_at lw_m11 114 rfl
theorem q141 : (Jvm.Cond.initialized "WaysAtlas$Program") ∈ lw_all := lw_g (lw_at lw_m1 4 rfl) rfl
theorem q272 : (Jvm.Cond.instantiable "WaysAtlas$Program" (10 : Nat)) ∈ lw_all := lw_g (lw_at lw_m1 135 rfl) rfl
theorem q274 : (Jvm.Cond.instanceMethod ({ cls := "WaysAtlas$Program", name := "<init>", desc := "()V" } : Jvm.MethodName)) ∈ lw_all := lw_g (lw_at lw_m1 137 rfl) rfl
theorem q275 : (Jvm.Cond.code ({ cls := "WaysAtlas$Program", name := "<init>", desc := "()V" } : Jvm.MethodName) prog_19_method_1_code (2 : Nat) (Option.none : Option Jvm.ClassFile.FieldType)) ∈ lw_all := lw_g (lw_at lw_m1 138 rfl) rfl
theorem q276 : (Jvm.Cond.methodLink "WaysAtlas$Program" (3 : Nat) ({ cls := "java/lang/Object", name := "<init>", desc := "()V" } : Jvm.MethodName)) ∈ lw_all := lw_g (lw_at lw_m1 139 rfl) rfl
theorem q277 : (Jvm.Cond.classLink "WaysAtlas$Program" (9 : Nat) "WaysAtlas$Method") ∈ lw_all := lw_g (lw_at lw_m1 140 rfl) rfl
theorem q279 : (Jvm.Cond.classLink "WaysAtlas$Program" (25 : Nat) "WaysAtlas$Statement") ∈ lw_all := lw_g (lw_at lw_m1 142 rfl) rfl
theorem q280 : (Jvm.Cond.classLink "WaysAtlas$Program" (31 : Nat) "WaysAtlas$Guard") ∈ lw_all := lw_g (lw_at lw_m1 143 rfl) rfl
theorem q282 : (Jvm.Cond.fieldLink "WaysAtlas$Program" (11 : Nat) "WaysAtlas$Program" "methods" "[LWaysAtlas$Method;") ∈ lw_all := lw_g (lw_at lw_m1 145 rfl) rfl
theorem q288 : (Jvm.Cond.fieldLink "WaysAtlas$Program" (17 : Nat) "WaysAtlas$Program" "above" "[I") ∈ lw_all := lw_g (lw_at lw_m1 151 rfl) rfl
theorem q290 : (Jvm.Cond.fieldLink "WaysAtlas$Program" (21 : Nat) "WaysAtlas$Program" "kinds" "I") ∈ lw_all := lw_g (lw_at lw_m1 153 rfl) rfl
theorem q293 : (Jvm.Cond.fieldLink "WaysAtlas$Program" (27 : Nat) "WaysAtlas$Program" "statements" "[LWaysAtlas$Statement;") ∈ lw_all := lw_g (lw_at lw_m1 156 rfl) rfl
theorem q298 : (Jvm.Cond.fieldLink "WaysAtlas$Program" (33 : Nat) "WaysAtlas$Program" "handlerOf" "[LWaysAtlas$Guard;") ∈ lw_all := lw_g (lw_at lw_m1 161 rfl) rfl
theorem q301 : (Jvm.Cond.fieldLink "WaysAtlas$Program" (37 : Nat) "WaysAtlas$Program" "handler" "[I") ∈ lw_all := lw_g (lw_at lw_m1 164 rfl) rfl
theorem q306 : (Jvm.Cond.fieldLink "WaysAtlas$Program" (97 : Nat) "WaysAtlas$Program" "code" "LWaysAtlas$Lower;") ∈ lw_all := lw_g (lw_at lw_m1 169 rfl) rfl
theorem q308 : (Jvm.Cond.laysFinal "WaysAtlas$Program" "WaysAtlas$Program" "methods" "[LWaysAtlas$Method;") ∈ lw_all := lw_g (lw_at lw_m1 171 rfl) rfl
theorem q309 : (Jvm.Cond.soleField "WaysAtlas$Program" "methods") ∈ lw_all := lw_g (lw_at lw_m1 172 rfl) rfl
theorem q310 : (Jvm.Cond.lays "WaysAtlas$Program" "WaysAtlas$Program" "many" "I") ∈ lw_all := lw_g (lw_at lw_m1 173 rfl) rfl
theorem q311 : (Jvm.Cond.soleField "WaysAtlas$Program" "many") ∈ lw_all := lw_g (lw_at lw_m1 174 rfl) rfl
theorem q312 : (Jvm.Cond.laysFinal "WaysAtlas$Program" "WaysAtlas$Program" "above" "[I") ∈ lw_all := lw_g (lw_at lw_m1 175 rfl) rfl
theorem q313 : (Jvm.Cond.soleField "WaysAtlas$Program" "above") ∈ lw_all := lw_g (lw_at lw_m1 176 rfl) rfl
theorem q314 : (Jvm.Cond.lays "WaysAtlas$Program" "WaysAtlas$Program" "kinds" "I") ∈ lw_all := lw_g (lw_at lw_m1 177 rfl) rfl
theorem q315 : (Jvm.Cond.soleField "WaysAtlas$Program" "kinds") ∈ lw_all := lw_g (lw_at lw_m1 178 rfl) rfl
theorem q316 : (Jvm.Cond.laysFinal "WaysAtlas$Program" "WaysAtlas$Program" "statements" "[LWaysAtlas$Statement;") ∈ lw_all := lw_g (lw_at lw_m1 179 rfl) rfl
theorem q317 : (Jvm.Cond.soleField "WaysAtlas$Program" "statements") ∈ lw_all := lw_g (lw_at lw_m1 180 rfl) rfl
theorem q318 : (Jvm.Cond.lays "WaysAtlas$Program" "WaysAtlas$Program" "size" "I") ∈ lw_all := lw_g (lw_at lw_m1 181 rfl) rfl
theorem q319 : (Jvm.Cond.soleField "WaysAtlas$Program" "size") ∈ lw_all := lw_g (lw_at lw_m1 182 rfl) rfl
theorem q320 : (Jvm.Cond.laysFinal "WaysAtlas$Program" "WaysAtlas$Program" "handlerOf" "[LWaysAtlas$Guard;") ∈ lw_all := lw_g (lw_at lw_m1 183 rfl) rfl
theorem q321 : (Jvm.Cond.soleField "WaysAtlas$Program" "handlerOf") ∈ lw_all := lw_g (lw_at lw_m1 184 rfl) rfl
theorem q322 : (Jvm.Cond.laysFinal "WaysAtlas$Program" "WaysAtlas$Program" "handler" "[I") ∈ lw_all := lw_g (lw_at lw_m1 185 rfl) rfl
theorem q323 : (Jvm.Cond.soleField "WaysAtlas$Program" "handler") ∈ lw_all := lw_g (lw_at lw_m1 186 rfl) rfl
theorem q324 : (Jvm.Cond.lays "WaysAtlas$Program" "WaysAtlas$Program" "handlers" "I") ∈ lw_all := lw_g (lw_at lw_m1 187 rfl) rfl
theorem q325 : (Jvm.Cond.soleField "WaysAtlas$Program" "handlers") ∈ lw_all := lw_g (lw_at lw_m1 188 rfl) rfl
theorem q326 : (Jvm.Cond.lays "WaysAtlas$Program" "WaysAtlas$Program" "code" "LWaysAtlas$Lower;") ∈ lw_all := lw_g (lw_at lw_m1 189 rfl) rfl
theorem q327 : (Jvm.Cond.soleField "WaysAtlas$Program" "code") ∈ lw_all := lw_g (lw_at lw_m1 190 rfl) rfl
theorem q328 : (Jvm.Cond.superclass "WaysAtlas$Program" "java/lang/Object") ∈ lw_all := lw_g (lw_at lw_m1 191 rfl) rfl
theorem q414 : (Jvm.Cond.fieldLinkNest "WaysAtlas$Program" (80 : Nat) "WaysAtlas$Thrown" "failure" "I" "WaysAtlas") ∈ lw_tbl := lw_at lw_m2 37 rfl
theorem q456 : (Jvm.Cond.fieldLinkNest "WaysAtlas$Program" (135 : Nat) "WaysAtlas$Frame" "vars" "[I" "WaysAtlas") ∈ lw_tbl := lw_at lw_m2 79 rfl
theorem q464 : (Jvm.Cond.fieldLinkNest "WaysAtlas$Program" (127 : Nat) "WaysAtlas$Frame" "slots" "[I" "WaysAtlas") ∈ lw_tbl := lw_at lw_m2 87 rfl
theorem q467 : (Jvm.Cond.fieldLinkNest "WaysAtlas$Program" (53 : Nat) "WaysAtlas$Frame" "result" "I" "WaysAtlas") ∈ lw_tbl := lw_at lw_m2 90 rfl
theorem q470 : (Jvm.Cond.fieldLinkNest "WaysAtlas$Program" (40 : Nat) "WaysAtlas$Frame" "method" "LWaysAtlas$Method;" "WaysAtlas") ∈ lw_tbl := lw_at lw_m2 93 rfl
theorem q476 : (Jvm.Cond.fieldLinkNest "WaysAtlas$Program" (141 : Nat) "WaysAtlas$Frame" "at" "I" "WaysAtlas") ∈ lw_tbl := lw_at lw_m2 99 rfl
theorem q478 : (Jvm.Cond.fieldLinkNest "WaysAtlas$Program" (94 : Nat) "WaysAtlas$Frame" "pc" "I" "WaysAtlas") ∈ lw_tbl := lw_at lw_m2 101 rfl
theorem q503 : (Jvm.Cond.fieldLinkNest "WaysAtlas$Program" (56 : Nat) "WaysAtlas$Run" "deep" "I" "WaysAtlas") ∈ lw_tbl := lw_at lw_m2 126 rfl
theorem q514 : (Jvm.Cond.fieldLinkNest "WaysAtlas$Program" (114 : Nat) "WaysAtlas$Run" "kind" "[I" "WaysAtlas") ∈ lw_tbl := lw_at lw_m2 137 rfl
theorem q539 : (Jvm.Cond.fieldLinkNest "WaysAtlas$Program" (206 : Nat) "WaysAtlas$Run" "lost" "I" "WaysAtlas") ∈ lw_tbl := lw_at lw_m2 162 rfl
theorem q543 : (Jvm.Cond.fieldLinkNest "WaysAtlas$Program" (203 : Nat) "WaysAtlas$Run" "entered" "[I" "WaysAtlas") ∈ lw_tbl := lw_at lw_m2 166 rfl
theorem q560 : (Jvm.Cond.fieldLinkNest "WaysAtlas$Program" (75 : Nat) "WaysAtlas$Run" "ended" "I" "WaysAtlas") ∈ lw_tbl := lw_at lw_m2 183 rfl
theorem q563 : (Jvm.Cond.fieldLinkNest "WaysAtlas$Program" (72 : Nat) "WaysAtlas$Run" "given" "I" "WaysAtlas") ∈ lw_tbl := lw_at lw_m2 186 rfl
theorem q566 : (Jvm.Cond.fieldLinkNest "WaysAtlas$Program" (83 : Nat) "WaysAtlas$Run" "failure" "I" "WaysAtlas") ∈ lw_tbl := lw_at lw_m2 189 rfl
theorem q570 : (Jvm.Cond.fieldLinkNest "WaysAtlas$Program" (188 : Nat) "WaysAtlas$Run" "failing" "I" "WaysAtlas") ∈ lw_tbl := lw_at lw_m2 193 rfl
theorem q574 : (Jvm.Cond.fieldLinkNest "WaysAtlas$Program" (191 : Nat) "WaysAtlas$Run" "thrown" "LWaysAtlas$Thrown;" "WaysAtlas") ∈ lw_tbl := lw_at lw_m2 197 rfl
theorem q849 : (Jvm.Cond.fieldLinkNest "WaysAtlas$Program" (46 : Nat) "WaysAtlas$Method" "block" "[LWaysAtlas$Statement;" "WaysAtlas") ∈ lw_tbl := lw_at lw_m3 232 rfl
theorem q965 : (Jvm.Cond.fieldLinkNest "WaysAtlas$Program" (132 : Nat) "WaysAtlas$Call" "into" "I" "WaysAtlas") ∈ lw_tbl := lw_at lw_m4 108 rfl
theorem q1191 : (Jvm.Cond.fieldLinkNest "WaysAtlas$Program" (181 : Nat) "WaysAtlas$Guard" "resources" "I" "WaysAtlas") ∈ lw_tbl := lw_at lw_m5 94 rfl
theorem q1243 : (Jvm.Cond.fieldLinkNest "WaysAtlas$Program" (101 : Nat) "WaysAtlas$Lower" "ops" "[I" "WaysAtlas") ∈ lw_tbl := lw_at lw_m5 146 rfl
theorem q1248 : (Jvm.Cond.fieldLinkNest "WaysAtlas$Program" (120 : Nat) "WaysAtlas$Lower" "table" "[I" "WaysAtlas") ∈ lw_tbl := lw_at lw_m5 151 rfl
theorem q1249 : (Jvm.Cond.fieldLinkNest "WaysAtlas$Program" (117 : Nat) "WaysAtlas$Lower" "rows" "I" "WaysAtlas") ∈ lw_tbl := lw_at lw_m5 152 rfl
theorem q1550 : (Jvm.Cond.instanceMethod ({ cls := "WaysAtlas$Program", name := "walk", desc := "(LWaysAtlas$Run;IIII)V" } : Jvm.MethodName)) ∈ lw_all := lw_g (lw_at lw_m6 213 rfl) rfl
theorem q1551 : (Jvm.Cond.selects "WaysAtlas$Program" ({ cls := "WaysAtlas$Program", name := "walk", desc := "(LWaysAtlas$Run;IIII)V" } : Jvm.MethodName) ({ cls := "WaysAtlas$Program", name := "walk", desc := "(LWaysAtlas$Run;IIII)V" } : Jvm.MethodName)) ∈ lw_all := lw_g (lw_at lw_m6 214 rfl) rfl
theorem q1552 : (Jvm.Cond.codeWith ({ cls := "WaysAtlas$Program", name := "walk", desc := "(LWaysAtlas$Run;IIII)V" } : Jvm.MethodName) prog_19_method_4_code (7 : Nat) (Option.none : Option Jvm.ClassFile.FieldType) [((6 : Nat), (33 : Nat), (36 : Nat), (78 : Nat)), ((6 : Nat), (33 : Nat), (55 : Nat), (84 : Nat))]) ∈ lw_all := lw_g (lw_at lw_m6 215 rfl) rfl
theorem q1553 : (Jvm.Cond.classLink "WaysAtlas$Program" (78 : Nat) "WaysAtlas$Thrown") ∈ lw_all := lw_g (lw_at lw_m6 216 rfl) rfl
theorem q1554 : (Jvm.Cond.classLink "WaysAtlas$Program" (84 : Nat) "WaysAtlas$Spent") ∈ lw_all := lw_g (lw_at lw_m6 217 rfl) rfl
theorem q1555 : (Jvm.Cond.methodLink "WaysAtlas$Program" (61 : Nat) ({ cls := "WaysAtlas$Run", name := "begin", desc := "(I)V" } : Jvm.MethodName)) ∈ lw_all := lw_g (lw_at lw_m6 218 rfl) rfl
theorem q1559 : (Jvm.Cond.methodLink "WaysAtlas$Program" (65 : Nat) ({ cls := "WaysAtlas$Run", name := "enters", desc := "(LWaysAtlas$Method;II)LWaysAtlas$Frame;" } : Jvm.MethodName)) ∈ lw_all := lw_g (lw_at lw_m6 222 rfl) rfl
theorem q1586 : (Jvm.Cond.methodLink "WaysAtlas$Program" (69 : Nat) ({ cls := "WaysAtlas$Program", name := "walks", desc := "(LWaysAtlas$Run;LWaysAtlas$Frame;)I" } : Jvm.MethodName)) ∈ lw_all := lw_g (lw_at lw_m7 9 rfl) rfl
theorem q1587 : (Jvm.Cond.instanceMethod ({ cls := "WaysAtlas$Program", name := "walks", desc := "(LWaysAtlas$Run;LWaysAtlas$Frame;)I" } : Jvm.MethodName)) ∈ lw_all := lw_g (lw_at lw_m7 10 rfl) rfl
theorem q1588 : (Jvm.Cond.selects "WaysAtlas$Program" ({ cls := "WaysAtlas$Program", name := "walks", desc := "(LWaysAtlas$Run;LWaysAtlas$Frame;)I" } : Jvm.MethodName) ({ cls := "WaysAtlas$Program", name := "walks", desc := "(LWaysAtlas$Run;LWaysAtlas$Frame;)I" } : Jvm.MethodName)) ∈ lw_all := lw_g (lw_at lw_m7 11 rfl) rfl
theorem q1589 : (Jvm.Cond.codeWith ({ cls := "WaysAtlas$Program", name := "walks", desc := "(LWaysAtlas$Run;LWaysAtlas$Frame;)I" } : Jvm.MethodName) prog_19_method_3_code (6 : Nat) (Option.some Jvm.ClassFile.FieldType.int) [((0 : Nat), (28 : Nat), (41 : Nat), (0 : Nat)), ((41 : Nat), (43 : Nat), (41 : Nat), (0 : Nat))]) ∈ lw_all := lw_g (lw_at lw_m7 12 rfl) rfl
theorem q1590 : (Jvm.Cond.methodLinkNest "WaysAtlas$Program" (49 : Nat) ({ cls := "WaysAtlas", name := "walks", desc := "([LWaysAtlas$Statement;LWaysAtlas$Run;LWaysAtlas$Frame;)I" } : Jvm.MethodName) "WaysAtlas") ∈ lw_tbl := lw_at lw_m7 13 rfl
theorem q1691 : (Jvm.Cond.instanceMethod ({ cls := "WaysAtlas$Program", name := "isUnder", desc := "(II)Z" } : Jvm.MethodName)) ∈ lw_all := lw_g (lw_at lw_m7 114 rfl) rfl
theorem q1692 : (Jvm.Cond.selects "WaysAtlas$Program" ({ cls := "WaysAtlas$Program", name := "isUnder", desc := "(II)Z" } : Jvm.MethodName) ({ cls := "WaysAtlas$Program", name := "isUnder", desc := "(II)Z" } : Jvm.MethodName)) ∈ lw_all := lw_g (lw_at lw_m7 115 rfl) rfl
theorem q1693 : (Jvm.Cond.code ({ cls := "WaysAtlas$Program", name := "isUnder", desc := "(II)Z" } : Jvm.MethodName) prog_19_method_2_code (4 : Nat) (Option.some Jvm.ClassFile.FieldType.boolean)) ∈ lw_all := lw_g (lw_at lw_m7 116 rfl) rfl
theorem q1780 : (Jvm.Cond.instanceMethod ({ cls := "WaysAtlas$Program", name := "run", desc := "(LWaysAtlas$Run;IIII)V" } : Jvm.MethodName)) ∈ lw_all := lw_g (lw_at lw_m7 203 rfl) rfl
theorem q1781 : (Jvm.Cond.selects "WaysAtlas$Program" ({ cls := "WaysAtlas$Program", name := "run", desc := "(LWaysAtlas$Run;IIII)V" } : Jvm.MethodName) ({ cls := "WaysAtlas$Program", name := "run", desc := "(LWaysAtlas$Run;IIII)V" } : Jvm.MethodName)) ∈ lw_all := lw_g (lw_at lw_m7 204 rfl) rfl
theorem q1782 : (Jvm.Cond.codeWith ({ cls := "WaysAtlas$Program", name := "run", desc := "(LWaysAtlas$Run;IIII)V" } : Jvm.MethodName) prog_19_method_5_code (7 : Nat) (Option.none : Option Jvm.ClassFile.FieldType) [((12 : Nat), (48 : Nat), (51 : Nat), (78 : Nat)), ((12 : Nat), (48 : Nat), (70 : Nat), (84 : Nat))]) ∈ lw_all := lw_g (lw_at lw_m7 205 rfl) rfl
theorem q1783 : (Jvm.Cond.methodLink "WaysAtlas$Program" (86 : Nat) ({ cls := "WaysAtlas$Run", name := "top", desc := "()LWaysAtlas$Frame;" } : Jvm.MethodName)) ∈ lw_all := lw_g (lw_at lw_m7 206 rfl) rfl
theorem q1784 : (Jvm.Cond.methodLink "WaysAtlas$Program" (90 : Nat) ({ cls := "WaysAtlas$Program", name := "goes", desc := "(LWaysAtlas$Run;LWaysAtlas$Frame;)V" } : Jvm.MethodName)) ∈ lw_all := lw_g (lw_at lw_m7 207 rfl) rfl
theorem q1785 : (Jvm.Cond.privateMethod ({ cls := "WaysAtlas$Program", name := "goes", desc := "(LWaysAtlas$Run;LWaysAtlas$Frame;)V" } : Jvm.MethodName)) ∈ lw_tbl := lw_at lw_m7 208 rfl
theorem q1786 : (Jvm.Cond.instanceMethod ({ cls := "WaysAtlas$Program", name := "goes", desc := "(LWaysAtlas$Run;LWaysAtlas$Frame;)V" } : Jvm.MethodName)) ∈ lw_all := lw_g (lw_at lw_m7 209 rfl) rfl
theorem q1787 : (Jvm.Cond.codeWith ({ cls := "WaysAtlas$Program", name := "goes", desc := "(LWaysAtlas$Run;LWaysAtlas$Frame;)V" } : Jvm.MethodName) prog_19_method_6_code (5 : Nat) (Option.none : Option Jvm.ClassFile.FieldType) [((17 : Nat), (54 : Nat), (57 : Nat), (78 : Nat))]) ∈ lw_all := lw_g (lw_at lw_m7 210 rfl) rfl
theorem q1788 : (Jvm.Cond.methodLink "WaysAtlas$Program" (106 : Nat) ({ cls := "WaysAtlas$Program", name := "does", desc := "(LWaysAtlas$Run;LWaysAtlas$Frame;III)V" } : Jvm.MethodName)) ∈ lw_all := lw_g (lw_at lw_m7 211 rfl) rfl
theorem q1789 : (Jvm.Cond.privateMethod ({ cls := "WaysAtlas$Program", name := "does", desc := "(LWaysAtlas$Run;LWaysAtlas$Frame;III)V" } : Jvm.MethodName)) ∈ lw_tbl := lw_at lw_m7 212 rfl
theorem q1790 : (Jvm.Cond.instanceMethod ({ cls := "WaysAtlas$Program", name := "does", desc := "(LWaysAtlas$Run;LWaysAtlas$Frame;III)V" } : Jvm.MethodName)) ∈ lw_all := lw_g (lw_at lw_m7 213 rfl) rfl
theorem q1791 : (Jvm.Cond.code ({ cls := "WaysAtlas$Program", name := "does", desc := "(LWaysAtlas$Run;LWaysAtlas$Frame;III)V" } : Jvm.MethodName) prog_19_method_9_code (7 : Nat) (Option.none : Option Jvm.ClassFile.FieldType)) ∈ lw_all := lw_g (lw_at lw_m7 214 rfl) rfl
theorem q1792 : (Jvm.Cond.methodLink "WaysAtlas$Program" (138 : Nat) ({ cls := "WaysAtlas$Run", name := "step", desc := "()V" } : Jvm.MethodName)) ∈ lw_all := lw_g (lw_at lw_m7 215 rfl) rfl
theorem q1793 : (Jvm.Cond.classLink "WaysAtlas$Program" (144 : Nat) "WaysAtlas$Plain") ∈ lw_all := lw_g (lw_at lw_m7 216 rfl) rfl
theorem q1794 : (Jvm.Cond.methodLink "WaysAtlas$Program" (146 : Nat) ({ cls := "WaysAtlas$Plain", name := "does", desc := "(LWaysAtlas$Run;LWaysAtlas$Frame;)V" } : Jvm.MethodName)) ∈ lw_all := lw_g (lw_at lw_m7 217 rfl) rfl
theorem q1795 : (Jvm.Cond.classLink "WaysAtlas$Program" (130 : Nat) "WaysAtlas$Call") ∈ lw_all := lw_g (lw_at lw_m7 218 rfl) rfl
theorem q1796 : (Jvm.Cond.methodLink "WaysAtlas$Program" (148 : Nat) ({ cls := "WaysAtlas$Call", name := "enters", desc := "(LWaysAtlas$Run;LWaysAtlas$Frame;)LWaysAtlas$Frame;" } : Jvm.MethodName)) ∈ lw_all := lw_g (lw_at lw_m7 219 rfl) rfl
theorem q1797 : (Jvm.Cond.classLink "WaysAtlas$Program" (151 : Nat) "WaysAtlas$Return") ∈ lw_all := lw_g (lw_at lw_m7 220 rfl) rfl
theorem q1798 : (Jvm.Cond.methodLink "WaysAtlas$Program" (153 : Nat) ({ cls := "WaysAtlas$Return", name := "does", desc := "(LWaysAtlas$Run;LWaysAtlas$Frame;)V" } : Jvm.MethodName)) ∈ lw_all := lw_g (lw_at lw_m7 221 rfl) rfl
theorem q1799 : (Jvm.Cond.classLink "WaysAtlas$Program" (154 : Nat) "WaysAtlas$If") ∈ lw_all := lw_g (lw_at lw_m7 222 rfl) rfl
theorem q1800 : (Jvm.Cond.methodLink "WaysAtlas$Program" (156 : Nat) ({ cls := "WaysAtlas$If", name := "holds", desc := "(LWaysAtlas$Run;LWaysAtlas$Frame;)Z" } : Jvm.MethodName)) ∈ lw_all := lw_g (lw_at lw_m7 223 rfl) rfl
theorem q1801 : (Jvm.Cond.classLink "WaysAtlas$Program" (160 : Nat) "WaysAtlas$Loop") ∈ lw_all := lw_g (lw_at lw_m7 224 rfl) rfl
theorem q1802 : (Jvm.Cond.methodLink "WaysAtlas$Program" (162 : Nat) ({ cls := "WaysAtlas$Loop", name := "turns", desc := "(LWaysAtlas$Run;LWaysAtlas$Frame;)I" } : Jvm.MethodName)) ∈ lw_all := lw_g (lw_at lw_m7 225 rfl) rfl
theorem q1803 : (Jvm.Cond.methodLink "WaysAtlas$Program" (165 : Nat) ({ cls := "WaysAtlas$Loop", name := "slot", desc := "()I" } : Jvm.MethodName)) ∈ lw_all := lw_g (lw_at lw_m7 226 rfl) rfl
theorem q1804 : (Jvm.Cond.classLink "WaysAtlas$Program" (169 : Nat) "WaysAtlas$Again") ∈ lw_all := lw_g (lw_at lw_m7 227 rfl) rfl
theorem q1805 : (Jvm.Cond.methodLink "WaysAtlas$Program" (171 : Nat) ({ cls := "WaysAtlas$Again", name := "does", desc := "(LWaysAtlas$Run;LWaysAtlas$Frame;)V" } : Jvm.MethodName)) ∈ lw_all := lw_g (lw_at lw_m7 228 rfl) rfl
theorem q1806 : (Jvm.Cond.methodLink "WaysAtlas$Program" (172 : Nat) ({ cls := "WaysAtlas$Program", name := "gives", desc := "(LWaysAtlas$Run;LWaysAtlas$Frame;)V" } : Jvm.MethodName)) ∈ lw_all := lw_g (lw_at lw_m7 229 rfl) rfl
theorem q1807 : (Jvm.Cond.privateMethod ({ cls := "WaysAtlas$Program", name := "gives", desc := "(LWaysAtlas$Run;LWaysAtlas$Frame;)V" } : Jvm.MethodName)) ∈ lw_tbl := lw_at lw_m7 230 rfl
theorem q1808 : (Jvm.Cond.instanceMethod ({ cls := "WaysAtlas$Program", name := "gives", desc := "(LWaysAtlas$Run;LWaysAtlas$Frame;)V" } : Jvm.MethodName)) ∈ lw_all := lw_g (lw_at lw_m7 231 rfl) rfl
theorem q1809 : (Jvm.Cond.code ({ cls := "WaysAtlas$Program", name := "gives", desc := "(LWaysAtlas$Run;LWaysAtlas$Frame;)V" } : Jvm.MethodName) prog_19_method_8_code (6 : Nat) (Option.none : Option Jvm.ClassFile.FieldType)) ∈ lw_all := lw_g (lw_at lw_m7 232 rfl) rfl
theorem q1810 : (Jvm.Cond.methodLink "WaysAtlas$Program" (175 : Nat) ({ cls := "WaysAtlas$Program", name := "ways", desc := "(LWaysAtlas$Run;LWaysAtlas$Frame;III)V" } : Jvm.MethodName)) ∈ lw_all := lw_g (lw_at lw_m7 233 rfl) rfl
theorem q1811 : (Jvm.Cond.privateMethod ({ cls := "WaysAtlas$Program", name := "ways", desc := "(LWaysAtlas$Run;LWaysAtlas$Frame;III)V" } : Jvm.MethodName)) ∈ lw_tbl := lw_at lw_m7 234 rfl
theorem q1812 : (Jvm.Cond.instanceMethod ({ cls := "WaysAtlas$Program", name := "ways", desc := "(LWaysAtlas$Run;LWaysAtlas$Frame;III)V" } : Jvm.MethodName)) ∈ lw_all := lw_g (lw_at lw_m7 235 rfl) rfl
theorem q1813 : (Jvm.Cond.code ({ cls := "WaysAtlas$Program", name := "ways", desc := "(LWaysAtlas$Run;LWaysAtlas$Frame;III)V" } : Jvm.MethodName) prog_19_method_10_code (9 : Nat) (Option.none : Option Jvm.ClassFile.FieldType)) ∈ lw_all := lw_g (lw_at lw_m7 236 rfl) rfl
theorem q1814 : (Jvm.Cond.methodLink "WaysAtlas$Program" (178 : Nat) ({ cls := "WaysAtlas$Guard", name := "slot", desc := "(I)I" } : Jvm.MethodName)) ∈ lw_all := lw_g (lw_at lw_m7 237 rfl) rfl
theorem q1815 : (Jvm.Cond.methodLink "WaysAtlas$Program" (184 : Nat) ({ cls := "WaysAtlas$Run", name := "opens", desc := "(II[II)I" } : Jvm.MethodName)) ∈ lw_all := lw_g (lw_at lw_m7 238 rfl) rfl
theorem q1816 : (Jvm.Cond.methodLink "WaysAtlas$Program" (195 : Nat) ({ cls := "WaysAtlas$Run", name := "closes", desc := "(II[III)I" } : Jvm.MethodName)) ∈ lw_all := lw_g (lw_at lw_m7 239 rfl) rfl
theorem q1817 : (Jvm.Cond.methodLink "WaysAtlas$Program" (199 : Nat) ({ cls := "WaysAtlas$Thrown", name := "with", desc := "(I)LWaysAtlas$Thrown;" } : Jvm.MethodName)) ∈ lw_all := lw_g (lw_at lw_m8 0 rfl) rfl
theorem q1818 : (Jvm.Cond.methodLink "WaysAtlas$Program" (110 : Nat) ({ cls := "WaysAtlas$Program", name := "unwinds", desc := "(LWaysAtlas$Run;LWaysAtlas$Thrown;)V" } : Jvm.MethodName)) ∈ lw_all := lw_g (lw_at lw_m8 1 rfl) rfl
theorem q1819 : (Jvm.Cond.privateMethod ({ cls := "WaysAtlas$Program", name := "unwinds", desc := "(LWaysAtlas$Run;LWaysAtlas$Thrown;)V" } : Jvm.MethodName)) ∈ lw_tbl := lw_at lw_m8 2 rfl
theorem q1820 : (Jvm.Cond.instanceMethod ({ cls := "WaysAtlas$Program", name := "unwinds", desc := "(LWaysAtlas$Run;LWaysAtlas$Thrown;)V" } : Jvm.MethodName)) ∈ lw_all := lw_g (lw_at lw_m8 3 rfl) rfl
theorem q1821 : (Jvm.Cond.code ({ cls := "WaysAtlas$Program", name := "unwinds", desc := "(LWaysAtlas$Run;LWaysAtlas$Thrown;)V" } : Jvm.MethodName) prog_19_method_7_code (8 : Nat) (Option.none : Option Jvm.ClassFile.FieldType)) ∈ lw_all := lw_g (lw_at lw_m8 4 rfl) rfl
theorem q1822 : (Jvm.Cond.methodLink "WaysAtlas$Program" (123 : Nat) ({ cls := "WaysAtlas$Program", name := "isUnder", desc := "(II)Z" } : Jvm.MethodName)) ∈ lw_all := lw_g (lw_at lw_m8 5 rfl) rfl
theorem q175 : (Jvm.Cond.initialized "WaysAtlas$Again") ∈ lw_all := lw_g (lw_at lw_m1 38 rfl) rfl
theorem q462 : (Jvm.Cond.fieldLinkNest "WaysAtlas$Again" (19 : Nat) "WaysAtlas$Frame" "slots" "[I" "WaysAtlas") ∈ lw_tbl := lw_at lw_m2 85 rfl
theorem q572 : (Jvm.Cond.fieldLinkNest "WaysAtlas$Again" (31 : Nat) "WaysAtlas$Run" "thrown" "LWaysAtlas$Thrown;" "WaysAtlas") ∈ lw_tbl := lw_at lw_m2 195 rfl
theorem q985 : (Jvm.Cond.fieldLink "WaysAtlas$Again" (51 : Nat) "WaysAtlas$Again" "number" "I") ∈ lw_all := lw_g (lw_at lw_m4 128 rfl) rfl
theorem q986 : (Jvm.Cond.sameField "WaysAtlas$Again" "WaysAtlas$Statement" "number" "I") ∈ lw_all := lw_g (lw_at lw_m4 129 rfl) rfl
theorem q1165 : (Jvm.Cond.instantiable "WaysAtlas$Again" (3 : Nat)) ∈ lw_all := lw_g (lw_at lw_m5 68 rfl) rfl
theorem q1167 : (Jvm.Cond.instanceMethod ({ cls := "WaysAtlas$Again", name := "<init>", desc := "(IILWaysAtlas$Guard;)V" } : Jvm.MethodName)) ∈ lw_all := lw_g (lw_at lw_m5 70 rfl) rfl
theorem q1168 : (Jvm.Cond.code ({ cls := "WaysAtlas$Again", name := "<init>", desc := "(IILWaysAtlas$Guard;)V" } : Jvm.MethodName) prog_2_method_1_code (4 : Nat) (Option.none : Option Jvm.ClassFile.FieldType)) ∈ lw_all := lw_g (lw_at lw_m5 71 rfl) rfl
theorem q1169 : (Jvm.Cond.methodLink "WaysAtlas$Again" (3 : Nat) ({ cls := "WaysAtlas$Statement", name := "<init>", desc := "(I)V" } : Jvm.MethodName)) ∈ lw_all := lw_g (lw_at lw_m5 72 rfl) rfl
theorem q1170 : (Jvm.Cond.fieldLink "WaysAtlas$Again" (9 : Nat) "WaysAtlas$Again" "kind" "I") ∈ lw_all := lw_g (lw_at lw_m5 73 rfl) rfl
theorem q1171 : (Jvm.Cond.fieldLink "WaysAtlas$Again" (15 : Nat) "WaysAtlas$Again" "of" "LWaysAtlas$Guard;") ∈ lw_all := lw_g (lw_at lw_m5 74 rfl) rfl
theorem q1172 : (Jvm.Cond.laysFinal "WaysAtlas$Again" "WaysAtlas$Again" "kind" "I") ∈ lw_all := lw_g (lw_at lw_m5 75 rfl) rfl
theorem q1173 : (Jvm.Cond.soleField "WaysAtlas$Again" "kind") ∈ lw_all := lw_g (lw_at lw_m5 76 rfl) rfl
theorem q1174 : (Jvm.Cond.laysFinal "WaysAtlas$Again" "WaysAtlas$Again" "of" "LWaysAtlas$Guard;") ∈ lw_all := lw_g (lw_at lw_m5 77 rfl) rfl
theorem q1175 : (Jvm.Cond.soleField "WaysAtlas$Again" "of") ∈ lw_all := lw_g (lw_at lw_m5 78 rfl) rfl
theorem q1176 : (Jvm.Cond.laysFinal "WaysAtlas$Again" "WaysAtlas$Statement" "number" "I") ∈ lw_all := lw_g (lw_at lw_m5 79 rfl) rfl
theorem q1177 : (Jvm.Cond.superclass "WaysAtlas$Again" "WaysAtlas$Statement") ∈ lw_all := lw_g (lw_at lw_m5 80 rfl) rfl
theorem q1288 : (Jvm.Cond.castable "WaysAtlas$Again" "WaysAtlas$Walked") ∈ lw_tbl := lw_at lw_m5 191 rfl
theorem q1289 : (Jvm.Cond.selects "WaysAtlas$Again" ({ cls := "WaysAtlas$Walked", name := "tells", desc := "(LWaysAtlas$Lower;)V" } : Jvm.MethodName) ({ cls := "WaysAtlas$Again", name := "tells", desc := "(LWaysAtlas$Lower;)V" } : Jvm.MethodName)) ∈ lw_all := lw_g (lw_at lw_m5 192 rfl) rfl
theorem q1290 : (Jvm.Cond.unhidden "WaysAtlas$Again" "tells" "(LWaysAtlas$Lower;)V") ∈ lw_tbl := lw_at lw_m5 193 rfl
theorem q1291 : (Jvm.Cond.instanceMethod ({ cls := "WaysAtlas$Again", name := "tells", desc := "(LWaysAtlas$Lower;)V" } : Jvm.MethodName)) ∈ lw_all := lw_g (lw_at lw_m5 194 rfl) rfl
theorem q1292 : (Jvm.Cond.publicMethod ({ cls := "WaysAtlas$Again", name := "tells", desc := "(LWaysAtlas$Lower;)V" } : Jvm.MethodName)) ∈ lw_tbl := lw_at lw_m5 195 rfl
theorem q1293 : (Jvm.Cond.code ({ cls := "WaysAtlas$Again", name := "tells", desc := "(LWaysAtlas$Lower;)V" } : Jvm.MethodName) prog_2_method_4_code (2 : Nat) (Option.none : Option Jvm.ClassFile.FieldType)) ∈ lw_all := lw_g (lw_at lw_m5 196 rfl) rfl
theorem q1294 : (Jvm.Cond.methodLink "WaysAtlas$Again" (54 : Nat) ({ cls := "WaysAtlas$Lower", name := "add", desc := "(III)I" } : Jvm.MethodName)) ∈ lw_all := lw_g (lw_at lw_m5 197 rfl) rfl
theorem q1500 : (Jvm.Cond.selects "WaysAtlas$Again" ({ cls := "WaysAtlas$Statement", name := "isMark", desc := "()Z" } : Jvm.MethodName) ({ cls := "WaysAtlas$Statement", name := "isMark", desc := "()Z" } : Jvm.MethodName)) ∈ lw_all := lw_g (lw_at lw_m6 163 rfl) rfl
theorem q1519 : (Jvm.Cond.selects "WaysAtlas$Again" ({ cls := "WaysAtlas$Statement", name := "resources", desc := "()I" } : Jvm.MethodName) ({ cls := "WaysAtlas$Statement", name := "resources", desc := "()I" } : Jvm.MethodName)) ∈ lw_all := lw_g (lw_at lw_m6 182 rfl) rfl
theorem q1601 : (Jvm.Cond.selects "WaysAtlas$Again" ({ cls := "WaysAtlas$Walked", name := "walk", desc := "(LWaysAtlas$Run;LWaysAtlas$Frame;)I" } : Jvm.MethodName) ({ cls := "WaysAtlas$Again", name := "walk", desc := "(LWaysAtlas$Run;LWaysAtlas$Frame;)I" } : Jvm.MethodName)) ∈ lw_all := lw_g (lw_at lw_m7 24 rfl) rfl
theorem q1602 : (Jvm.Cond.unhidden "WaysAtlas$Again" "walk" "(LWaysAtlas$Run;LWaysAtlas$Frame;)I") ∈ lw_tbl := lw_at lw_m7 25 rfl
theorem q1603 : (Jvm.Cond.instanceMethod ({ cls := "WaysAtlas$Again", name := "walk", desc := "(LWaysAtlas$Run;LWaysAtlas$Frame;)I" } : Jvm.MethodName)) ∈ lw_all := lw_g (lw_at lw_m7 26 rfl) rfl
theorem q1604 : (Jvm.Cond.publicMethod ({ cls := "WaysAtlas$Again", name := "walk", desc := "(LWaysAtlas$Run;LWaysAtlas$Frame;)I" } : Jvm.MethodName)) ∈ lw_tbl := lw_at lw_m7 27 rfl
theorem q1605 : (Jvm.Cond.code ({ cls := "WaysAtlas$Again", name := "walk", desc := "(LWaysAtlas$Run;LWaysAtlas$Frame;)I" } : Jvm.MethodName) prog_2_method_3_code (3 : Nat) (Option.some Jvm.ClassFile.FieldType.int)) ∈ lw_all := lw_g (lw_at lw_m7 28 rfl) rfl
theorem q1606 : (Jvm.Cond.methodLink "WaysAtlas$Again" (47 : Nat) ({ cls := "WaysAtlas$Again", name := "does", desc := "(LWaysAtlas$Run;LWaysAtlas$Frame;)V" } : Jvm.MethodName)) ∈ lw_all := lw_g (lw_at lw_m7 29 rfl) rfl
theorem q1607 : (Jvm.Cond.instanceMethod ({ cls := "WaysAtlas$Again", name := "does", desc := "(LWaysAtlas$Run;LWaysAtlas$Frame;)V" } : Jvm.MethodName)) ∈ lw_all := lw_g (lw_at lw_m7 30 rfl) rfl
theorem q1608 : (Jvm.Cond.selects "WaysAtlas$Again" ({ cls := "WaysAtlas$Again", name := "does", desc := "(LWaysAtlas$Run;LWaysAtlas$Frame;)V" } : Jvm.MethodName) ({ cls := "WaysAtlas$Again", name := "does", desc := "(LWaysAtlas$Run;LWaysAtlas$Frame;)V" } : Jvm.MethodName)) ∈ lw_all := lw_g (lw_at lw_m7 31 rfl) rfl
theorem q1609 : (Jvm.Cond.code ({ cls := "WaysAtlas$Again", name := "does", desc := "(LWaysAtlas$Run;LWaysAtlas$Frame;)V" } : Jvm.MethodName) prog_2_method_2_code (4 : Nat) (Option.none : Option Jvm.ClassFile.FieldType)) ∈ lw_all := lw_g (lw_at lw_m7 32 rfl) rfl
theorem q1610 : (Jvm.Cond.methodLink "WaysAtlas$Again" (27 : Nat) ({ cls := "WaysAtlas$Guard", name := "slot", desc := "(I)I" } : Jvm.MethodName)) ∈ lw_all := lw_g (lw_at lw_m7 33 rfl) rfl
theorem q1611 : (Jvm.Cond.methodLink "WaysAtlas$Again" (37 : Nat) ({ cls := "WaysAtlas$Run", name := "makes", desc := "(II)I" } : Jvm.MethodName)) ∈ lw_all := lw_g (lw_at lw_m7 34 rfl) rfl
theorem q1612 : (Jvm.Cond.methodLink "WaysAtlas$Again" (41 : Nat) ({ cls := "WaysAtlas$Thrown", name := "with", desc := "(I)LWaysAtlas$Thrown;" } : Jvm.MethodName)) ∈ lw_all := lw_g (lw_at lw_m7 35 rfl) rfl
theorem q1860 : (Jvm.Cond.selects "WaysAtlas$Again" ({ cls := "WaysAtlas$Statement", name := "hasFinish", desc := "()Z" } : Jvm.MethodName) ({ cls := "WaysAtlas$Statement", name := "hasFinish", desc := "()Z" } : Jvm.MethodName)) ∈ lw_all := lw_g (lw_at lw_m8 43 rfl) rfl
theorem q2652 : (Jvm.Cond.castable "WaysAtlas$Again" "WaysAtlas$Statement") ∈ lw_tbl := lw_at lw_m11 115 rfl
theorem q176 : (Jvm.Cond.initialized "WaysAtlas$Guard") ∈ lw_all := lw_g (lw_at lw_m1 39 rfl) rfl
theorem q415 : (Jvm.Cond.fieldLinkNest "WaysAtlas$Guard" (83 : Nat) "WaysAtlas$Thrown" "failure" "I" "WaysAtlas") ∈ lw_tbl := lw_at lw_m2 38 rfl
theorem q463 : (Jvm.Cond.fieldLinkNest "WaysAtlas$Guard" (62 : Nat) "WaysAtlas$Frame" "slots" "[I" "WaysAtlas") ∈ lw_tbl := lw_at lw_m2 86 rfl
theorem q468 : (Jvm.Cond.fieldLinkNest "WaysAtlas$Guard" (115 : Nat) "WaysAtlas$Frame" "result" "I" "WaysAtlas") ∈ lw_tbl := lw_at lw_m2 91 rfl
theorem q475 : (Jvm.Cond.fieldLinkNest "WaysAtlas$Guard" (86 : Nat) "WaysAtlas$Frame" "at" "I" "WaysAtlas") ∈ lw_tbl := lw_at lw_m2 98 rfl
theorem q497 : (Jvm.Cond.fieldLinkNest "WaysAtlas$Guard" (46 : Nat) "WaysAtlas$Run" "program" "LWaysAtlas$Program;" "WaysAtlas") ∈ lw_tbl := lw_at lw_m2 120 rfl
theorem q515 : (Jvm.Cond.fieldLinkNest "WaysAtlas$Guard" (105 : Nat) "WaysAtlas$Run" "kind" "[I" "WaysAtlas") ∈ lw_tbl := lw_at lw_m2 138 rfl
theorem q538 : (Jvm.Cond.fieldLinkNest "WaysAtlas$Guard" (121 : Nat) "WaysAtlas$Run" "lost" "I" "WaysAtlas") ∈ lw_tbl := lw_at lw_m2 161 rfl
theorem q542 : (Jvm.Cond.fieldLinkNest "WaysAtlas$Guard" (118 : Nat) "WaysAtlas$Run" "entered" "[I" "WaysAtlas") ∈ lw_tbl := lw_at lw_m2 165 rfl
theorem q568 : (Jvm.Cond.fieldLinkNest "WaysAtlas$Guard" (71 : Nat) "WaysAtlas$Run" "failing" "I" "WaysAtlas") ∈ lw_tbl := lw_at lw_m2 191 rfl
theorem q573 : (Jvm.Cond.fieldLinkNest "WaysAtlas$Guard" (93 : Nat) "WaysAtlas$Run" "thrown" "LWaysAtlas$Thrown;" "WaysAtlas") ∈ lw_tbl := lw_at lw_m2 196 rfl
theorem q970 : (Jvm.Cond.fieldLink "WaysAtlas$Guard" (25 : Nat) "WaysAtlas$Guard" "number" "I") ∈ lw_all := lw_g (lw_at lw_m4 113 rfl) rfl
theorem q971 : (Jvm.Cond.sameField "WaysAtlas$Guard" "WaysAtlas$Statement" "number" "I") ∈ lw_all := lw_g (lw_at lw_m4 114 rfl) rfl
theorem q1183 : (Jvm.Cond.instantiable "WaysAtlas$Guard" (7 : Nat)) ∈ lw_all := lw_g (lw_at lw_m5 86 rfl) rfl
theorem q1185 : (Jvm.Cond.instanceMethod ({ cls := "WaysAtlas$Guard", name := "<init>", desc := "(II)V" } : Jvm.MethodName)) ∈ lw_all := lw_g (lw_at lw_m5 88 rfl) rfl
theorem q1186 : (Jvm.Cond.code ({ cls := "WaysAtlas$Guard", name := "<init>", desc := "(II)V" } : Jvm.MethodName) prog_6_method_1_code (3 : Nat) (Option.none : Option Jvm.ClassFile.FieldType)) ∈ lw_all := lw_g (lw_at lw_m5 89 rfl) rfl
theorem q1187 : (Jvm.Cond.methodLink "WaysAtlas$Guard" (3 : Nat) ({ cls := "WaysAtlas$Statement", name := "<init>", desc := "(I)V" } : Jvm.MethodName)) ∈ lw_all := lw_g (lw_at lw_m5 90 rfl) rfl
theorem q1188 : (Jvm.Cond.classLink "WaysAtlas$Guard" (15 : Nat) "[LWaysAtlas$Statement;") ∈ lw_all := lw_g (lw_at lw_m5 91 rfl) rfl
theorem q1190 : (Jvm.Cond.fieldLink "WaysAtlas$Guard" (21 : Nat) "WaysAtlas$Guard" "resources" "I") ∈ lw_all := lw_g (lw_at lw_m5 93 rfl) rfl
theorem q1192 : (Jvm.Cond.fieldLink "WaysAtlas$Guard" (74 : Nat) "WaysAtlas$Guard" "block" "[LWaysAtlas$Statement;") ∈ lw_all := lw_g (lw_at lw_m5 95 rfl) rfl
theorem q1195 : (Jvm.Cond.fieldLink "WaysAtlas$Guard" (9 : Nat) "WaysAtlas$Guard" "kinds" "[I") ∈ lw_all := lw_g (lw_at lw_m5 98 rfl) rfl
theorem q1198 : (Jvm.Cond.fieldLink "WaysAtlas$Guard" (17 : Nat) "WaysAtlas$Guard" "catches" "[[LWaysAtlas$Statement;") ∈ lw_all := lw_g (lw_at lw_m5 101 rfl) rfl
theorem q1201 : (Jvm.Cond.fieldLink "WaysAtlas$Guard" (28 : Nat) "WaysAtlas$Guard" "many" "I") ∈ lw_all := lw_g (lw_at lw_m5 104 rfl) rfl
theorem q1204 : (Jvm.Cond.fieldLink "WaysAtlas$Guard" (43 : Nat) "WaysAtlas$Guard" "finish" "[LWaysAtlas$Statement;") ∈ lw_all := lw_g (lw_at lw_m5 107 rfl) rfl
theorem q1207 : (Jvm.Cond.laysFinal "WaysAtlas$Guard" "WaysAtlas$Guard" "resources" "I") ∈ lw_all := lw_g (lw_at lw_m5 110 rfl) rfl
theorem q1208 : (Jvm.Cond.soleField "WaysAtlas$Guard" "resources") ∈ lw_all := lw_g (lw_at lw_m5 111 rfl) rfl
theorem q1209 : (Jvm.Cond.lays "WaysAtlas$Guard" "WaysAtlas$Guard" "block" "[LWaysAtlas$Statement;") ∈ lw_all := lw_g (lw_at lw_m5 112 rfl) rfl
theorem q1210 : (Jvm.Cond.soleField "WaysAtlas$Guard" "block") ∈ lw_all := lw_g (lw_at lw_m5 113 rfl) rfl
theorem q1211 : (Jvm.Cond.lays "WaysAtlas$Guard" "WaysAtlas$Guard" "kinds" "[I") ∈ lw_all := lw_g (lw_at lw_m5 114 rfl) rfl
theorem q1212 : (Jvm.Cond.soleField "WaysAtlas$Guard" "kinds") ∈ lw_all := lw_g (lw_at lw_m5 115 rfl) rfl
theorem q1213 : (Jvm.Cond.lays "WaysAtlas$Guard" "WaysAtlas$Guard" "catches" "[[LWaysAtlas$Statement;") ∈ lw_all := lw_g (lw_at lw_m5 116 rfl) rfl
theorem q1214 : (Jvm.Cond.soleField "WaysAtlas$Guard" "catches") ∈ lw_all := lw_g (lw_at lw_m5 117 rfl) rfl
theorem q1215 : (Jvm.Cond.lays "WaysAtlas$Guard" "WaysAtlas$Guard" "many" "I") ∈ lw_all := lw_g (lw_at lw_m5 118 rfl) rfl
theorem q1216 : (Jvm.Cond.soleField "WaysAtlas$Guard" "many") ∈ lw_all := lw_g (lw_at lw_m5 119 rfl) rfl
theorem q1217 : (Jvm.Cond.lays "WaysAtlas$Guard" "WaysAtlas$Guard" "finish" "[LWaysAtlas$Statement;") ∈ lw_all := lw_g (lw_at lw_m5 120 rfl) rfl
theorem q1218 : (Jvm.Cond.soleField "WaysAtlas$Guard" "finish") ∈ lw_all := lw_g (lw_at lw_m5 121 rfl) rfl
theorem q1219 : (Jvm.Cond.laysFinal "WaysAtlas$Guard" "WaysAtlas$Statement" "number" "I") ∈ lw_all := lw_g (lw_at lw_m5 122 rfl) rfl
theorem q1220 : (Jvm.Cond.superclass "WaysAtlas$Guard" "WaysAtlas$Statement") ∈ lw_all := lw_g (lw_at lw_m5 123 rfl) rfl
theorem q1222 : (Jvm.Cond.instanceMethod ({ cls := "WaysAtlas$Guard", name := "adds", desc := "(I[LWaysAtlas$Statement;)V" } : Jvm.MethodName)) ∈ lw_all := lw_g (lw_at lw_m5 125 rfl) rfl
theorem q1223 : (Jvm.Cond.selects "WaysAtlas$Guard" ({ cls := "WaysAtlas$Guard", name := "adds", desc := "(I[LWaysAtlas$Statement;)V" } : Jvm.MethodName) ({ cls := "WaysAtlas$Guard", name := "adds", desc := "(I[LWaysAtlas$Statement;)V" } : Jvm.MethodName)) ∈ lw_all := lw_g (lw_at lw_m5 126 rfl) rfl
theorem q1224 : (Jvm.Cond.code ({ cls := "WaysAtlas$Guard", name := "adds", desc := "(I[LWaysAtlas$Statement;)V" } : Jvm.MethodName) prog_6_method_3_code (4 : Nat) (Option.none : Option Jvm.ClassFile.FieldType)) ∈ lw_all := lw_g (lw_at lw_m5 127 rfl) rfl
theorem q1225 : (Jvm.Cond.methodLinkNest "WaysAtlas$Guard" (31 : Nat) ({ cls := "WaysAtlas$Scope", name := "wide", desc := "([II)[I" } : Jvm.MethodName) "WaysAtlas") ∈ lw_tbl := lw_at lw_m5 128 rfl
theorem q1231 : (Jvm.Cond.methodLink "WaysAtlas$Guard" (37 : Nat) ({ cls := "java/lang/System", name := "arraycopy", desc := "(Ljava/lang/Object;ILjava/lang/Object;II)V" } : Jvm.MethodName)) ∈ lw_all := lw_g (lw_at lw_m5 134 rfl) rfl
theorem q1302 : (Jvm.Cond.castable "WaysAtlas$Guard" "WaysAtlas$Walked") ∈ lw_tbl := lw_at lw_m5 205 rfl
theorem q1303 : (Jvm.Cond.selects "WaysAtlas$Guard" ({ cls := "WaysAtlas$Walked", name := "tells", desc := "(LWaysAtlas$Lower;)V" } : Jvm.MethodName) ({ cls := "WaysAtlas$Guard", name := "tells", desc := "(LWaysAtlas$Lower;)V" } : Jvm.MethodName)) ∈ lw_all := lw_g (lw_at lw_m5 206 rfl) rfl
theorem q1304 : (Jvm.Cond.unhidden "WaysAtlas$Guard" "tells" "(LWaysAtlas$Lower;)V") ∈ lw_tbl := lw_at lw_m5 207 rfl
theorem q1305 : (Jvm.Cond.instanceMethod ({ cls := "WaysAtlas$Guard", name := "tells", desc := "(LWaysAtlas$Lower;)V" } : Jvm.MethodName)) ∈ lw_all := lw_g (lw_at lw_m5 208 rfl) rfl
theorem q1306 : (Jvm.Cond.publicMethod ({ cls := "WaysAtlas$Guard", name := "tells", desc := "(LWaysAtlas$Lower;)V" } : Jvm.MethodName)) ∈ lw_tbl := lw_at lw_m5 209 rfl
theorem q1307 : (Jvm.Cond.code ({ cls := "WaysAtlas$Guard", name := "tells", desc := "(LWaysAtlas$Lower;)V" } : Jvm.MethodName) prog_6_method_10_code (2 : Nat) (Option.none : Option Jvm.ClassFile.FieldType)) ∈ lw_all := lw_g (lw_at lw_m5 210 rfl) rfl
theorem q1308 : (Jvm.Cond.methodLink "WaysAtlas$Guard" (124 : Nat) ({ cls := "WaysAtlas$Lower", name := "guard", desc := "(LWaysAtlas$Guard;)V" } : Jvm.MethodName)) ∈ lw_all := lw_g (lw_at lw_m5 211 rfl) rfl
theorem q1321 : (Jvm.Cond.instanceMethod ({ cls := "WaysAtlas$Guard", name := "resources", desc := "()I" } : Jvm.MethodName)) ∈ lw_all := lw_g (lw_at lw_m5 224 rfl) rfl
theorem q1322 : (Jvm.Cond.selects "WaysAtlas$Guard" ({ cls := "WaysAtlas$Guard", name := "resources", desc := "()I" } : Jvm.MethodName) ({ cls := "WaysAtlas$Guard", name := "resources", desc := "()I" } : Jvm.MethodName)) ∈ lw_all := lw_g (lw_at lw_m5 225 rfl) rfl
theorem q1323 : (Jvm.Cond.code ({ cls := "WaysAtlas$Guard", name := "resources", desc := "()I" } : Jvm.MethodName) prog_6_method_4_code (1 : Nat) (Option.some Jvm.ClassFile.FieldType.int)) ∈ lw_all := lw_g (lw_at lw_m5 226 rfl) rfl
theorem q1370 : (Jvm.Cond.instanceMethod ({ cls := "WaysAtlas$Guard", name := "slot", desc := "(I)I" } : Jvm.MethodName)) ∈ lw_all := lw_g (lw_at lw_m6 33 rfl) rfl
theorem q1371 : (Jvm.Cond.selects "WaysAtlas$Guard" ({ cls := "WaysAtlas$Guard", name := "slot", desc := "(I)I" } : Jvm.MethodName) ({ cls := "WaysAtlas$Guard", name := "slot", desc := "(I)I" } : Jvm.MethodName)) ∈ lw_all := lw_g (lw_at lw_m6 34 rfl) rfl
theorem q1372 : (Jvm.Cond.code ({ cls := "WaysAtlas$Guard", name := "slot", desc := "(I)I" } : Jvm.MethodName) prog_6_method_2_code (2 : Nat) (Option.some Jvm.ClassFile.FieldType.int)) ∈ lw_all := lw_g (lw_at lw_m6 35 rfl) rfl
theorem q1502 : (Jvm.Cond.selects "WaysAtlas$Guard" ({ cls := "WaysAtlas$Statement", name := "isMark", desc := "()Z" } : Jvm.MethodName) ({ cls := "WaysAtlas$Statement", name := "isMark", desc := "()Z" } : Jvm.MethodName)) ∈ lw_all := lw_g (lw_at lw_m6 165 rfl) rfl
theorem q1521 : (Jvm.Cond.selects "WaysAtlas$Guard" ({ cls := "WaysAtlas$Statement", name := "resources", desc := "()I" } : Jvm.MethodName) ({ cls := "WaysAtlas$Guard", name := "resources", desc := "()I" } : Jvm.MethodName)) ∈ lw_all := lw_g (lw_at lw_m6 184 rfl) rfl
theorem q1648 : (Jvm.Cond.selects "WaysAtlas$Guard" ({ cls := "WaysAtlas$Walked", name := "walk", desc := "(LWaysAtlas$Run;LWaysAtlas$Frame;)I" } : Jvm.MethodName) ({ cls := "WaysAtlas$Guard", name := "walk", desc := "(LWaysAtlas$Run;LWaysAtlas$Frame;)I" } : Jvm.MethodName)) ∈ lw_all := lw_g (lw_at lw_m7 71 rfl) rfl
theorem q1649 : (Jvm.Cond.unhidden "WaysAtlas$Guard" "walk" "(LWaysAtlas$Run;LWaysAtlas$Frame;)I") ∈ lw_tbl := lw_at lw_m7 72 rfl
theorem q1650 : (Jvm.Cond.instanceMethod ({ cls := "WaysAtlas$Guard", name := "walk", desc := "(LWaysAtlas$Run;LWaysAtlas$Frame;)I" } : Jvm.MethodName)) ∈ lw_all := lw_g (lw_at lw_m7 73 rfl) rfl
theorem q1651 : (Jvm.Cond.publicMethod ({ cls := "WaysAtlas$Guard", name := "walk", desc := "(LWaysAtlas$Run;LWaysAtlas$Frame;)I" } : Jvm.MethodName)) ∈ lw_tbl := lw_at lw_m7 74 rfl
theorem q1652 : (Jvm.Cond.codeWith ({ cls := "WaysAtlas$Guard", name := "walk", desc := "(LWaysAtlas$Run;LWaysAtlas$Frame;)I" } : Jvm.MethodName) prog_6_method_9_code (8 : Nat) (Option.some Jvm.ClassFile.FieldType.int) [((20 : Nat), (28 : Nat), (31 : Nat), (81 : Nat)), ((61 : Nat), (72 : Nat), (75 : Nat), (81 : Nat))]) ∈ lw_all := lw_g (lw_at lw_m7 75 rfl) rfl
theorem q1653 : (Jvm.Cond.classLink "WaysAtlas$Guard" (81 : Nat) "WaysAtlas$Thrown") ∈ lw_all := lw_g (lw_at lw_m7 76 rfl) rfl
theorem q1654 : (Jvm.Cond.methodLink "WaysAtlas$Guard" (112 : Nat) ({ cls := "WaysAtlas$Guard", name := "caught", desc := "(LWaysAtlas$Run;LWaysAtlas$Frame;)I" } : Jvm.MethodName)) ∈ lw_all := lw_g (lw_at lw_m7 77 rfl) rfl
theorem q1655 : (Jvm.Cond.privateMethod ({ cls := "WaysAtlas$Guard", name := "caught", desc := "(LWaysAtlas$Run;LWaysAtlas$Frame;)I" } : Jvm.MethodName)) ∈ lw_tbl := lw_at lw_m7 78 rfl
theorem q1656 : (Jvm.Cond.instanceMethod ({ cls := "WaysAtlas$Guard", name := "caught", desc := "(LWaysAtlas$Run;LWaysAtlas$Frame;)I" } : Jvm.MethodName)) ∈ lw_all := lw_g (lw_at lw_m7 79 rfl) rfl
theorem q1657 : (Jvm.Cond.codeWith ({ cls := "WaysAtlas$Guard", name := "caught", desc := "(LWaysAtlas$Run;LWaysAtlas$Frame;)I" } : Jvm.MethodName) prog_6_method_8_code (5 : Nat) (Option.some Jvm.ClassFile.FieldType.int) [((0 : Nat), (25 : Nat), (26 : Nat), (81 : Nat))]) ∈ lw_all := lw_g (lw_at lw_m7 80 rfl) rfl
theorem q1658 : (Jvm.Cond.methodLink "WaysAtlas$Guard" (101 : Nat) ({ cls := "WaysAtlas$Guard", name := "inner", desc := "(LWaysAtlas$Run;LWaysAtlas$Frame;)I" } : Jvm.MethodName)) ∈ lw_all := lw_g (lw_at lw_m7 81 rfl) rfl
theorem q1659 : (Jvm.Cond.privateMethod ({ cls := "WaysAtlas$Guard", name := "inner", desc := "(LWaysAtlas$Run;LWaysAtlas$Frame;)I" } : Jvm.MethodName)) ∈ lw_tbl := lw_at lw_m7 82 rfl
theorem q1660 : (Jvm.Cond.instanceMethod ({ cls := "WaysAtlas$Guard", name := "inner", desc := "(LWaysAtlas$Run;LWaysAtlas$Frame;)I" } : Jvm.MethodName)) ∈ lw_all := lw_g (lw_at lw_m7 83 rfl) rfl
theorem q1661 : (Jvm.Cond.codeWith ({ cls := "WaysAtlas$Guard", name := "inner", desc := "(LWaysAtlas$Run;LWaysAtlas$Frame;)I" } : Jvm.MethodName) prog_6_method_7_code (8 : Nat) (Option.some Jvm.ClassFile.FieldType.int) [((41 : Nat), (52 : Nat), (55 : Nat), (81 : Nat))]) ∈ lw_all := lw_g (lw_at lw_m7 84 rfl) rfl
theorem q1662 : (Jvm.Cond.methodLink "WaysAtlas$Guard" (58 : Nat) ({ cls := "WaysAtlas$Guard", name := "slot", desc := "(I)I" } : Jvm.MethodName)) ∈ lw_all := lw_g (lw_at lw_m7 85 rfl) rfl
theorem q1663 : (Jvm.Cond.methodLink "WaysAtlas$Guard" (67 : Nat) ({ cls := "WaysAtlas$Run", name := "opens", desc := "(II[II)I" } : Jvm.MethodName)) ∈ lw_all := lw_g (lw_at lw_m7 86 rfl) rfl
theorem q1676 : (Jvm.Cond.methodLinkNest "WaysAtlas$Guard" (77 : Nat) ({ cls := "WaysAtlas", name := "walks", desc := "([LWaysAtlas$Statement;LWaysAtlas$Run;LWaysAtlas$Frame;)I" } : Jvm.MethodName) "WaysAtlas") ∈ lw_tbl := lw_at lw_m7 99 rfl
theorem q1677 : (Jvm.Cond.methodLink "WaysAtlas$Guard" (89 : Nat) ({ cls := "WaysAtlas$Run", name := "closes", desc := "(II[III)I" } : Jvm.MethodName)) ∈ lw_all := lw_g (lw_at lw_m7 100 rfl) rfl
theorem q1685 : (Jvm.Cond.methodLink "WaysAtlas$Guard" (97 : Nat) ({ cls := "WaysAtlas$Thrown", name := "with", desc := "(I)LWaysAtlas$Thrown;" } : Jvm.MethodName)) ∈ lw_all := lw_g (lw_at lw_m7 108 rfl) rfl
theorem q1686 : (Jvm.Cond.methodLink "WaysAtlas$Guard" (108 : Nat) ({ cls := "WaysAtlas$Guard", name := "catchOf", desc := "(LWaysAtlas$Run;I)I" } : Jvm.MethodName)) ∈ lw_all := lw_g (lw_at lw_m7 109 rfl) rfl
theorem q1687 : (Jvm.Cond.instanceMethod ({ cls := "WaysAtlas$Guard", name := "catchOf", desc := "(LWaysAtlas$Run;I)I" } : Jvm.MethodName)) ∈ lw_all := lw_g (lw_at lw_m7 110 rfl) rfl
theorem q1688 : (Jvm.Cond.selects "WaysAtlas$Guard" ({ cls := "WaysAtlas$Guard", name := "catchOf", desc := "(LWaysAtlas$Run;I)I" } : Jvm.MethodName) ({ cls := "WaysAtlas$Guard", name := "catchOf", desc := "(LWaysAtlas$Run;I)I" } : Jvm.MethodName)) ∈ lw_all := lw_g (lw_at lw_m7 111 rfl) rfl
theorem q1689 : (Jvm.Cond.code ({ cls := "WaysAtlas$Guard", name := "catchOf", desc := "(LWaysAtlas$Run;I)I" } : Jvm.MethodName) prog_6_method_6_code (4 : Nat) (Option.some Jvm.ClassFile.FieldType.int)) ∈ lw_all := lw_g (lw_at lw_m7 112 rfl) rfl
theorem q1690 : (Jvm.Cond.methodLink "WaysAtlas$Guard" (52 : Nat) ({ cls := "WaysAtlas$Program", name := "isUnder", desc := "(II)Z" } : Jvm.MethodName)) ∈ lw_all := lw_g (lw_at lw_m7 113 rfl) rfl
theorem q1862 : (Jvm.Cond.selects "WaysAtlas$Guard" ({ cls := "WaysAtlas$Statement", name := "hasFinish", desc := "()Z" } : Jvm.MethodName) ({ cls := "WaysAtlas$Guard", name := "hasFinish", desc := "()Z" } : Jvm.MethodName)) ∈ lw_all := lw_g (lw_at lw_m8 45 rfl) rfl
theorem q1863 : (Jvm.Cond.instanceMethod ({ cls := "WaysAtlas$Guard", name := "hasFinish", desc := "()Z" } : Jvm.MethodName)) ∈ lw_all := lw_g (lw_at lw_m8 46 rfl) rfl
theorem q1864 : (Jvm.Cond.code ({ cls := "WaysAtlas$Guard", name := "hasFinish", desc := "()Z" } : Jvm.MethodName) prog_6_method_5_code (1 : Nat) (Option.some Jvm.ClassFile.FieldType.boolean)) ∈ lw_all := lw_g (lw_at lw_m8 47 rfl) rfl
theorem q2653 : (Jvm.Cond.castable "WaysAtlas$Guard" "WaysAtlas$Statement") ∈ lw_tbl := lw_at lw_m11 116 rfl
theorem q177 : (Jvm.Cond.initialized "WaysAtlas$Scope") ∈ lw_all := lw_g (lw_at lw_m1 40 rfl) rfl
theorem q1226 : (Jvm.Cond.static ({ cls := "WaysAtlas$Scope", name := "wide", desc := "([II)[I" } : Jvm.MethodName)) ∈ lw_all := lw_g (lw_at lw_m5 129 rfl) rfl
theorem q1227 : (Jvm.Cond.code ({ cls := "WaysAtlas$Scope", name := "wide", desc := "([II)[I" } : Jvm.MethodName) prog_26_method_2_code (3 : Nat) (Option.some (Jvm.ClassFile.FieldType.array Jvm.ClassFile.FieldType.int))) ∈ lw_all := lw_g (lw_at lw_m5 130 rfl) rfl
theorem q1228 : (Jvm.Cond.methodLink "WaysAtlas$Scope" (28 : Nat) ({ cls := "java/lang/System", name := "arraycopy", desc := "(Ljava/lang/Object;ILjava/lang/Object;II)V" } : Jvm.MethodName)) ∈ lw_all := lw_g (lw_at lw_m5 131 rfl) rfl
theorem q1329 : (Jvm.Cond.instantiable "WaysAtlas$Scope" (8 : Nat)) ∈ lw_all := lw_g (lw_at lw_m5 232 rfl) rfl
theorem q1331 : (Jvm.Cond.instanceMethod ({ cls := "WaysAtlas$Scope", name := "<init>", desc := "(ILWaysAtlas$Statement;LWaysAtlas$Scope;)V" } : Jvm.MethodName)) ∈ lw_all := lw_g (lw_at lw_m5 234 rfl) rfl
theorem q1332 : (Jvm.Cond.code ({ cls := "WaysAtlas$Scope", name := "<init>", desc := "(ILWaysAtlas$Statement;LWaysAtlas$Scope;)V" } : Jvm.MethodName) prog_26_method_1_code (4 : Nat) (Option.none : Option Jvm.ClassFile.FieldType)) ∈ lw_all := lw_g (lw_at lw_m5 235 rfl) rfl
theorem q1333 : (Jvm.Cond.methodLink "WaysAtlas$Scope" (1 : Nat) ({ cls := "java/lang/Object", name := "<init>", desc := "()V" } : Jvm.MethodName)) ∈ lw_all := lw_g (lw_at lw_m5 236 rfl) rfl
theorem q1334 : (Jvm.Cond.fieldLink "WaysAtlas$Scope" (16 : Nat) "WaysAtlas$Scope" "sort" "I") ∈ lw_all := lw_g (lw_at lw_m5 237 rfl) rfl
theorem q1336 : (Jvm.Cond.fieldLink "WaysAtlas$Scope" (20 : Nat) "WaysAtlas$Scope" "of" "LWaysAtlas$Statement;") ∈ lw_all := lw_g (lw_at lw_m5 239 rfl) rfl
theorem q1338 : (Jvm.Cond.fieldLink "WaysAtlas$Scope" (24 : Nat) "WaysAtlas$Scope" "outer" "LWaysAtlas$Scope;") ∈ lw_all := lw_g (lw_at lw_m6 1 rfl) rfl
theorem q1340 : (Jvm.Cond.fieldLink "WaysAtlas$Scope" (7 : Nat) "WaysAtlas$Scope" "gaps" "[I") ∈ lw_all := lw_g (lw_at lw_m6 3 rfl) rfl
theorem q1342 : (Jvm.Cond.fieldLink "WaysAtlas$Scope" (47 : Nat) "WaysAtlas$Scope" "gapMany" "I") ∈ lw_all := lw_g (lw_at lw_m6 5 rfl) rfl
theorem q1344 : (Jvm.Cond.fieldLink "WaysAtlas$Scope" (13 : Nat) "WaysAtlas$Scope" "jumps" "[I") ∈ lw_all := lw_g (lw_at lw_m6 7 rfl) rfl
theorem q1345 : (Jvm.Cond.fieldLink "WaysAtlas$Scope" (34 : Nat) "WaysAtlas$Scope" "many" "I") ∈ lw_all := lw_g (lw_at lw_m6 8 rfl) rfl
theorem q1348 : (Jvm.Cond.laysFinal "WaysAtlas$Scope" "WaysAtlas$Scope" "sort" "I") ∈ lw_all := lw_g (lw_at lw_m6 11 rfl) rfl
theorem q1349 : (Jvm.Cond.soleField "WaysAtlas$Scope" "sort") ∈ lw_all := lw_g (lw_at lw_m6 12 rfl) rfl
theorem q1350 : (Jvm.Cond.laysFinal "WaysAtlas$Scope" "WaysAtlas$Scope" "of" "LWaysAtlas$Statement;") ∈ lw_all := lw_g (lw_at lw_m6 13 rfl) rfl
theorem q1351 : (Jvm.Cond.soleField "WaysAtlas$Scope" "of") ∈ lw_all := lw_g (lw_at lw_m6 14 rfl) rfl
theorem q1352 : (Jvm.Cond.laysFinal "WaysAtlas$Scope" "WaysAtlas$Scope" "outer" "LWaysAtlas$Scope;") ∈ lw_all := lw_g (lw_at lw_m6 15 rfl) rfl
theorem q1353 : (Jvm.Cond.soleField "WaysAtlas$Scope" "outer") ∈ lw_all := lw_g (lw_at lw_m6 16 rfl) rfl
theorem q1354 : (Jvm.Cond.lays "WaysAtlas$Scope" "WaysAtlas$Scope" "gaps" "[I") ∈ lw_all := lw_g (lw_at lw_m6 17 rfl) rfl
theorem q1355 : (Jvm.Cond.soleField "WaysAtlas$Scope" "gaps") ∈ lw_all := lw_g (lw_at lw_m6 18 rfl) rfl
theorem q1356 : (Jvm.Cond.lays "WaysAtlas$Scope" "WaysAtlas$Scope" "gapMany" "I") ∈ lw_all := lw_g (lw_at lw_m6 19 rfl) rfl
theorem q1357 : (Jvm.Cond.soleField "WaysAtlas$Scope" "gapMany") ∈ lw_all := lw_g (lw_at lw_m6 20 rfl) rfl
theorem q1358 : (Jvm.Cond.lays "WaysAtlas$Scope" "WaysAtlas$Scope" "jumps" "[I") ∈ lw_all := lw_g (lw_at lw_m6 21 rfl) rfl
theorem q1359 : (Jvm.Cond.soleField "WaysAtlas$Scope" "jumps") ∈ lw_all := lw_g (lw_at lw_m6 22 rfl) rfl
theorem q1360 : (Jvm.Cond.lays "WaysAtlas$Scope" "WaysAtlas$Scope" "many" "I") ∈ lw_all := lw_g (lw_at lw_m6 23 rfl) rfl
theorem q1361 : (Jvm.Cond.soleField "WaysAtlas$Scope" "many") ∈ lw_all := lw_g (lw_at lw_m6 24 rfl) rfl
theorem q1362 : (Jvm.Cond.lays "WaysAtlas$Scope" "WaysAtlas$Scope" "goal" "I") ∈ lw_all := lw_g (lw_at lw_m6 25 rfl) rfl
theorem q1363 : (Jvm.Cond.soleField "WaysAtlas$Scope" "goal") ∈ lw_all := lw_g (lw_at lw_m6 26 rfl) rfl
theorem q1364 : (Jvm.Cond.superclass "WaysAtlas$Scope" "java/lang/Object") ∈ lw_all := lw_g (lw_at lw_m6 27 rfl) rfl
theorem q1390 : (Jvm.Cond.instanceMethod ({ cls := "WaysAtlas$Scope", name := "lands", desc := "(LWaysAtlas$Lower;I)V" } : Jvm.MethodName)) ∈ lw_all := lw_g (lw_at lw_m6 53 rfl) rfl
theorem q1391 : (Jvm.Cond.selects "WaysAtlas$Scope" ({ cls := "WaysAtlas$Scope", name := "lands", desc := "(LWaysAtlas$Lower;I)V" } : Jvm.MethodName) ({ cls := "WaysAtlas$Scope", name := "lands", desc := "(LWaysAtlas$Lower;I)V" } : Jvm.MethodName)) ∈ lw_all := lw_g (lw_at lw_m6 54 rfl) rfl
theorem q1392 : (Jvm.Cond.code ({ cls := "WaysAtlas$Scope", name := "lands", desc := "(LWaysAtlas$Lower;I)V" } : Jvm.MethodName) prog_26_method_4_code (4 : Nat) (Option.none : Option Jvm.ClassFile.FieldType)) ∈ lw_all := lw_g (lw_at lw_m6 55 rfl) rfl
theorem q1393 : (Jvm.Cond.methodLink "WaysAtlas$Scope" (41 : Nat) ({ cls := "WaysAtlas$Lower", name := "lands", desc := "(II)V" } : Jvm.MethodName)) ∈ lw_all := lw_g (lw_at lw_m6 56 rfl) rfl
theorem q1427 : (Jvm.Cond.instanceMethod ({ cls := "WaysAtlas$Scope", name := "adds", desc := "(I)V" } : Jvm.MethodName)) ∈ lw_all := lw_g (lw_at lw_m6 90 rfl) rfl
theorem q1428 : (Jvm.Cond.selects "WaysAtlas$Scope" ({ cls := "WaysAtlas$Scope", name := "adds", desc := "(I)V" } : Jvm.MethodName) ({ cls := "WaysAtlas$Scope", name := "adds", desc := "(I)V" } : Jvm.MethodName)) ∈ lw_all := lw_g (lw_at lw_m6 91 rfl) rfl
theorem q1429 : (Jvm.Cond.code ({ cls := "WaysAtlas$Scope", name := "adds", desc := "(I)V" } : Jvm.MethodName) prog_26_method_3_code (2 : Nat) (Option.none : Option Jvm.ClassFile.FieldType)) ∈ lw_all := lw_g (lw_at lw_m6 92 rfl) rfl
theorem q1430 : (Jvm.Cond.methodLink "WaysAtlas$Scope" (37 : Nat) ({ cls := "WaysAtlas$Scope", name := "wide", desc := "([II)[I" } : Jvm.MethodName)) ∈ lw_all := lw_g (lw_at lw_m6 93 rfl) rfl
theorem q1432 : (Jvm.Cond.instanceMethod ({ cls := "WaysAtlas$Scope", name := "gap", desc := "(II)V" } : Jvm.MethodName)) ∈ lw_all := lw_g (lw_at lw_m6 95 rfl) rfl
theorem q1433 : (Jvm.Cond.selects "WaysAtlas$Scope" ({ cls := "WaysAtlas$Scope", name := "gap", desc := "(II)V" } : Jvm.MethodName) ({ cls := "WaysAtlas$Scope", name := "gap", desc := "(II)V" } : Jvm.MethodName)) ∈ lw_all := lw_g (lw_at lw_m6 96 rfl) rfl
theorem q1434 : (Jvm.Cond.code ({ cls := "WaysAtlas$Scope", name := "gap", desc := "(II)V" } : Jvm.MethodName) prog_26_method_5_code (3 : Nat) (Option.none : Option Jvm.ClassFile.FieldType)) ∈ lw_all := lw_g (lw_at lw_m6 97 rfl) rfl
theorem q179 : (Jvm.Cond.initialized "WaysAtlas$Lower") ∈ lw_all := lw_g (lw_at lw_m1 42 rfl) rfl
theorem q851 : (Jvm.Cond.fieldLinkNest "WaysAtlas$Lower" (166 : Nat) "WaysAtlas$Method" "block" "[LWaysAtlas$Statement;" "WaysAtlas") ∈ lw_tbl := lw_at lw_m3 234 rfl
theorem q853 : (Jvm.Cond.fieldLinkNest "WaysAtlas$Lower" (161 : Nat) "WaysAtlas$Method" "from" "I" "WaysAtlas") ∈ lw_tbl := lw_at lw_m3 236 rfl
theorem q987 : (Jvm.Cond.fieldLink "WaysAtlas$Lower" (46 : Nat) "WaysAtlas$Statement" "number" "I") ∈ lw_all := lw_g (lw_at lw_m4 130 rfl) rfl
theorem q988 : (Jvm.Cond.fieldLink "WaysAtlas$Lower" (119 : Nat) "WaysAtlas$Guard" "number" "I") ∈ lw_all := lw_g (lw_at lw_m4 131 rfl) rfl
theorem q1193 : (Jvm.Cond.fieldLinkNest "WaysAtlas$Lower" (117 : Nat) "WaysAtlas$Guard" "block" "[LWaysAtlas$Statement;" "WaysAtlas") ∈ lw_tbl := lw_at lw_m5 96 rfl
theorem q1196 : (Jvm.Cond.fieldLinkNest "WaysAtlas$Lower" (137 : Nat) "WaysAtlas$Guard" "kinds" "[I" "WaysAtlas") ∈ lw_tbl := lw_at lw_m5 99 rfl
theorem q1199 : (Jvm.Cond.fieldLinkNest "WaysAtlas$Lower" (140 : Nat) "WaysAtlas$Guard" "catches" "[[LWaysAtlas$Statement;" "WaysAtlas") ∈ lw_tbl := lw_at lw_m5 102 rfl
theorem q1202 : (Jvm.Cond.fieldLinkNest "WaysAtlas$Lower" (130 : Nat) "WaysAtlas$Guard" "many" "I" "WaysAtlas") ∈ lw_tbl := lw_at lw_m5 105 rfl
theorem q1205 : (Jvm.Cond.fieldLinkNest "WaysAtlas$Lower" (105 : Nat) "WaysAtlas$Guard" "finish" "[LWaysAtlas$Statement;" "WaysAtlas") ∈ lw_tbl := lw_at lw_m5 108 rfl
theorem q1237 : (Jvm.Cond.instantiable "WaysAtlas$Lower" (6 : Nat)) ∈ lw_all := lw_g (lw_at lw_m5 140 rfl) rfl
theorem q1239 : (Jvm.Cond.instanceMethod ({ cls := "WaysAtlas$Lower", name := "<init>", desc := "(Z)V" } : Jvm.MethodName)) ∈ lw_all := lw_g (lw_at lw_m5 142 rfl) rfl
theorem q1240 : (Jvm.Cond.code ({ cls := "WaysAtlas$Lower", name := "<init>", desc := "(Z)V" } : Jvm.MethodName) prog_10_method_1_code (2 : Nat) (Option.none : Option Jvm.ClassFile.FieldType)) ∈ lw_all := lw_g (lw_at lw_m5 143 rfl) rfl
theorem q1241 : (Jvm.Cond.methodLink "WaysAtlas$Lower" (3 : Nat) ({ cls := "java/lang/Object", name := "<init>", desc := "()V" } : Jvm.MethodName)) ∈ lw_all := lw_g (lw_at lw_m5 144 rfl) rfl
theorem q1242 : (Jvm.Cond.fieldLink "WaysAtlas$Lower" (9 : Nat) "WaysAtlas$Lower" "ops" "[I") ∈ lw_all := lw_g (lw_at lw_m5 145 rfl) rfl
theorem q1244 : (Jvm.Cond.fieldLink "WaysAtlas$Lower" (22 : Nat) "WaysAtlas$Lower" "size" "I") ∈ lw_all := lw_g (lw_at lw_m5 147 rfl) rfl
theorem q1247 : (Jvm.Cond.fieldLink "WaysAtlas$Lower" (15 : Nat) "WaysAtlas$Lower" "table" "[I") ∈ lw_all := lw_g (lw_at lw_m5 150 rfl) rfl
theorem q1250 : (Jvm.Cond.fieldLink "WaysAtlas$Lower" (61 : Nat) "WaysAtlas$Lower" "rows" "I") ∈ lw_all := lw_g (lw_at lw_m5 153 rfl) rfl
theorem q1251 : (Jvm.Cond.fieldLink "WaysAtlas$Lower" (18 : Nat) "WaysAtlas$Lower" "isShared" "Z") ∈ lw_all := lw_g (lw_at lw_m5 154 rfl) rfl
theorem q1252 : (Jvm.Cond.fieldLink "WaysAtlas$Lower" (32 : Nat) "WaysAtlas$Lower" "scope" "LWaysAtlas$Scope;") ∈ lw_all := lw_g (lw_at lw_m5 155 rfl) rfl
theorem q1253 : (Jvm.Cond.lays "WaysAtlas$Lower" "WaysAtlas$Lower" "ops" "[I") ∈ lw_all := lw_g (lw_at lw_m5 156 rfl) rfl
theorem q1254 : (Jvm.Cond.soleField "WaysAtlas$Lower" "ops") ∈ lw_all := lw_g (lw_at lw_m5 157 rfl) rfl
theorem q1255 : (Jvm.Cond.lays "WaysAtlas$Lower" "WaysAtlas$Lower" "size" "I") ∈ lw_all := lw_g (lw_at lw_m5 158 rfl) rfl
theorem q1256 : (Jvm.Cond.soleField "WaysAtlas$Lower" "size") ∈ lw_all := lw_g (lw_at lw_m5 159 rfl) rfl
theorem q1257 : (Jvm.Cond.lays "WaysAtlas$Lower" "WaysAtlas$Lower" "table" "[I") ∈ lw_all := lw_g (lw_at lw_m5 160 rfl) rfl
theorem q1258 : (Jvm.Cond.soleField "WaysAtlas$Lower" "table") ∈ lw_all := lw_g (lw_at lw_m5 161 rfl) rfl
theorem q1259 : (Jvm.Cond.lays "WaysAtlas$Lower" "WaysAtlas$Lower" "rows" "I") ∈ lw_all := lw_g (lw_at lw_m5 162 rfl) rfl
theorem q1260 : (Jvm.Cond.soleField "WaysAtlas$Lower" "rows") ∈ lw_all := lw_g (lw_at lw_m5 163 rfl) rfl
theorem q1261 : (Jvm.Cond.laysFinal "WaysAtlas$Lower" "WaysAtlas$Lower" "isShared" "Z") ∈ lw_all := lw_g (lw_at lw_m5 164 rfl) rfl
theorem q1262 : (Jvm.Cond.soleField "WaysAtlas$Lower" "isShared") ∈ lw_all := lw_g (lw_at lw_m5 165 rfl) rfl
theorem q1263 : (Jvm.Cond.lays "WaysAtlas$Lower" "WaysAtlas$Lower" "scope" "LWaysAtlas$Scope;") ∈ lw_all := lw_g (lw_at lw_m5 166 rfl) rfl
theorem q1264 : (Jvm.Cond.soleField "WaysAtlas$Lower" "scope") ∈ lw_all := lw_g (lw_at lw_m5 167 rfl) rfl
theorem q1265 : (Jvm.Cond.superclass "WaysAtlas$Lower" "java/lang/Object") ∈ lw_all := lw_g (lw_at lw_m5 168 rfl) rfl
theorem q1267 : (Jvm.Cond.instanceMethod ({ cls := "WaysAtlas$Lower", name := "isTooLong", desc := "()Z" } : Jvm.MethodName)) ∈ lw_all := lw_g (lw_at lw_m5 170 rfl) rfl
theorem q1268 : (Jvm.Cond.selects "WaysAtlas$Lower" ({ cls := "WaysAtlas$Lower", name := "isTooLong", desc := "()Z" } : Jvm.MethodName) ({ cls := "WaysAtlas$Lower", name := "isTooLong", desc := "()Z" } : Jvm.MethodName)) ∈ lw_all := lw_g (lw_at lw_m5 171 rfl) rfl
theorem q1269 : (Jvm.Cond.code ({ cls := "WaysAtlas$Lower", name := "isTooLong", desc := "()Z" } : Jvm.MethodName) prog_10_method_6_code (1 : Nat) (Option.some Jvm.ClassFile.FieldType.boolean)) ∈ lw_all := lw_g (lw_at lw_m5 172 rfl) rfl
theorem q1271 : (Jvm.Cond.instanceMethod ({ cls := "WaysAtlas$Lower", name := "method", desc := "(LWaysAtlas$Method;)V" } : Jvm.MethodName)) ∈ lw_all := lw_g (lw_at lw_m5 174 rfl) rfl
theorem q1272 : (Jvm.Cond.selects "WaysAtlas$Lower" ({ cls := "WaysAtlas$Lower", name := "method", desc := "(LWaysAtlas$Method;)V" } : Jvm.MethodName) ({ cls := "WaysAtlas$Lower", name := "method", desc := "(LWaysAtlas$Method;)V" } : Jvm.MethodName)) ∈ lw_all := lw_g (lw_at lw_m5 175 rfl) rfl
theorem q1273 : (Jvm.Cond.code ({ cls := "WaysAtlas$Lower", name := "method", desc := "(LWaysAtlas$Method;)V" } : Jvm.MethodName) prog_10_method_18_code (2 : Nat) (Option.none : Option Jvm.ClassFile.FieldType)) ∈ lw_all := lw_g (lw_at lw_m5 176 rfl) rfl
theorem q1274 : (Jvm.Cond.methodLink "WaysAtlas$Lower" (109 : Nat) ({ cls := "WaysAtlas$Lower", name := "block", desc := "([LWaysAtlas$Statement;)V" } : Jvm.MethodName)) ∈ lw_all := lw_g (lw_at lw_m5 177 rfl) rfl
theorem q1275 : (Jvm.Cond.instanceMethod ({ cls := "WaysAtlas$Lower", name := "block", desc := "([LWaysAtlas$Statement;)V" } : Jvm.MethodName)) ∈ lw_all := lw_g (lw_at lw_m5 178 rfl) rfl
theorem q1276 : (Jvm.Cond.selects "WaysAtlas$Lower" ({ cls := "WaysAtlas$Lower", name := "block", desc := "([LWaysAtlas$Statement;)V" } : Jvm.MethodName) ({ cls := "WaysAtlas$Lower", name := "block", desc := "([LWaysAtlas$Statement;)V" } : Jvm.MethodName)) ∈ lw_all := lw_g (lw_at lw_m5 179 rfl) rfl
theorem q1277 : (Jvm.Cond.code ({ cls := "WaysAtlas$Lower", name := "block", desc := "([LWaysAtlas$Statement;)V" } : Jvm.MethodName) prog_10_method_7_code (4 : Nat) (Option.none : Option Jvm.ClassFile.FieldType)) ∈ lw_all := lw_g (lw_at lw_m5 180 rfl) rfl
theorem q1278 : (Jvm.Cond.methodLink "WaysAtlas$Lower" (42 : Nat) ({ cls := "WaysAtlas$Lower", name := "isTooLong", desc := "()Z" } : Jvm.MethodName)) ∈ lw_all := lw_g (lw_at lw_m5 181 rfl) rfl
theorem q1279 : (Jvm.Cond.methodLink "WaysAtlas$Lower" (51 : Nat) ({ cls := "WaysAtlas$Lower", name := "add", desc := "(III)I" } : Jvm.MethodName)) ∈ lw_all := lw_g (lw_at lw_m5 182 rfl) rfl
theorem q1280 : (Jvm.Cond.instanceMethod ({ cls := "WaysAtlas$Lower", name := "add", desc := "(III)I" } : Jvm.MethodName)) ∈ lw_all := lw_g (lw_at lw_m5 183 rfl) rfl
theorem q1281 : (Jvm.Cond.selects "WaysAtlas$Lower" ({ cls := "WaysAtlas$Lower", name := "add", desc := "(III)I" } : Jvm.MethodName) ({ cls := "WaysAtlas$Lower", name := "add", desc := "(III)I" } : Jvm.MethodName)) ∈ lw_all := lw_g (lw_at lw_m5 184 rfl) rfl
theorem q1282 : (Jvm.Cond.code ({ cls := "WaysAtlas$Lower", name := "add", desc := "(III)I" } : Jvm.MethodName) prog_10_method_2_code (4 : Nat) (Option.some Jvm.ClassFile.FieldType.int)) ∈ lw_all := lw_g (lw_at lw_m5 185 rfl) rfl
theorem q1283 : (Jvm.Cond.methodLinkNest "WaysAtlas$Lower" (26 : Nat) ({ cls := "WaysAtlas$Scope", name := "wide", desc := "([II)[I" } : Jvm.MethodName) "WaysAtlas") ∈ lw_tbl := lw_at lw_m5 186 rfl
theorem q1284 : (Jvm.Cond.interfaceEntry "WaysAtlas$Lower" (55 : Nat)) ∈ lw_tbl := lw_at lw_m5 187 rfl
theorem q1285 : (Jvm.Cond.methodLink "WaysAtlas$Lower" (55 : Nat) ({ cls := "WaysAtlas$Walked", name := "tells", desc := "(LWaysAtlas$Lower;)V" } : Jvm.MethodName)) ∈ lw_all := lw_g (lw_at lw_m5 188 rfl) rfl
theorem q1309 : (Jvm.Cond.instanceMethod ({ cls := "WaysAtlas$Lower", name := "guard", desc := "(LWaysAtlas$Guard;)V" } : Jvm.MethodName)) ∈ lw_all := lw_g (lw_at lw_m5 212 rfl) rfl
theorem q1310 : (Jvm.Cond.selects "WaysAtlas$Lower" ({ cls := "WaysAtlas$Lower", name := "guard", desc := "(LWaysAtlas$Guard;)V" } : Jvm.MethodName) ({ cls := "WaysAtlas$Lower", name := "guard", desc := "(LWaysAtlas$Guard;)V" } : Jvm.MethodName)) ∈ lw_all := lw_g (lw_at lw_m5 213 rfl) rfl
theorem q1311 : (Jvm.Cond.code ({ cls := "WaysAtlas$Lower", name := "guard", desc := "(LWaysAtlas$Guard;)V" } : Jvm.MethodName) prog_10_method_14_code (5 : Nat) (Option.none : Option Jvm.ClassFile.FieldType)) ∈ lw_all := lw_g (lw_at lw_m5 214 rfl) rfl
theorem q1312 : (Jvm.Cond.methodLink "WaysAtlas$Lower" (144 : Nat) ({ cls := "WaysAtlas$Lower", name := "caught", desc := "(LWaysAtlas$Guard;)V" } : Jvm.MethodName)) ∈ lw_all := lw_g (lw_at lw_m5 215 rfl) rfl
theorem q1313 : (Jvm.Cond.privateMethod ({ cls := "WaysAtlas$Lower", name := "caught", desc := "(LWaysAtlas$Guard;)V" } : Jvm.MethodName)) ∈ lw_tbl := lw_at lw_m5 216 rfl
theorem q1314 : (Jvm.Cond.instanceMethod ({ cls := "WaysAtlas$Lower", name := "caught", desc := "(LWaysAtlas$Guard;)V" } : Jvm.MethodName)) ∈ lw_all := lw_g (lw_at lw_m5 217 rfl) rfl
theorem q1315 : (Jvm.Cond.code ({ cls := "WaysAtlas$Lower", name := "caught", desc := "(LWaysAtlas$Guard;)V" } : Jvm.MethodName) prog_10_method_13_code (7 : Nat) (Option.none : Option Jvm.ClassFile.FieldType)) ∈ lw_all := lw_g (lw_at lw_m5 218 rfl) rfl
theorem q1316 : (Jvm.Cond.methodLink "WaysAtlas$Lower" (133 : Nat) ({ cls := "WaysAtlas$Lower", name := "inner", desc := "(LWaysAtlas$Guard;)V" } : Jvm.MethodName)) ∈ lw_all := lw_g (lw_at lw_m5 219 rfl) rfl
theorem q1317 : (Jvm.Cond.privateMethod ({ cls := "WaysAtlas$Lower", name := "inner", desc := "(LWaysAtlas$Guard;)V" } : Jvm.MethodName)) ∈ lw_tbl := lw_at lw_m5 220 rfl
theorem q1318 : (Jvm.Cond.instanceMethod ({ cls := "WaysAtlas$Lower", name := "inner", desc := "(LWaysAtlas$Guard;)V" } : Jvm.MethodName)) ∈ lw_all := lw_g (lw_at lw_m5 221 rfl) rfl
theorem q1319 : (Jvm.Cond.code ({ cls := "WaysAtlas$Lower", name := "inner", desc := "(LWaysAtlas$Guard;)V" } : Jvm.MethodName) prog_10_method_12_code (6 : Nat) (Option.none : Option Jvm.ClassFile.FieldType)) ∈ lw_all := lw_g (lw_at lw_m5 222 rfl) rfl
theorem q1320 : (Jvm.Cond.methodLink "WaysAtlas$Lower" (113 : Nat) ({ cls := "WaysAtlas$Guard", name := "resources", desc := "()I" } : Jvm.MethodName)) ∈ lw_all := lw_g (lw_at lw_m5 223 rfl) rfl
theorem q1324 : (Jvm.Cond.methodLink "WaysAtlas$Lower" (120 : Nat) ({ cls := "WaysAtlas$Lower", name := "enters", desc := "(ILWaysAtlas$Statement;)LWaysAtlas$Scope;" } : Jvm.MethodName)) ∈ lw_all := lw_g (lw_at lw_m5 227 rfl) rfl
theorem q1325 : (Jvm.Cond.instanceMethod ({ cls := "WaysAtlas$Lower", name := "enters", desc := "(ILWaysAtlas$Statement;)LWaysAtlas$Scope;" } : Jvm.MethodName)) ∈ lw_all := lw_g (lw_at lw_m5 228 rfl) rfl
theorem q1326 : (Jvm.Cond.selects "WaysAtlas$Lower" ({ cls := "WaysAtlas$Lower", name := "enters", desc := "(ILWaysAtlas$Statement;)LWaysAtlas$Scope;" } : Jvm.MethodName) ({ cls := "WaysAtlas$Lower", name := "enters", desc := "(ILWaysAtlas$Statement;)LWaysAtlas$Scope;" } : Jvm.MethodName)) ∈ lw_all := lw_g (lw_at lw_m5 229 rfl) rfl
theorem q1327 : (Jvm.Cond.code ({ cls := "WaysAtlas$Lower", name := "enters", desc := "(ILWaysAtlas$Statement;)LWaysAtlas$Scope;" } : Jvm.MethodName) prog_10_method_4_code (3 : Nat) (Option.some (Jvm.ClassFile.FieldType.object "WaysAtlas$Scope"))) ∈ lw_all := lw_g (lw_at lw_m5 230 rfl) rfl
theorem q1328 : (Jvm.Cond.classLink "WaysAtlas$Lower" (27 : Nat) "WaysAtlas$Scope") ∈ lw_all := lw_g (lw_at lw_m5 231 rfl) rfl
theorem q1330 : (Jvm.Cond.methodLink "WaysAtlas$Lower" (36 : Nat) ({ cls := "WaysAtlas$Scope", name := "<init>", desc := "(ILWaysAtlas$Statement;LWaysAtlas$Scope;)V" } : Jvm.MethodName)) ∈ lw_all := lw_g (lw_at lw_m5 233 rfl) rfl
theorem q1335 : (Jvm.Cond.fieldLinkNest "WaysAtlas$Lower" (74 : Nat) "WaysAtlas$Scope" "sort" "I" "WaysAtlas") ∈ lw_tbl := lw_at lw_m5 238 rfl
theorem q1337 : (Jvm.Cond.fieldLinkNest "WaysAtlas$Lower" (92 : Nat) "WaysAtlas$Scope" "of" "LWaysAtlas$Statement;" "WaysAtlas") ∈ lw_tbl := lw_at lw_m6 0 rfl
theorem q1339 : (Jvm.Cond.fieldLinkNest "WaysAtlas$Lower" (39 : Nat) "WaysAtlas$Scope" "outer" "LWaysAtlas$Scope;" "WaysAtlas") ∈ lw_tbl := lw_at lw_m6 2 rfl
theorem q1341 : (Jvm.Cond.fieldLinkNest "WaysAtlas$Lower" (67 : Nat) "WaysAtlas$Scope" "gaps" "[I" "WaysAtlas") ∈ lw_tbl := lw_at lw_m6 4 rfl
theorem q1343 : (Jvm.Cond.fieldLinkNest "WaysAtlas$Lower" (64 : Nat) "WaysAtlas$Scope" "gapMany" "I" "WaysAtlas") ∈ lw_tbl := lw_at lw_m6 6 rfl
theorem q1347 : (Jvm.Cond.fieldLinkNest "WaysAtlas$Lower" (81 : Nat) "WaysAtlas$Scope" "goal" "I" "WaysAtlas") ∈ lw_tbl := lw_at lw_m6 10 rfl
theorem q1365 : (Jvm.Cond.methodLink "WaysAtlas$Lower" (124 : Nat) ({ cls := "WaysAtlas$Lower", name := "exits", desc := "()V" } : Jvm.MethodName)) ∈ lw_all := lw_g (lw_at lw_m6 28 rfl) rfl
theorem q1366 : (Jvm.Cond.instanceMethod ({ cls := "WaysAtlas$Lower", name := "exits", desc := "()V" } : Jvm.MethodName)) ∈ lw_all := lw_g (lw_at lw_m6 29 rfl) rfl
theorem q1367 : (Jvm.Cond.selects "WaysAtlas$Lower" ({ cls := "WaysAtlas$Lower", name := "exits", desc := "()V" } : Jvm.MethodName) ({ cls := "WaysAtlas$Lower", name := "exits", desc := "()V" } : Jvm.MethodName)) ∈ lw_all := lw_g (lw_at lw_m6 30 rfl) rfl
theorem q1368 : (Jvm.Cond.code ({ cls := "WaysAtlas$Lower", name := "exits", desc := "()V" } : Jvm.MethodName) prog_10_method_5_code (1 : Nat) (Option.none : Option Jvm.ClassFile.FieldType)) ∈ lw_all := lw_g (lw_at lw_m6 31 rfl) rfl
theorem q1369 : (Jvm.Cond.methodLink "WaysAtlas$Lower" (98 : Nat) ({ cls := "WaysAtlas$Guard", name := "slot", desc := "(I)I" } : Jvm.MethodName)) ∈ lw_all := lw_g (lw_at lw_m6 32 rfl) rfl
theorem q1373 : (Jvm.Cond.methodLink "WaysAtlas$Lower" (127 : Nat) ({ cls := "WaysAtlas$Lower", name := "rows", desc := "(LWaysAtlas$Scope;IIIII)V" } : Jvm.MethodName)) ∈ lw_all := lw_g (lw_at lw_m6 36 rfl) rfl
theorem q1374 : (Jvm.Cond.privateMethod ({ cls := "WaysAtlas$Lower", name := "rows", desc := "(LWaysAtlas$Scope;IIIII)V" } : Jvm.MethodName)) ∈ lw_tbl := lw_at lw_m6 37 rfl
theorem q1375 : (Jvm.Cond.instanceMethod ({ cls := "WaysAtlas$Lower", name := "rows", desc := "(LWaysAtlas$Scope;IIIII)V" } : Jvm.MethodName)) ∈ lw_all := lw_g (lw_at lw_m6 38 rfl) rfl
theorem q1376 : (Jvm.Cond.code ({ cls := "WaysAtlas$Lower", name := "rows", desc := "(LWaysAtlas$Scope;IIIII)V" } : Jvm.MethodName) prog_10_method_9_code (9 : Nat) (Option.none : Option Jvm.ClassFile.FieldType)) ∈ lw_all := lw_g (lw_at lw_m6 39 rfl) rfl
theorem q1377 : (Jvm.Cond.methodLink "WaysAtlas$Lower" (70 : Nat) ({ cls := "WaysAtlas$Lower", name := "row", desc := "(IIIII)V" } : Jvm.MethodName)) ∈ lw_all := lw_g (lw_at lw_m6 40 rfl) rfl
theorem q1378 : (Jvm.Cond.privateMethod ({ cls := "WaysAtlas$Lower", name := "row", desc := "(IIIII)V" } : Jvm.MethodName)) ∈ lw_tbl := lw_at lw_m6 41 rfl
theorem q1379 : (Jvm.Cond.instanceMethod ({ cls := "WaysAtlas$Lower", name := "row", desc := "(IIIII)V" } : Jvm.MethodName)) ∈ lw_all := lw_g (lw_at lw_m6 42 rfl) rfl
theorem q1380 : (Jvm.Cond.code ({ cls := "WaysAtlas$Lower", name := "row", desc := "(IIIII)V" } : Jvm.MethodName) prog_10_method_8_code (6 : Nat) (Option.none : Option Jvm.ClassFile.FieldType)) ∈ lw_all := lw_g (lw_at lw_m6 43 rfl) rfl
theorem q1381 : (Jvm.Cond.methodLink "WaysAtlas$Lower" (102 : Nat) ({ cls := "WaysAtlas$Lower", name := "lands", desc := "(II)V" } : Jvm.MethodName)) ∈ lw_all := lw_g (lw_at lw_m6 44 rfl) rfl
theorem q1382 : (Jvm.Cond.instanceMethod ({ cls := "WaysAtlas$Lower", name := "lands", desc := "(II)V" } : Jvm.MethodName)) ∈ lw_all := lw_g (lw_at lw_m6 45 rfl) rfl
theorem q1383 : (Jvm.Cond.selects "WaysAtlas$Lower" ({ cls := "WaysAtlas$Lower", name := "lands", desc := "(II)V" } : Jvm.MethodName) ({ cls := "WaysAtlas$Lower", name := "lands", desc := "(II)V" } : Jvm.MethodName)) ∈ lw_all := lw_g (lw_at lw_m6 46 rfl) rfl
theorem q1384 : (Jvm.Cond.code ({ cls := "WaysAtlas$Lower", name := "lands", desc := "(II)V" } : Jvm.MethodName) prog_10_method_3_code (3 : Nat) (Option.none : Option Jvm.ClassFile.FieldType)) ∈ lw_all := lw_g (lw_at lw_m6 47 rfl) rfl
theorem q1385 : (Jvm.Cond.methodLink "WaysAtlas$Lower" (147 : Nat) ({ cls := "WaysAtlas$Lower", name := "shared", desc := "(LWaysAtlas$Guard;LWaysAtlas$Scope;II)V" } : Jvm.MethodName)) ∈ lw_all := lw_g (lw_at lw_m6 48 rfl) rfl
theorem q1386 : (Jvm.Cond.privateMethod ({ cls := "WaysAtlas$Lower", name := "shared", desc := "(LWaysAtlas$Guard;LWaysAtlas$Scope;II)V" } : Jvm.MethodName)) ∈ lw_tbl := lw_at lw_m6 49 rfl
theorem q1387 : (Jvm.Cond.instanceMethod ({ cls := "WaysAtlas$Lower", name := "shared", desc := "(LWaysAtlas$Guard;LWaysAtlas$Scope;II)V" } : Jvm.MethodName)) ∈ lw_all := lw_g (lw_at lw_m6 50 rfl) rfl
theorem q1388 : (Jvm.Cond.code ({ cls := "WaysAtlas$Lower", name := "shared", desc := "(LWaysAtlas$Guard;LWaysAtlas$Scope;II)V" } : Jvm.MethodName) prog_10_method_17_code (8 : Nat) (Option.none : Option Jvm.ClassFile.FieldType)) ∈ lw_all := lw_g (lw_at lw_m6 51 rfl) rfl
theorem q1389 : (Jvm.Cond.methodLink "WaysAtlas$Lower" (158 : Nat) ({ cls := "WaysAtlas$Scope", name := "lands", desc := "(LWaysAtlas$Lower;I)V" } : Jvm.MethodName)) ∈ lw_all := lw_g (lw_at lw_m6 52 rfl) rfl
theorem q1394 : (Jvm.Cond.methodLink "WaysAtlas$Lower" (154 : Nat) ({ cls := "WaysAtlas$Lower", name := "pending", desc := "(LWaysAtlas$Guard;I)V" } : Jvm.MethodName)) ∈ lw_all := lw_g (lw_at lw_m6 57 rfl) rfl
theorem q1395 : (Jvm.Cond.privateMethod ({ cls := "WaysAtlas$Lower", name := "pending", desc := "(LWaysAtlas$Guard;I)V" } : Jvm.MethodName)) ∈ lw_tbl := lw_at lw_m6 58 rfl
theorem q1396 : (Jvm.Cond.instanceMethod ({ cls := "WaysAtlas$Lower", name := "pending", desc := "(LWaysAtlas$Guard;I)V" } : Jvm.MethodName)) ∈ lw_all := lw_g (lw_at lw_m6 59 rfl) rfl
theorem q1397 : (Jvm.Cond.code ({ cls := "WaysAtlas$Lower", name := "pending", desc := "(LWaysAtlas$Guard;I)V" } : Jvm.MethodName) prog_10_method_16_code (7 : Nat) (Option.none : Option Jvm.ClassFile.FieldType)) ∈ lw_all := lw_g (lw_at lw_m6 60 rfl) rfl
theorem q1398 : (Jvm.Cond.methodLink "WaysAtlas$Lower" (151 : Nat) ({ cls := "WaysAtlas$Lower", name := "copied", desc := "(LWaysAtlas$Guard;LWaysAtlas$Scope;II)V" } : Jvm.MethodName)) ∈ lw_all := lw_g (lw_at lw_m6 61 rfl) rfl
theorem q1399 : (Jvm.Cond.privateMethod ({ cls := "WaysAtlas$Lower", name := "copied", desc := "(LWaysAtlas$Guard;LWaysAtlas$Scope;II)V" } : Jvm.MethodName)) ∈ lw_tbl := lw_at lw_m6 62 rfl
theorem q1400 : (Jvm.Cond.instanceMethod ({ cls := "WaysAtlas$Lower", name := "copied", desc := "(LWaysAtlas$Guard;LWaysAtlas$Scope;II)V" } : Jvm.MethodName)) ∈ lw_all := lw_g (lw_at lw_m6 63 rfl) rfl
theorem q1401 : (Jvm.Cond.code ({ cls := "WaysAtlas$Lower", name := "copied", desc := "(LWaysAtlas$Guard;LWaysAtlas$Scope;II)V" } : Jvm.MethodName) prog_10_method_15_code (6 : Nat) (Option.none : Option Jvm.ClassFile.FieldType)) ∈ lw_all := lw_g (lw_at lw_m6 64 rfl) rfl
theorem q1418 : (Jvm.Cond.instanceMethod ({ cls := "WaysAtlas$Lower", name := "leaves", desc := "(I)V" } : Jvm.MethodName)) ∈ lw_all := lw_g (lw_at lw_m6 81 rfl) rfl
theorem q1419 : (Jvm.Cond.selects "WaysAtlas$Lower" ({ cls := "WaysAtlas$Lower", name := "leaves", desc := "(I)V" } : Jvm.MethodName) ({ cls := "WaysAtlas$Lower", name := "leaves", desc := "(I)V" } : Jvm.MethodName)) ∈ lw_all := lw_g (lw_at lw_m6 82 rfl) rfl
theorem q1420 : (Jvm.Cond.code ({ cls := "WaysAtlas$Lower", name := "leaves", desc := "(I)V" } : Jvm.MethodName) prog_10_method_10_code (9 : Nat) (Option.none : Option Jvm.ClassFile.FieldType)) ∈ lw_all := lw_g (lw_at lw_m6 83 rfl) rfl
theorem q1421 : (Jvm.Cond.methodLink "WaysAtlas$Lower" (77 : Nat) ({ cls := "WaysAtlas$Lower", name := "passes", desc := "(LWaysAtlas$Scope;I)V" } : Jvm.MethodName)) ∈ lw_all := lw_g (lw_at lw_m6 84 rfl) rfl
theorem q1422 : (Jvm.Cond.privateMethod ({ cls := "WaysAtlas$Lower", name := "passes", desc := "(LWaysAtlas$Scope;I)V" } : Jvm.MethodName)) ∈ lw_tbl := lw_at lw_m6 85 rfl
theorem q1423 : (Jvm.Cond.instanceMethod ({ cls := "WaysAtlas$Lower", name := "passes", desc := "(LWaysAtlas$Scope;I)V" } : Jvm.MethodName)) ∈ lw_all := lw_g (lw_at lw_m6 86 rfl) rfl
theorem q1424 : (Jvm.Cond.code ({ cls := "WaysAtlas$Lower", name := "passes", desc := "(LWaysAtlas$Scope;I)V" } : Jvm.MethodName) prog_10_method_11_code (6 : Nat) (Option.none : Option Jvm.ClassFile.FieldType)) ∈ lw_all := lw_g (lw_at lw_m6 87 rfl) rfl
theorem q1425 : (Jvm.Cond.classLink "WaysAtlas$Lower" (96 : Nat) "WaysAtlas$Guard") ∈ lw_all := lw_g (lw_at lw_m6 88 rfl) rfl
theorem q1426 : (Jvm.Cond.methodLink "WaysAtlas$Lower" (84 : Nat) ({ cls := "WaysAtlas$Scope", name := "adds", desc := "(I)V" } : Jvm.MethodName)) ∈ lw_all := lw_g (lw_at lw_m6 89 rfl) rfl
theorem q1431 : (Jvm.Cond.methodLink "WaysAtlas$Lower" (88 : Nat) ({ cls := "WaysAtlas$Scope", name := "gap", desc := "(II)V" } : Jvm.MethodName)) ∈ lw_all := lw_g (lw_at lw_m6 94 rfl) rfl
theorem q142 : (Jvm.Cond.initialized "WaysAtlas$Plan") ∈ lw_all := lw_g (lw_at lw_m1 5 rfl) rfl
theorem q330 : (Jvm.Cond.instantiable "WaysAtlas$Plan" (4 : Nat)) ∈ lw_all := lw_g (lw_at lw_m1 193 rfl) rfl
theorem q332 : (Jvm.Cond.instanceMethod ({ cls := "WaysAtlas$Plan", name := "<init>", desc := "()V" } : Jvm.MethodName)) ∈ lw_all := lw_g (lw_at lw_m1 195 rfl) rfl
theorem q333 : (Jvm.Cond.code ({ cls := "WaysAtlas$Plan", name := "<init>", desc := "()V" } : Jvm.MethodName) prog_18_method_1_code (1 : Nat) (Option.none : Option Jvm.ClassFile.FieldType)) ∈ lw_all := lw_g (lw_at lw_m1 196 rfl) rfl
theorem q334 : (Jvm.Cond.methodLink "WaysAtlas$Plan" (3 : Nat) ({ cls := "java/lang/Object", name := "<init>", desc := "()V" } : Jvm.MethodName)) ∈ lw_all := lw_g (lw_at lw_m1 197 rfl) rfl
theorem q335 : (Jvm.Cond.fieldLink "WaysAtlas$Plan" (9 : Nat) "WaysAtlas$Plan" "part" "[I") ∈ lw_all := lw_g (lw_at lw_m1 198 rfl) rfl
theorem q337 : (Jvm.Cond.fieldLink "WaysAtlas$Plan" (15 : Nat) "WaysAtlas$Plan" "time" "[I") ∈ lw_all := lw_g (lw_at lw_m1 200 rfl) rfl
theorem q339 : (Jvm.Cond.fieldLink "WaysAtlas$Plan" (18 : Nat) "WaysAtlas$Plan" "kind" "[I") ∈ lw_all := lw_g (lw_at lw_m1 202 rfl) rfl
theorem q341 : (Jvm.Cond.fieldLink "WaysAtlas$Plan" (21 : Nat) "WaysAtlas$Plan" "many" "I") ∈ lw_all := lw_g (lw_at lw_m1 204 rfl) rfl
theorem q343 : (Jvm.Cond.laysFinal "WaysAtlas$Plan" "WaysAtlas$Plan" "part" "[I") ∈ lw_all := lw_g (lw_at lw_m1 206 rfl) rfl
theorem q344 : (Jvm.Cond.soleField "WaysAtlas$Plan" "part") ∈ lw_all := lw_g (lw_at lw_m1 207 rfl) rfl
theorem q345 : (Jvm.Cond.laysFinal "WaysAtlas$Plan" "WaysAtlas$Plan" "time" "[I") ∈ lw_all := lw_g (lw_at lw_m1 208 rfl) rfl
theorem q346 : (Jvm.Cond.soleField "WaysAtlas$Plan" "time") ∈ lw_all := lw_g (lw_at lw_m1 209 rfl) rfl
theorem q347 : (Jvm.Cond.laysFinal "WaysAtlas$Plan" "WaysAtlas$Plan" "kind" "[I") ∈ lw_all := lw_g (lw_at lw_m1 210 rfl) rfl
theorem q348 : (Jvm.Cond.soleField "WaysAtlas$Plan" "kind") ∈ lw_all := lw_g (lw_at lw_m1 211 rfl) rfl
theorem q349 : (Jvm.Cond.lays "WaysAtlas$Plan" "WaysAtlas$Plan" "many" "I") ∈ lw_all := lw_g (lw_at lw_m1 212 rfl) rfl
theorem q350 : (Jvm.Cond.soleField "WaysAtlas$Plan" "many") ∈ lw_all := lw_g (lw_at lw_m1 213 rfl) rfl
theorem q351 : (Jvm.Cond.superclass "WaysAtlas$Plan" "java/lang/Object") ∈ lw_all := lw_g (lw_at lw_m1 214 rfl) rfl
theorem q1673 : (Jvm.Cond.instanceMethod ({ cls := "WaysAtlas$Plan", name := "kindAt", desc := "(II)I" } : Jvm.MethodName)) ∈ lw_all := lw_g (lw_at lw_m7 96 rfl) rfl
theorem q1674 : (Jvm.Cond.selects "WaysAtlas$Plan" ({ cls := "WaysAtlas$Plan", name := "kindAt", desc := "(II)I" } : Jvm.MethodName) ({ cls := "WaysAtlas$Plan", name := "kindAt", desc := "(II)I" } : Jvm.MethodName)) ∈ lw_all := lw_g (lw_at lw_m7 97 rfl) rfl
theorem q1675 : (Jvm.Cond.code ({ cls := "WaysAtlas$Plan", name := "kindAt", desc := "(II)I" } : Jvm.MethodName) prog_18_method_2_code (4 : Nat) (Option.some Jvm.ClassFile.FieldType.int)) ∈ lw_all := lw_g (lw_at lw_m7 98 rfl) rfl
theorem q143 : (Jvm.Cond.initialized "WaysAtlas$Run") ∈ lw_all := lw_g (lw_at lw_m1 6 rfl) rfl
theorem q357 : (Jvm.Cond.instantiable "WaysAtlas$Run" (34 : Nat)) ∈ lw_all := lw_g (lw_at lw_m1 220 rfl) rfl
theorem q359 : (Jvm.Cond.instanceMethod ({ cls := "WaysAtlas$Run", name := "<init>", desc := "(LWaysAtlas$Plan;)V" } : Jvm.MethodName)) ∈ lw_all := lw_g (lw_at lw_m1 222 rfl) rfl
theorem q360 : (Jvm.Cond.code ({ cls := "WaysAtlas$Run", name := "<init>", desc := "(LWaysAtlas$Plan;)V" } : Jvm.MethodName) prog_23_method_1_code (3 : Nat) (Option.none : Option Jvm.ClassFile.FieldType)) ∈ lw_all := lw_g (lw_at lw_m1 223 rfl) rfl
theorem q361 : (Jvm.Cond.methodLink "WaysAtlas$Run" (3 : Nat) ({ cls := "java/lang/Object", name := "<init>", desc := "()V" } : Jvm.MethodName)) ∈ lw_all := lw_g (lw_at lw_m1 224 rfl) rfl
theorem q362 : (Jvm.Cond.classLink "WaysAtlas$Run" (9 : Nat) "WaysAtlas$Frame") ∈ lw_all := lw_g (lw_at lw_m1 225 rfl) rfl
theorem q364 : (Jvm.Cond.classLink "WaysAtlas$Run" (64 : Nat) "WaysAtlas$Thrown") ∈ lw_all := lw_g (lw_at lw_m1 227 rfl) rfl
theorem q403 : (Jvm.Cond.methodLink "WaysAtlas$Run" (66 : Nat) ({ cls := "WaysAtlas$Thrown", name := "<init>", desc := "()V" } : Jvm.MethodName)) ∈ lw_all := lw_g (lw_at lw_m2 26 rfl) rfl
theorem q431 : (Jvm.Cond.classLink "WaysAtlas$Run" (71 : Nat) "WaysAtlas$Spent") ∈ lw_all := lw_g (lw_at lw_m2 54 rfl) rfl
theorem q440 : (Jvm.Cond.methodLink "WaysAtlas$Run" (73 : Nat) ({ cls := "WaysAtlas$Spent", name := "<init>", desc := "()V" } : Jvm.MethodName)) ∈ lw_all := lw_g (lw_at lw_m2 63 rfl) rfl
theorem q448 : (Jvm.Cond.methodLinkNest "WaysAtlas$Run" (82 : Nat) ({ cls := "WaysAtlas$Frame", name := "<init>", desc := "()V" } : Jvm.MethodName) "WaysAtlas") ∈ lw_tbl := lw_at lw_m2 71 rfl
theorem q471 : (Jvm.Cond.fieldLinkNest "WaysAtlas$Run" (129 : Nat) "WaysAtlas$Frame" "method" "LWaysAtlas$Method;" "WaysAtlas") ∈ lw_tbl := lw_at lw_m2 94 rfl
theorem q474 : (Jvm.Cond.fieldLinkNest "WaysAtlas$Run" (126 : Nat) "WaysAtlas$Frame" "at" "I" "WaysAtlas") ∈ lw_tbl := lw_at lw_m2 97 rfl
theorem q499 : (Jvm.Cond.fieldLink "WaysAtlas$Run" (78 : Nat) "WaysAtlas$Run" "plan" "LWaysAtlas$Plan;") ∈ lw_all := lw_g (lw_at lw_m2 122 rfl) rfl
theorem q501 : (Jvm.Cond.fieldLink "WaysAtlas$Run" (11 : Nat) "WaysAtlas$Run" "frames" "[LWaysAtlas$Frame;") ∈ lw_all := lw_g (lw_at lw_m2 124 rfl) rfl
theorem q502 : (Jvm.Cond.fieldLink "WaysAtlas$Run" (86 : Nat) "WaysAtlas$Run" "deep" "I") ∈ lw_all := lw_g (lw_at lw_m2 125 rfl) rfl
theorem q504 : (Jvm.Cond.fieldLink "WaysAtlas$Run" (89 : Nat) "WaysAtlas$Run" "deepest" "I") ∈ lw_all := lw_g (lw_at lw_m2 127 rfl) rfl
theorem q506 : (Jvm.Cond.fieldLink "WaysAtlas$Run" (92 : Nat) "WaysAtlas$Run" "steps" "I") ∈ lw_all := lw_g (lw_at lw_m2 129 rfl) rfl
theorem q508 : (Jvm.Cond.fieldLink "WaysAtlas$Run" (83 : Nat) "WaysAtlas$Run" "most" "I") ∈ lw_all := lw_g (lw_at lw_m2 131 rfl) rfl
theorem q509 : (Jvm.Cond.fieldLink "WaysAtlas$Run" (17 : Nat) "WaysAtlas$Run" "tape" "[I") ∈ lw_all := lw_g (lw_at lw_m2 132 rfl) rfl
theorem q511 : (Jvm.Cond.fieldLink "WaysAtlas$Run" (95 : Nat) "WaysAtlas$Run" "marks" "I") ∈ lw_all := lw_g (lw_at lw_m2 134 rfl) rfl
theorem q513 : (Jvm.Cond.fieldLink "WaysAtlas$Run" (21 : Nat) "WaysAtlas$Run" "kind" "[I") ∈ lw_all := lw_g (lw_at lw_m2 136 rfl) rfl
theorem q517 : (Jvm.Cond.fieldLink "WaysAtlas$Run" (24 : Nat) "WaysAtlas$Run" "cause" "[I") ∈ lw_all := lw_g (lw_at lw_m2 140 rfl) rfl
theorem q519 : (Jvm.Cond.fieldLink "WaysAtlas$Run" (27 : Nat) "WaysAtlas$Run" "first" "[I") ∈ lw_all := lw_g (lw_at lw_m2 142 rfl) rfl
theorem q521 : (Jvm.Cond.fieldLink "WaysAtlas$Run" (30 : Nat) "WaysAtlas$Run" "next" "[I") ∈ lw_all := lw_g (lw_at lw_m2 144 rfl) rfl
theorem q523 : (Jvm.Cond.fieldLink "WaysAtlas$Run" (33 : Nat) "WaysAtlas$Run" "statement" "[I") ∈ lw_all := lw_g (lw_at lw_m2 146 rfl) rfl
theorem q525 : (Jvm.Cond.fieldLink "WaysAtlas$Run" (36 : Nat) "WaysAtlas$Run" "under" "[I") ∈ lw_all := lw_g (lw_at lw_m2 148 rfl) rfl
theorem q527 : (Jvm.Cond.fieldLink "WaysAtlas$Run" (39 : Nat) "WaysAtlas$Run" "trace" "[I") ∈ lw_all := lw_g (lw_at lw_m2 150 rfl) rfl
theorem q529 : (Jvm.Cond.fieldLink "WaysAtlas$Run" (98 : Nat) "WaysAtlas$Run" "failures" "I") ∈ lw_all := lw_g (lw_at lw_m2 152 rfl) rfl
theorem q531 : (Jvm.Cond.fieldLink "WaysAtlas$Run" (101 : Nat) "WaysAtlas$Run" "opened" "I") ∈ lw_all := lw_g (lw_at lw_m2 154 rfl) rfl
theorem q533 : (Jvm.Cond.fieldLink "WaysAtlas$Run" (42 : Nat) "WaysAtlas$Run" "closed" "[I") ∈ lw_all := lw_g (lw_at lw_m2 156 rfl) rfl
theorem q535 : (Jvm.Cond.fieldLink "WaysAtlas$Run" (104 : Nat) "WaysAtlas$Run" "closes" "I") ∈ lw_all := lw_g (lw_at lw_m2 158 rfl) rfl
theorem q537 : (Jvm.Cond.fieldLink "WaysAtlas$Run" (107 : Nat) "WaysAtlas$Run" "lost" "I") ∈ lw_all := lw_g (lw_at lw_m2 160 rfl) rfl
theorem q541 : (Jvm.Cond.fieldLink "WaysAtlas$Run" (45 : Nat) "WaysAtlas$Run" "entered" "[I") ∈ lw_all := lw_g (lw_at lw_m2 164 rfl) rfl
theorem q545 : (Jvm.Cond.fieldLink "WaysAtlas$Run" (48 : Nat) "WaysAtlas$Run" "passed" "[I") ∈ lw_all := lw_g (lw_at lw_m2 168 rfl) rfl
theorem q546 : (Jvm.Cond.fieldLink "WaysAtlas$Run" (51 : Nat) "WaysAtlas$Run" "passings" "[I") ∈ lw_all := lw_g (lw_at lw_m2 169 rfl) rfl
theorem q548 : (Jvm.Cond.fieldLink "WaysAtlas$Run" (113 : Nat) "WaysAtlas$Run" "passingMany" "I") ∈ lw_all := lw_g (lw_at lw_m2 171 rfl) rfl
theorem q550 : (Jvm.Cond.fieldLink "WaysAtlas$Run" (54 : Nat) "WaysAtlas$Run" "rowSize" "[I") ∈ lw_all := lw_g (lw_at lw_m2 173 rfl) rfl
theorem q553 : (Jvm.Cond.fieldLink "WaysAtlas$Run" (57 : Nat) "WaysAtlas$Run" "cells" "[I") ∈ lw_all := lw_g (lw_at lw_m2 176 rfl) rfl
theorem q558 : (Jvm.Cond.fieldLink "WaysAtlas$Run" (110 : Nat) "WaysAtlas$Run" "rowMany" "I") ∈ lw_all := lw_g (lw_at lw_m2 181 rfl) rfl
theorem q559 : (Jvm.Cond.fieldLink "WaysAtlas$Run" (60 : Nat) "WaysAtlas$Run" "ended" "I") ∈ lw_all := lw_g (lw_at lw_m2 182 rfl) rfl
theorem q562 : (Jvm.Cond.fieldLink "WaysAtlas$Run" (116 : Nat) "WaysAtlas$Run" "given" "I") ∈ lw_all := lw_g (lw_at lw_m2 185 rfl) rfl
theorem q565 : (Jvm.Cond.fieldLink "WaysAtlas$Run" (119 : Nat) "WaysAtlas$Run" "failure" "I") ∈ lw_all := lw_g (lw_at lw_m2 188 rfl) rfl
theorem q569 : (Jvm.Cond.fieldLink "WaysAtlas$Run" (160 : Nat) "WaysAtlas$Run" "failing" "I") ∈ lw_all := lw_g (lw_at lw_m2 192 rfl) rfl
theorem q571 : (Jvm.Cond.fieldLink "WaysAtlas$Run" (67 : Nat) "WaysAtlas$Run" "thrown" "LWaysAtlas$Thrown;") ∈ lw_all := lw_g (lw_at lw_m2 194 rfl) rfl
theorem q575 : (Jvm.Cond.fieldLink "WaysAtlas$Run" (74 : Nat) "WaysAtlas$Run" "spent" "LWaysAtlas$Spent;") ∈ lw_all := lw_g (lw_at lw_m2 198 rfl) rfl
theorem q576 : (Jvm.Cond.lays "WaysAtlas$Run" "WaysAtlas$Run" "program" "LWaysAtlas$Program;") ∈ lw_all := lw_g (lw_at lw_m2 199 rfl) rfl
theorem q577 : (Jvm.Cond.soleField "WaysAtlas$Run" "program") ∈ lw_all := lw_g (lw_at lw_m2 200 rfl) rfl
theorem q578 : (Jvm.Cond.lays "WaysAtlas$Run" "WaysAtlas$Run" "plan" "LWaysAtlas$Plan;") ∈ lw_all := lw_g (lw_at lw_m2 201 rfl) rfl
theorem q579 : (Jvm.Cond.soleField "WaysAtlas$Run" "plan") ∈ lw_all := lw_g (lw_at lw_m2 202 rfl) rfl
theorem q580 : (Jvm.Cond.laysFinal "WaysAtlas$Run" "WaysAtlas$Run" "frames" "[LWaysAtlas$Frame;") ∈ lw_all := lw_g (lw_at lw_m2 203 rfl) rfl
theorem q581 : (Jvm.Cond.soleField "WaysAtlas$Run" "frames") ∈ lw_all := lw_g (lw_at lw_m2 204 rfl) rfl
theorem q582 : (Jvm.Cond.lays "WaysAtlas$Run" "WaysAtlas$Run" "deep" "I") ∈ lw_all := lw_g (lw_at lw_m2 205 rfl) rfl
theorem q583 : (Jvm.Cond.soleField "WaysAtlas$Run" "deep") ∈ lw_all := lw_g (lw_at lw_m2 206 rfl) rfl
theorem q584 : (Jvm.Cond.lays "WaysAtlas$Run" "WaysAtlas$Run" "deepest" "I") ∈ lw_all := lw_g (lw_at lw_m2 207 rfl) rfl
theorem q585 : (Jvm.Cond.soleField "WaysAtlas$Run" "deepest") ∈ lw_all := lw_g (lw_at lw_m2 208 rfl) rfl
theorem q586 : (Jvm.Cond.lays "WaysAtlas$Run" "WaysAtlas$Run" "steps" "I") ∈ lw_all := lw_g (lw_at lw_m2 209 rfl) rfl
theorem q587 : (Jvm.Cond.soleField "WaysAtlas$Run" "steps") ∈ lw_all := lw_g (lw_at lw_m2 210 rfl) rfl
theorem q588 : (Jvm.Cond.lays "WaysAtlas$Run" "WaysAtlas$Run" "most" "I") ∈ lw_all := lw_g (lw_at lw_m2 211 rfl) rfl
theorem q589 : (Jvm.Cond.soleField "WaysAtlas$Run" "most") ∈ lw_all := lw_g (lw_at lw_m2 212 rfl) rfl
theorem q590 : (Jvm.Cond.laysFinal "WaysAtlas$Run" "WaysAtlas$Run" "tape" "[I") ∈ lw_all := lw_g (lw_at lw_m2 213 rfl) rfl
theorem q591 : (Jvm.Cond.soleField "WaysAtlas$Run" "tape") ∈ lw_all := lw_g (lw_at lw_m2 214 rfl) rfl
theorem q592 : (Jvm.Cond.lays "WaysAtlas$Run" "WaysAtlas$Run" "marks" "I") ∈ lw_all := lw_g (lw_at lw_m2 215 rfl) rfl
theorem q593 : (Jvm.Cond.soleField "WaysAtlas$Run" "marks") ∈ lw_all := lw_g (lw_at lw_m2 216 rfl) rfl
theorem q594 : (Jvm.Cond.laysFinal "WaysAtlas$Run" "WaysAtlas$Run" "kind" "[I") ∈ lw_all := lw_g (lw_at lw_m2 217 rfl) rfl
theorem q595 : (Jvm.Cond.soleField "WaysAtlas$Run" "kind") ∈ lw_all := lw_g (lw_at lw_m2 218 rfl) rfl
theorem q596 : (Jvm.Cond.laysFinal "WaysAtlas$Run" "WaysAtlas$Run" "cause" "[I") ∈ lw_all := lw_g (lw_at lw_m2 219 rfl) rfl
theorem q597 : (Jvm.Cond.soleField "WaysAtlas$Run" "cause") ∈ lw_all := lw_g (lw_at lw_m2 220 rfl) rfl
theorem q598 : (Jvm.Cond.laysFinal "WaysAtlas$Run" "WaysAtlas$Run" "first" "[I") ∈ lw_all := lw_g (lw_at lw_m2 221 rfl) rfl
theorem q599 : (Jvm.Cond.soleField "WaysAtlas$Run" "first") ∈ lw_all := lw_g (lw_at lw_m2 222 rfl) rfl
theorem q600 : (Jvm.Cond.laysFinal "WaysAtlas$Run" "WaysAtlas$Run" "next" "[I") ∈ lw_all := lw_g (lw_at lw_m2 223 rfl) rfl
theorem q601 : (Jvm.Cond.soleField "WaysAtlas$Run" "next") ∈ lw_all := lw_g (lw_at lw_m2 224 rfl) rfl
theorem q602 : (Jvm.Cond.laysFinal "WaysAtlas$Run" "WaysAtlas$Run" "statement" "[I") ∈ lw_all := lw_g (lw_at lw_m2 225 rfl) rfl
theorem q603 : (Jvm.Cond.soleField "WaysAtlas$Run" "statement") ∈ lw_all := lw_g (lw_at lw_m2 226 rfl) rfl
theorem q604 : (Jvm.Cond.laysFinal "WaysAtlas$Run" "WaysAtlas$Run" "under" "[I") ∈ lw_all := lw_g (lw_at lw_m2 227 rfl) rfl
theorem q605 : (Jvm.Cond.soleField "WaysAtlas$Run" "under") ∈ lw_all := lw_g (lw_at lw_m2 228 rfl) rfl
theorem q606 : (Jvm.Cond.laysFinal "WaysAtlas$Run" "WaysAtlas$Run" "trace" "[I") ∈ lw_all := lw_g (lw_at lw_m2 229 rfl) rfl
theorem q607 : (Jvm.Cond.soleField "WaysAtlas$Run" "trace") ∈ lw_all := lw_g (lw_at lw_m2 230 rfl) rfl
theorem q608 : (Jvm.Cond.lays "WaysAtlas$Run" "WaysAtlas$Run" "failures" "I") ∈ lw_all := lw_g (lw_at lw_m2 231 rfl) rfl
theorem q609 : (Jvm.Cond.soleField "WaysAtlas$Run" "failures") ∈ lw_all := lw_g (lw_at lw_m2 232 rfl) rfl
theorem q610 : (Jvm.Cond.lays "WaysAtlas$Run" "WaysAtlas$Run" "opened" "I") ∈ lw_all := lw_g (lw_at lw_m2 233 rfl) rfl
theorem q611 : (Jvm.Cond.soleField "WaysAtlas$Run" "opened") ∈ lw_all := lw_g (lw_at lw_m2 234 rfl) rfl
theorem q612 : (Jvm.Cond.laysFinal "WaysAtlas$Run" "WaysAtlas$Run" "closed" "[I") ∈ lw_all := lw_g (lw_at lw_m2 235 rfl) rfl
theorem q613 : (Jvm.Cond.soleField "WaysAtlas$Run" "closed") ∈ lw_all := lw_g (lw_at lw_m2 236 rfl) rfl
theorem q614 : (Jvm.Cond.lays "WaysAtlas$Run" "WaysAtlas$Run" "closes" "I") ∈ lw_all := lw_g (lw_at lw_m2 237 rfl) rfl
theorem q615 : (Jvm.Cond.soleField "WaysAtlas$Run" "closes") ∈ lw_all := lw_g (lw_at lw_m2 238 rfl) rfl
theorem q616 : (Jvm.Cond.lays "WaysAtlas$Run" "WaysAtlas$Run" "lost" "I") ∈ lw_all := lw_g (lw_at lw_m2 239 rfl) rfl
theorem q617 : (Jvm.Cond.soleField "WaysAtlas$Run" "lost") ∈ lw_all := lw_g (lw_at lw_m3 0 rfl) rfl
theorem q618 : (Jvm.Cond.laysFinal "WaysAtlas$Run" "WaysAtlas$Run" "entered" "[I") ∈ lw_all := lw_g (lw_at lw_m3 1 rfl) rfl
theorem q619 : (Jvm.Cond.soleField "WaysAtlas$Run" "entered") ∈ lw_all := lw_g (lw_at lw_m3 2 rfl) rfl
theorem q620 : (Jvm.Cond.laysFinal "WaysAtlas$Run" "WaysAtlas$Run" "passed" "[I") ∈ lw_all := lw_g (lw_at lw_m3 3 rfl) rfl
theorem q621 : (Jvm.Cond.soleField "WaysAtlas$Run" "passed") ∈ lw_all := lw_g (lw_at lw_m3 4 rfl) rfl
theorem q622 : (Jvm.Cond.laysFinal "WaysAtlas$Run" "WaysAtlas$Run" "passings" "[I") ∈ lw_all := lw_g (lw_at lw_m3 5 rfl) rfl
theorem q623 : (Jvm.Cond.soleField "WaysAtlas$Run" "passings") ∈ lw_all := lw_g (lw_at lw_m3 6 rfl) rfl
theorem q624 : (Jvm.Cond.lays "WaysAtlas$Run" "WaysAtlas$Run" "passingMany" "I") ∈ lw_all := lw_g (lw_at lw_m3 7 rfl) rfl
theorem q625 : (Jvm.Cond.soleField "WaysAtlas$Run" "passingMany") ∈ lw_all := lw_g (lw_at lw_m3 8 rfl) rfl
theorem q626 : (Jvm.Cond.laysFinal "WaysAtlas$Run" "WaysAtlas$Run" "rowSize" "[I") ∈ lw_all := lw_g (lw_at lw_m3 9 rfl) rfl
theorem q627 : (Jvm.Cond.soleField "WaysAtlas$Run" "rowSize") ∈ lw_all := lw_g (lw_at lw_m3 10 rfl) rfl
theorem q628 : (Jvm.Cond.laysFinal "WaysAtlas$Run" "WaysAtlas$Run" "cells" "[I") ∈ lw_all := lw_g (lw_at lw_m3 11 rfl) rfl
theorem q629 : (Jvm.Cond.soleField "WaysAtlas$Run" "cells") ∈ lw_all := lw_g (lw_at lw_m3 12 rfl) rfl
theorem q630 : (Jvm.Cond.lays "WaysAtlas$Run" "WaysAtlas$Run" "rowMany" "I") ∈ lw_all := lw_g (lw_at lw_m3 13 rfl) rfl
theorem q631 : (Jvm.Cond.soleField "WaysAtlas$Run" "rowMany") ∈ lw_all := lw_g (lw_at lw_m3 14 rfl) rfl
theorem q632 : (Jvm.Cond.lays "WaysAtlas$Run" "WaysAtlas$Run" "ended" "I") ∈ lw_all := lw_g (lw_at lw_m3 15 rfl) rfl
theorem q633 : (Jvm.Cond.soleField "WaysAtlas$Run" "ended") ∈ lw_all := lw_g (lw_at lw_m3 16 rfl) rfl
theorem q634 : (Jvm.Cond.lays "WaysAtlas$Run" "WaysAtlas$Run" "given" "I") ∈ lw_all := lw_g (lw_at lw_m3 17 rfl) rfl
theorem q635 : (Jvm.Cond.soleField "WaysAtlas$Run" "given") ∈ lw_all := lw_g (lw_at lw_m3 18 rfl) rfl
theorem q636 : (Jvm.Cond.lays "WaysAtlas$Run" "WaysAtlas$Run" "failure" "I") ∈ lw_all := lw_g (lw_at lw_m3 19 rfl) rfl
theorem q637 : (Jvm.Cond.soleField "WaysAtlas$Run" "failure") ∈ lw_all := lw_g (lw_at lw_m3 20 rfl) rfl
theorem q638 : (Jvm.Cond.lays "WaysAtlas$Run" "WaysAtlas$Run" "failing" "I") ∈ lw_all := lw_g (lw_at lw_m3 21 rfl) rfl
theorem q639 : (Jvm.Cond.soleField "WaysAtlas$Run" "failing") ∈ lw_all := lw_g (lw_at lw_m3 22 rfl) rfl
theorem q640 : (Jvm.Cond.laysFinal "WaysAtlas$Run" "WaysAtlas$Run" "thrown" "LWaysAtlas$Thrown;") ∈ lw_all := lw_g (lw_at lw_m3 23 rfl) rfl
theorem q641 : (Jvm.Cond.soleField "WaysAtlas$Run" "thrown") ∈ lw_all := lw_g (lw_at lw_m3 24 rfl) rfl
theorem q642 : (Jvm.Cond.laysFinal "WaysAtlas$Run" "WaysAtlas$Run" "spent" "LWaysAtlas$Spent;") ∈ lw_all := lw_g (lw_at lw_m3 25 rfl) rfl
theorem q643 : (Jvm.Cond.soleField "WaysAtlas$Run" "spent") ∈ lw_all := lw_g (lw_at lw_m3 26 rfl) rfl
theorem q644 : (Jvm.Cond.superclass "WaysAtlas$Run" "java/lang/Object") ∈ lw_all := lw_g (lw_at lw_m3 27 rfl) rfl
theorem q848 : (Jvm.Cond.fieldLinkNest "WaysAtlas$Run" (133 : Nat) "WaysAtlas$Method" "number" "I" "WaysAtlas") ∈ lw_tbl := lw_at lw_m3 231 rfl
theorem q1556 : (Jvm.Cond.instanceMethod ({ cls := "WaysAtlas$Run", name := "begin", desc := "(I)V" } : Jvm.MethodName)) ∈ lw_all := lw_g (lw_at lw_m6 219 rfl) rfl
theorem q1557 : (Jvm.Cond.selects "WaysAtlas$Run" ({ cls := "WaysAtlas$Run", name := "begin", desc := "(I)V" } : Jvm.MethodName) ({ cls := "WaysAtlas$Run", name := "begin", desc := "(I)V" } : Jvm.MethodName)) ∈ lw_all := lw_g (lw_at lw_m6 220 rfl) rfl
theorem q1558 : (Jvm.Cond.code ({ cls := "WaysAtlas$Run", name := "begin", desc := "(I)V" } : Jvm.MethodName) prog_23_method_2_code (3 : Nat) (Option.none : Option Jvm.ClassFile.FieldType)) ∈ lw_all := lw_g (lw_at lw_m6 221 rfl) rfl
theorem q1560 : (Jvm.Cond.instanceMethod ({ cls := "WaysAtlas$Run", name := "enters", desc := "(LWaysAtlas$Method;II)LWaysAtlas$Frame;" } : Jvm.MethodName)) ∈ lw_all := lw_g (lw_at lw_m6 223 rfl) rfl
theorem q1561 : (Jvm.Cond.selects "WaysAtlas$Run" ({ cls := "WaysAtlas$Run", name := "enters", desc := "(LWaysAtlas$Method;II)LWaysAtlas$Frame;" } : Jvm.MethodName) ({ cls := "WaysAtlas$Run", name := "enters", desc := "(LWaysAtlas$Method;II)LWaysAtlas$Frame;" } : Jvm.MethodName)) ∈ lw_all := lw_g (lw_at lw_m6 224 rfl) rfl
theorem q1562 : (Jvm.Cond.code ({ cls := "WaysAtlas$Run", name := "enters", desc := "(LWaysAtlas$Method;II)LWaysAtlas$Frame;" } : Jvm.MethodName) prog_23_method_12_code (5 : Nat) (Option.some (Jvm.ClassFile.FieldType.object "WaysAtlas$Frame"))) ∈ lw_all := lw_g (lw_at lw_m6 225 rfl) rfl
theorem q1563 : (Jvm.Cond.methodLink "WaysAtlas$Run" (154 : Nat) ({ cls := "WaysAtlas$Run", name := "fails", desc := "(I)LWaysAtlas$Thrown;" } : Jvm.MethodName)) ∈ lw_all := lw_g (lw_at lw_m6 226 rfl) rfl
theorem q1564 : (Jvm.Cond.instanceMethod ({ cls := "WaysAtlas$Run", name := "fails", desc := "(I)LWaysAtlas$Thrown;" } : Jvm.MethodName)) ∈ lw_all := lw_g (lw_at lw_m6 227 rfl) rfl
theorem q1565 : (Jvm.Cond.selects "WaysAtlas$Run" ({ cls := "WaysAtlas$Run", name := "fails", desc := "(I)LWaysAtlas$Thrown;" } : Jvm.MethodName) ({ cls := "WaysAtlas$Run", name := "fails", desc := "(I)LWaysAtlas$Thrown;" } : Jvm.MethodName)) ∈ lw_all := lw_g (lw_at lw_m6 228 rfl) rfl
theorem q1566 : (Jvm.Cond.code ({ cls := "WaysAtlas$Run", name := "fails", desc := "(I)LWaysAtlas$Thrown;" } : Jvm.MethodName) prog_23_method_6_code (2 : Nat) (Option.some (Jvm.ClassFile.FieldType.object "WaysAtlas$Thrown"))) ∈ lw_all := lw_g (lw_at lw_m6 229 rfl) rfl
theorem q1567 : (Jvm.Cond.methodLink "WaysAtlas$Run" (138 : Nat) ({ cls := "WaysAtlas$Run", name := "makes", desc := "(II)I" } : Jvm.MethodName)) ∈ lw_all := lw_g (lw_at lw_m6 230 rfl) rfl
theorem q1568 : (Jvm.Cond.instanceMethod ({ cls := "WaysAtlas$Run", name := "makes", desc := "(II)I" } : Jvm.MethodName)) ∈ lw_all := lw_g (lw_at lw_m6 231 rfl) rfl
theorem q1569 : (Jvm.Cond.selects "WaysAtlas$Run" ({ cls := "WaysAtlas$Run", name := "makes", desc := "(II)I" } : Jvm.MethodName) ({ cls := "WaysAtlas$Run", name := "makes", desc := "(II)I" } : Jvm.MethodName)) ∈ lw_all := lw_g (lw_at lw_m6 232 rfl) rfl
theorem q1570 : (Jvm.Cond.code ({ cls := "WaysAtlas$Run", name := "makes", desc := "(II)I" } : Jvm.MethodName) prog_23_method_5_code (6 : Nat) (Option.some Jvm.ClassFile.FieldType.int)) ∈ lw_all := lw_g (lw_at lw_m6 233 rfl) rfl
theorem q1571 : (Jvm.Cond.methodLink "WaysAtlas$Run" (122 : Nat) ({ cls := "WaysAtlas$Run", name := "top", desc := "()LWaysAtlas$Frame;" } : Jvm.MethodName)) ∈ lw_all := lw_g (lw_at lw_m6 234 rfl) rfl
theorem q1572 : (Jvm.Cond.instanceMethod ({ cls := "WaysAtlas$Run", name := "top", desc := "()LWaysAtlas$Frame;" } : Jvm.MethodName)) ∈ lw_all := lw_g (lw_at lw_m6 235 rfl) rfl
theorem q1573 : (Jvm.Cond.selects "WaysAtlas$Run" ({ cls := "WaysAtlas$Run", name := "top", desc := "()LWaysAtlas$Frame;" } : Jvm.MethodName) ({ cls := "WaysAtlas$Run", name := "top", desc := "()LWaysAtlas$Frame;" } : Jvm.MethodName)) ∈ lw_all := lw_g (lw_at lw_m6 236 rfl) rfl
theorem q1574 : (Jvm.Cond.code ({ cls := "WaysAtlas$Run", name := "top", desc := "()LWaysAtlas$Frame;" } : Jvm.MethodName) prog_23_method_3_code (1 : Nat) (Option.some (Jvm.ClassFile.FieldType.object "WaysAtlas$Frame"))) ∈ lw_all := lw_g (lw_at lw_m6 237 rfl) rfl
theorem q1575 : (Jvm.Cond.methodLink "WaysAtlas$Run" (142 : Nat) ({ cls := "WaysAtlas$Thrown", name := "with", desc := "(I)LWaysAtlas$Thrown;" } : Jvm.MethodName)) ∈ lw_all := lw_g (lw_at lw_m6 238 rfl) rfl
theorem q1579 : (Jvm.Cond.methodLink "WaysAtlas$Run" (167 : Nat) ({ cls := "java/lang/Math", name := "max", desc := "(II)I" } : Jvm.MethodName)) ∈ lw_all := lw_g (lw_at lw_m7 2 rfl) rfl
theorem q1582 : (Jvm.Cond.methodLink "WaysAtlas$Run" (172 : Nat) ({ cls := "WaysAtlas$Frame", name := "begin", desc := "(LWaysAtlas$Method;II)V" } : Jvm.MethodName)) ∈ lw_all := lw_g (lw_at lw_m7 5 rfl) rfl
theorem q1594 : (Jvm.Cond.instanceMethod ({ cls := "WaysAtlas$Run", name := "step", desc := "()V" } : Jvm.MethodName)) ∈ lw_all := lw_g (lw_at lw_m7 17 rfl) rfl
theorem q1595 : (Jvm.Cond.selects "WaysAtlas$Run" ({ cls := "WaysAtlas$Run", name := "step", desc := "()V" } : Jvm.MethodName) ({ cls := "WaysAtlas$Run", name := "step", desc := "()V" } : Jvm.MethodName)) ∈ lw_all := lw_g (lw_at lw_m7 18 rfl) rfl
theorem q1596 : (Jvm.Cond.code ({ cls := "WaysAtlas$Run", name := "step", desc := "()V" } : Jvm.MethodName) prog_23_method_4_code (1 : Nat) (Option.none : Option Jvm.ClassFile.FieldType)) ∈ lw_all := lw_g (lw_at lw_m7 19 rfl) rfl
theorem q1664 : (Jvm.Cond.instanceMethod ({ cls := "WaysAtlas$Run", name := "opens", desc := "(II[II)I" } : Jvm.MethodName)) ∈ lw_all := lw_g (lw_at lw_m7 87 rfl) rfl
theorem q1665 : (Jvm.Cond.selects "WaysAtlas$Run" ({ cls := "WaysAtlas$Run", name := "opens", desc := "(II[II)I" } : Jvm.MethodName) ({ cls := "WaysAtlas$Run", name := "opens", desc := "(II[II)I" } : Jvm.MethodName)) ∈ lw_all := lw_g (lw_at lw_m7 88 rfl) rfl
theorem q1666 : (Jvm.Cond.code ({ cls := "WaysAtlas$Run", name := "opens", desc := "(II[II)I" } : Jvm.MethodName) prog_23_method_10_code (7 : Nat) (Option.some Jvm.ClassFile.FieldType.int)) ∈ lw_all := lw_g (lw_at lw_m7 89 rfl) rfl
theorem q1667 : (Jvm.Cond.methodLink "WaysAtlas$Run" (157 : Nat) ({ cls := "WaysAtlas$Run", name := "step", desc := "()V" } : Jvm.MethodName)) ∈ lw_all := lw_g (lw_at lw_m7 90 rfl) rfl
theorem q1668 : (Jvm.Cond.methodLink "WaysAtlas$Run" (151 : Nat) ({ cls := "WaysAtlas$Run", name := "passes", desc := "(II)I" } : Jvm.MethodName)) ∈ lw_all := lw_g (lw_at lw_m7 91 rfl) rfl
theorem q1669 : (Jvm.Cond.instanceMethod ({ cls := "WaysAtlas$Run", name := "passes", desc := "(II)I" } : Jvm.MethodName)) ∈ lw_all := lw_g (lw_at lw_m7 92 rfl) rfl
theorem q1670 : (Jvm.Cond.selects "WaysAtlas$Run" ({ cls := "WaysAtlas$Run", name := "passes", desc := "(II)I" } : Jvm.MethodName) ({ cls := "WaysAtlas$Run", name := "passes", desc := "(II)I" } : Jvm.MethodName)) ∈ lw_all := lw_g (lw_at lw_m7 93 rfl) rfl
theorem q1671 : (Jvm.Cond.code ({ cls := "WaysAtlas$Run", name := "passes", desc := "(II)I" } : Jvm.MethodName) prog_23_method_8_code (4 : Nat) (Option.some Jvm.ClassFile.FieldType.int)) ∈ lw_all := lw_g (lw_at lw_m7 94 rfl) rfl
theorem q1672 : (Jvm.Cond.methodLink "WaysAtlas$Run" (146 : Nat) ({ cls := "WaysAtlas$Plan", name := "kindAt", desc := "(II)I" } : Jvm.MethodName)) ∈ lw_all := lw_g (lw_at lw_m7 95 rfl) rfl
theorem q1678 : (Jvm.Cond.instanceMethod ({ cls := "WaysAtlas$Run", name := "closes", desc := "(II[III)I" } : Jvm.MethodName)) ∈ lw_all := lw_g (lw_at lw_m7 101 rfl) rfl
theorem q1679 : (Jvm.Cond.selects "WaysAtlas$Run" ({ cls := "WaysAtlas$Run", name := "closes", desc := "(II[III)I" } : Jvm.MethodName) ({ cls := "WaysAtlas$Run", name := "closes", desc := "(II[III)I" } : Jvm.MethodName)) ∈ lw_all := lw_g (lw_at lw_m7 102 rfl) rfl
theorem q1680 : (Jvm.Cond.code ({ cls := "WaysAtlas$Run", name := "closes", desc := "(II[III)I" } : Jvm.MethodName) prog_23_method_11_code (10 : Nat) (Option.some Jvm.ClassFile.FieldType.int)) ∈ lw_all := lw_g (lw_at lw_m7 103 rfl) rfl
theorem q1681 : (Jvm.Cond.methodLink "WaysAtlas$Run" (163 : Nat) ({ cls := "WaysAtlas$Run", name := "suppresses", desc := "(II)V" } : Jvm.MethodName)) ∈ lw_all := lw_g (lw_at lw_m7 104 rfl) rfl
theorem q1682 : (Jvm.Cond.instanceMethod ({ cls := "WaysAtlas$Run", name := "suppresses", desc := "(II)V" } : Jvm.MethodName)) ∈ lw_all := lw_g (lw_at lw_m7 105 rfl) rfl
theorem q1683 : (Jvm.Cond.selects "WaysAtlas$Run" ({ cls := "WaysAtlas$Run", name := "suppresses", desc := "(II)V" } : Jvm.MethodName) ({ cls := "WaysAtlas$Run", name := "suppresses", desc := "(II)V" } : Jvm.MethodName)) ∈ lw_all := lw_g (lw_at lw_m7 106 rfl) rfl
theorem q1684 : (Jvm.Cond.code ({ cls := "WaysAtlas$Run", name := "suppresses", desc := "(II)V" } : Jvm.MethodName) prog_23_method_7_code (4 : Nat) (Option.none : Option Jvm.ClassFile.FieldType)) ∈ lw_all := lw_g (lw_at lw_m7 107 rfl) rfl
theorem q1734 : (Jvm.Cond.instanceMethod ({ cls := "WaysAtlas$Run", name := "marks", desc := "(II)V" } : Jvm.MethodName)) ∈ lw_all := lw_g (lw_at lw_m7 157 rfl) rfl
theorem q1735 : (Jvm.Cond.selects "WaysAtlas$Run" ({ cls := "WaysAtlas$Run", name := "marks", desc := "(II)V" } : Jvm.MethodName) ({ cls := "WaysAtlas$Run", name := "marks", desc := "(II)V" } : Jvm.MethodName)) ∈ lw_all := lw_g (lw_at lw_m7 158 rfl) rfl
theorem q1736 : (Jvm.Cond.code ({ cls := "WaysAtlas$Run", name := "marks", desc := "(II)V" } : Jvm.MethodName) prog_23_method_9_code (4 : Nat) (Option.none : Option Jvm.ClassFile.FieldType)) ∈ lw_all := lw_g (lw_at lw_m7 159 rfl) rfl
theorem q1895 : (Jvm.Cond.instanceMethod ({ cls := "WaysAtlas$Run", name := "lastMark", desc := "()I" } : Jvm.MethodName)) ∈ lw_all := lw_g (lw_at lw_m8 78 rfl) rfl
theorem q1896 : (Jvm.Cond.selects "WaysAtlas$Run" ({ cls := "WaysAtlas$Run", name := "lastMark", desc := "()I" } : Jvm.MethodName) ({ cls := "WaysAtlas$Run", name := "lastMark", desc := "()I" } : Jvm.MethodName)) ∈ lw_all := lw_g (lw_at lw_m8 79 rfl) rfl
theorem q1897 : (Jvm.Cond.code ({ cls := "WaysAtlas$Run", name := "lastMark", desc := "()I" } : Jvm.MethodName) prog_23_method_13_code (1 : Nat) (Option.some Jvm.ClassFile.FieldType.int)) ∈ lw_all := lw_g (lw_at lw_m8 80 rfl) rfl
theorem q146 : (Jvm.Cond.initialized "WaysAtlas$Thrown") ∈ lw_all := lw_g (lw_at lw_m1 9 rfl) rfl
theorem q365 : (Jvm.Cond.instantiable "WaysAtlas$Thrown" (7 : Nat)) ∈ lw_all := lw_g (lw_at lw_m1 228 rfl) rfl
theorem q366 : (Jvm.Cond.castable "WaysAtlas$Thrown" "WaysAtlas$Thrown") ∈ lw_tbl := lw_at lw_m1 229 rfl
theorem q371 : (Jvm.Cond.selects "WaysAtlas$Thrown" ({ cls := "java/lang/Throwable", name := "fillInStackTrace", desc := "(I)Ljava/lang/Throwable;" } : Jvm.MethodName) ({ cls := "java/lang/Throwable", name := "fillInStackTrace", desc := "(I)Ljava/lang/Throwable;" } : Jvm.MethodName)) ∈ lw_all := lw_g (lw_at lw_m1 234 rfl) rfl
theorem q372 : (Jvm.Cond.selects "WaysAtlas$Thrown" ({ cls := "java/lang/Throwable", name := "fillInStackTrace", desc := "()Ljava/lang/Throwable;" } : Jvm.MethodName) ({ cls := "java/lang/Throwable", name := "fillInStackTrace", desc := "()Ljava/lang/Throwable;" } : Jvm.MethodName)) ∈ lw_all := lw_g (lw_at lw_m1 235 rfl) rfl
theorem q373 : (Jvm.Cond.lays "WaysAtlas$Thrown" "java/lang/Throwable" "cause" "Ljava/lang/Throwable;") ∈ lw_all := lw_g (lw_at lw_m1 236 rfl) rfl
theorem q375 : (Jvm.Cond.lays "WaysAtlas$Thrown" "java/lang/Throwable" "stackTrace" "[Ljava/lang/StackTraceElement;") ∈ lw_all := lw_g (lw_at lw_m1 238 rfl) rfl
theorem q377 : (Jvm.Cond.lays "WaysAtlas$Thrown" "java/lang/Throwable" "suppressedExceptions" "Ljava/util/List;") ∈ lw_all := lw_g (lw_at lw_m2 0 rfl) rfl
theorem q379 : (Jvm.Cond.lays "WaysAtlas$Thrown" "java/lang/Throwable" "detailMessage" "Ljava/lang/String;") ∈ lw_all := lw_g (lw_at lw_m2 2 rfl) rfl
theorem q381 : (Jvm.Cond.lays "WaysAtlas$Thrown" "java/lang/Throwable" "backtrace" "Ljava/lang/Object;") ∈ lw_all := lw_g (lw_at lw_m2 4 rfl) rfl
theorem q404 : (Jvm.Cond.instanceMethod ({ cls := "WaysAtlas$Thrown", name := "<init>", desc := "()V" } : Jvm.MethodName)) ∈ lw_all := lw_g (lw_at lw_m2 27 rfl) rfl
theorem q405 : (Jvm.Cond.code ({ cls := "WaysAtlas$Thrown", name := "<init>", desc := "()V" } : Jvm.MethodName) prog_32_method_1_code (1 : Nat) (Option.none : Option Jvm.ClassFile.FieldType)) ∈ lw_all := lw_g (lw_at lw_m2 28 rfl) rfl
theorem q406 : (Jvm.Cond.stringRef "WaysAtlas$Thrown" (1 : Nat) "a failure is on its way") ∈ lw_tbl := lw_at lw_m2 29 rfl
theorem q407 : (Jvm.Cond.methodLink "WaysAtlas$Thrown" (3 : Nat) ({ cls := "java/lang/Exception", name := "<init>", desc := "(Ljava/lang/String;Ljava/lang/Throwable;ZZ)V" } : Jvm.MethodName)) ∈ lw_all := lw_g (lw_at lw_m2 30 rfl) rfl
theorem q413 : (Jvm.Cond.fieldLink "WaysAtlas$Thrown" (9 : Nat) "WaysAtlas$Thrown" "failure" "I") ∈ lw_all := lw_g (lw_at lw_m2 36 rfl) rfl
theorem q421 : (Jvm.Cond.lays "WaysAtlas$Thrown" "WaysAtlas$Thrown" "failure" "I") ∈ lw_all := lw_g (lw_at lw_m2 44 rfl) rfl
theorem q422 : (Jvm.Cond.soleField "WaysAtlas$Thrown" "failure") ∈ lw_all := lw_g (lw_at lw_m2 45 rfl) rfl
theorem q427 : (Jvm.Cond.lays "WaysAtlas$Thrown" "java/lang/Throwable" "depth" "I") ∈ lw_all := lw_g (lw_at lw_m2 50 rfl) rfl
theorem q430 : (Jvm.Cond.superclass "WaysAtlas$Thrown" "java/lang/Exception") ∈ lw_all := lw_g (lw_at lw_m2 53 rfl) rfl
theorem q1576 : (Jvm.Cond.instanceMethod ({ cls := "WaysAtlas$Thrown", name := "with", desc := "(I)LWaysAtlas$Thrown;" } : Jvm.MethodName)) ∈ lw_all := lw_g (lw_at lw_m6 239 rfl) rfl
theorem q1577 : (Jvm.Cond.selects "WaysAtlas$Thrown" ({ cls := "WaysAtlas$Thrown", name := "with", desc := "(I)LWaysAtlas$Thrown;" } : Jvm.MethodName) ({ cls := "WaysAtlas$Thrown", name := "with", desc := "(I)LWaysAtlas$Thrown;" } : Jvm.MethodName)) ∈ lw_all := lw_g (lw_at lw_m7 0 rfl) rfl
theorem q1578 : (Jvm.Cond.code ({ cls := "WaysAtlas$Thrown", name := "with", desc := "(I)LWaysAtlas$Thrown;" } : Jvm.MethodName) prog_32_method_2_code (2 : Nat) (Option.some (Jvm.ClassFile.FieldType.object "WaysAtlas$Thrown"))) ∈ lw_all := lw_g (lw_at lw_m7 1 rfl) rfl
theorem q147 : (Jvm.Cond.initialized "WaysAtlas$Spent") ∈ lw_all := lw_g (lw_at lw_m1 10 rfl) rfl
theorem q396 : (Jvm.Cond.selects "WaysAtlas$Spent" ({ cls := "java/lang/Throwable", name := "fillInStackTrace", desc := "()Ljava/lang/Throwable;" } : Jvm.MethodName) ({ cls := "java/lang/Throwable", name := "fillInStackTrace", desc := "()Ljava/lang/Throwable;" } : Jvm.MethodName)) ∈ lw_all := lw_g (lw_at lw_m2 19 rfl) rfl
theorem q432 : (Jvm.Cond.instantiable "WaysAtlas$Spent" (6 : Nat)) ∈ lw_all := lw_g (lw_at lw_m2 55 rfl) rfl
theorem q433 : (Jvm.Cond.castable "WaysAtlas$Spent" "WaysAtlas$Spent") ∈ lw_tbl := lw_at lw_m2 56 rfl
theorem q434 : (Jvm.Cond.selects "WaysAtlas$Spent" ({ cls := "java/lang/Throwable", name := "fillInStackTrace", desc := "(I)Ljava/lang/Throwable;" } : Jvm.MethodName) ({ cls := "java/lang/Throwable", name := "fillInStackTrace", desc := "(I)Ljava/lang/Throwable;" } : Jvm.MethodName)) ∈ lw_all := lw_g (lw_at lw_m2 57 rfl) rfl
theorem q435 : (Jvm.Cond.lays "WaysAtlas$Spent" "java/lang/Throwable" "cause" "Ljava/lang/Throwable;") ∈ lw_all := lw_g (lw_at lw_m2 58 rfl) rfl
theorem q436 : (Jvm.Cond.lays "WaysAtlas$Spent" "java/lang/Throwable" "stackTrace" "[Ljava/lang/StackTraceElement;") ∈ lw_all := lw_g (lw_at lw_m2 59 rfl) rfl
theorem q437 : (Jvm.Cond.lays "WaysAtlas$Spent" "java/lang/Throwable" "suppressedExceptions" "Ljava/util/List;") ∈ lw_all := lw_g (lw_at lw_m2 60 rfl) rfl
theorem q438 : (Jvm.Cond.lays "WaysAtlas$Spent" "java/lang/Throwable" "detailMessage" "Ljava/lang/String;") ∈ lw_all := lw_g (lw_at lw_m2 61 rfl) rfl
theorem q439 : (Jvm.Cond.lays "WaysAtlas$Spent" "java/lang/Throwable" "backtrace" "Ljava/lang/Object;") ∈ lw_all := lw_g (lw_at lw_m2 62 rfl) rfl
theorem q441 : (Jvm.Cond.instanceMethod ({ cls := "WaysAtlas$Spent", name := "<init>", desc := "()V" } : Jvm.MethodName)) ∈ lw_all := lw_g (lw_at lw_m2 64 rfl) rfl
theorem q442 : (Jvm.Cond.code ({ cls := "WaysAtlas$Spent", name := "<init>", desc := "()V" } : Jvm.MethodName) prog_29_method_1_code (1 : Nat) (Option.none : Option Jvm.ClassFile.FieldType)) ∈ lw_all := lw_g (lw_at lw_m2 65 rfl) rfl
theorem q443 : (Jvm.Cond.stringRef "WaysAtlas$Spent" (1 : Nat) "no step is left") ∈ lw_tbl := lw_at lw_m2 66 rfl
theorem q444 : (Jvm.Cond.methodLink "WaysAtlas$Spent" (3 : Nat) ({ cls := "java/lang/Exception", name := "<init>", desc := "(Ljava/lang/String;Ljava/lang/Throwable;ZZ)V" } : Jvm.MethodName)) ∈ lw_all := lw_g (lw_at lw_m2 67 rfl) rfl
theorem q445 : (Jvm.Cond.lays "WaysAtlas$Spent" "java/lang/Throwable" "depth" "I") ∈ lw_all := lw_g (lw_at lw_m2 68 rfl) rfl
theorem q446 : (Jvm.Cond.superclass "WaysAtlas$Spent" "java/lang/Exception") ∈ lw_all := lw_g (lw_at lw_m2 69 rfl) rfl
theorem q148 : (Jvm.Cond.initialized "WaysAtlas$Frame") ∈ lw_all := lw_g (lw_at lw_m1 11 rfl) rfl
theorem q447 : (Jvm.Cond.instantiable "WaysAtlas$Frame" (8 : Nat)) ∈ lw_all := lw_g (lw_at lw_m2 70 rfl) rfl
theorem q449 : (Jvm.Cond.instanceMethod ({ cls := "WaysAtlas$Frame", name := "<init>", desc := "()V" } : Jvm.MethodName)) ∈ lw_all := lw_g (lw_at lw_m2 72 rfl) rfl
theorem q450 : (Jvm.Cond.code ({ cls := "WaysAtlas$Frame", name := "<init>", desc := "()V" } : Jvm.MethodName) prog_5_method_1_code (1 : Nat) (Option.none : Option Jvm.ClassFile.FieldType)) ∈ lw_all := lw_g (lw_at lw_m2 73 rfl) rfl
theorem q451 : (Jvm.Cond.methodLink "WaysAtlas$Frame" (3 : Nat) ({ cls := "java/lang/Object", name := "<init>", desc := "()V" } : Jvm.MethodName)) ∈ lw_all := lw_g (lw_at lw_m2 74 rfl) rfl
theorem q452 : (Jvm.Cond.fieldLink "WaysAtlas$Frame" (9 : Nat) "WaysAtlas$Frame" "vars" "[I") ∈ lw_all := lw_g (lw_at lw_m2 75 rfl) rfl
theorem q457 : (Jvm.Cond.fieldLink "WaysAtlas$Frame" (15 : Nat) "WaysAtlas$Frame" "rows" "[I") ∈ lw_all := lw_g (lw_at lw_m2 80 rfl) rfl
theorem q461 : (Jvm.Cond.fieldLink "WaysAtlas$Frame" (18 : Nat) "WaysAtlas$Frame" "slots" "[I") ∈ lw_all := lw_g (lw_at lw_m2 84 rfl) rfl
theorem q466 : (Jvm.Cond.fieldLink "WaysAtlas$Frame" (25 : Nat) "WaysAtlas$Frame" "result" "I") ∈ lw_all := lw_g (lw_at lw_m2 89 rfl) rfl
theorem q469 : (Jvm.Cond.fieldLink "WaysAtlas$Frame" (21 : Nat) "WaysAtlas$Frame" "method" "LWaysAtlas$Method;") ∈ lw_all := lw_g (lw_at lw_m2 92 rfl) rfl
theorem q473 : (Jvm.Cond.fieldLink "WaysAtlas$Frame" (29 : Nat) "WaysAtlas$Frame" "at" "I") ∈ lw_all := lw_g (lw_at lw_m2 96 rfl) rfl
theorem q477 : (Jvm.Cond.fieldLink "WaysAtlas$Frame" (37 : Nat) "WaysAtlas$Frame" "pc" "I") ∈ lw_all := lw_g (lw_at lw_m2 100 rfl) rfl
theorem q479 : (Jvm.Cond.laysFinal "WaysAtlas$Frame" "WaysAtlas$Frame" "vars" "[I") ∈ lw_all := lw_g (lw_at lw_m2 102 rfl) rfl
theorem q480 : (Jvm.Cond.soleField "WaysAtlas$Frame" "vars") ∈ lw_all := lw_g (lw_at lw_m2 103 rfl) rfl
theorem q481 : (Jvm.Cond.laysFinal "WaysAtlas$Frame" "WaysAtlas$Frame" "rows" "[I") ∈ lw_all := lw_g (lw_at lw_m2 104 rfl) rfl
theorem q482 : (Jvm.Cond.soleField "WaysAtlas$Frame" "rows") ∈ lw_all := lw_g (lw_at lw_m2 105 rfl) rfl
theorem q483 : (Jvm.Cond.laysFinal "WaysAtlas$Frame" "WaysAtlas$Frame" "slots" "[I") ∈ lw_all := lw_g (lw_at lw_m2 106 rfl) rfl
theorem q484 : (Jvm.Cond.soleField "WaysAtlas$Frame" "slots") ∈ lw_all := lw_g (lw_at lw_m2 107 rfl) rfl
theorem q485 : (Jvm.Cond.lays "WaysAtlas$Frame" "WaysAtlas$Frame" "result" "I") ∈ lw_all := lw_g (lw_at lw_m2 108 rfl) rfl
theorem q486 : (Jvm.Cond.soleField "WaysAtlas$Frame" "result") ∈ lw_all := lw_g (lw_at lw_m2 109 rfl) rfl
theorem q487 : (Jvm.Cond.lays "WaysAtlas$Frame" "WaysAtlas$Frame" "method" "LWaysAtlas$Method;") ∈ lw_all := lw_g (lw_at lw_m2 110 rfl) rfl
theorem q488 : (Jvm.Cond.soleField "WaysAtlas$Frame" "method") ∈ lw_all := lw_g (lw_at lw_m2 111 rfl) rfl
theorem q489 : (Jvm.Cond.lays "WaysAtlas$Frame" "WaysAtlas$Frame" "at" "I") ∈ lw_all := lw_g (lw_at lw_m2 112 rfl) rfl
theorem q490 : (Jvm.Cond.soleField "WaysAtlas$Frame" "at") ∈ lw_all := lw_g (lw_at lw_m2 113 rfl) rfl
theorem q491 : (Jvm.Cond.lays "WaysAtlas$Frame" "WaysAtlas$Frame" "pc" "I") ∈ lw_all := lw_g (lw_at lw_m2 114 rfl) rfl
theorem q492 : (Jvm.Cond.soleField "WaysAtlas$Frame" "pc") ∈ lw_all := lw_g (lw_at lw_m2 115 rfl) rfl
theorem q493 : (Jvm.Cond.lays "WaysAtlas$Frame" "WaysAtlas$Frame" "into" "I") ∈ lw_all := lw_g (lw_at lw_m2 116 rfl) rfl
theorem q494 : (Jvm.Cond.soleField "WaysAtlas$Frame" "into") ∈ lw_all := lw_g (lw_at lw_m2 117 rfl) rfl
theorem q495 : (Jvm.Cond.superclass "WaysAtlas$Frame" "java/lang/Object") ∈ lw_all := lw_g (lw_at lw_m2 118 rfl) rfl
theorem q852 : (Jvm.Cond.fieldLinkNest "WaysAtlas$Frame" (32 : Nat) "WaysAtlas$Method" "from" "I" "WaysAtlas") ∈ lw_tbl := lw_at lw_m3 235 rfl
theorem q1583 : (Jvm.Cond.instanceMethod ({ cls := "WaysAtlas$Frame", name := "begin", desc := "(LWaysAtlas$Method;II)V" } : Jvm.MethodName)) ∈ lw_all := lw_g (lw_at lw_m7 6 rfl) rfl
theorem q1584 : (Jvm.Cond.selects "WaysAtlas$Frame" ({ cls := "WaysAtlas$Frame", name := "begin", desc := "(LWaysAtlas$Method;II)V" } : Jvm.MethodName) ({ cls := "WaysAtlas$Frame", name := "begin", desc := "(LWaysAtlas$Method;II)V" } : Jvm.MethodName)) ∈ lw_all := lw_g (lw_at lw_m7 7 rfl) rfl
theorem q1585 : (Jvm.Cond.code ({ cls := "WaysAtlas$Frame", name := "begin", desc := "(LWaysAtlas$Method;II)V" } : Jvm.MethodName) prog_5_method_2_code (5 : Nat) (Option.none : Option Jvm.ClassFile.FieldType)) ∈ lw_all := lw_g (lw_at lw_m7 8 rfl) rfl
theorem q149 : (Jvm.Cond.initialized "WaysAtlasModel") ∈ lw_all := lw_g (lw_at lw_m1 12 rfl) rfl
theorem q1903 : (Jvm.Cond.instantiable "WaysAtlasModel" (96 : Nat)) ∈ lw_all := lw_g (lw_at lw_m8 86 rfl) rfl
theorem q1905 : (Jvm.Cond.instanceMethod ({ cls := "WaysAtlasModel", name := "<init>", desc := "()V" } : Jvm.MethodName)) ∈ lw_all := lw_g (lw_at lw_m8 88 rfl) rfl
theorem q1906 : (Jvm.Cond.code ({ cls := "WaysAtlasModel", name := "<init>", desc := "()V" } : Jvm.MethodName) prog_36_method_1_code (1 : Nat) (Option.none : Option Jvm.ClassFile.FieldType)) ∈ lw_all := lw_g (lw_at lw_m8 89 rfl) rfl
theorem q1907 : (Jvm.Cond.methodLink "WaysAtlasModel" (1 : Nat) ({ cls := "java/lang/Object", name := "<init>", desc := "()V" } : Jvm.MethodName)) ∈ lw_all := lw_g (lw_at lw_m8 90 rfl) rfl
theorem q1908 : (Jvm.Cond.constantLong "WaysAtlasModel" (7 : Nat) (427595 : Int64)) ∈ lw_all := lw_g (lw_at lw_m8 91 rfl) rfl
theorem q1909 : (Jvm.Cond.constantLong "WaysAtlasModel" (9 : Nat) (99724 : Int64)) ∈ lw_all := lw_g (lw_at lw_m8 92 rfl) rfl
theorem q1910 : (Jvm.Cond.constantLong "WaysAtlasModel" (11 : Nat) (18935 : Int64)) ∈ lw_all := lw_g (lw_at lw_m8 93 rfl) rfl
theorem q1911 : (Jvm.Cond.constantLong "WaysAtlasModel" (13 : Nat) (474565 : Int64)) ∈ lw_all := lw_g (lw_at lw_m8 94 rfl) rfl
theorem q1912 : (Jvm.Cond.constantLong "WaysAtlasModel" (15 : Nat) (609900110 : Int64)) ∈ lw_all := lw_g (lw_at lw_m8 95 rfl) rfl
theorem q1913 : (Jvm.Cond.constantLong "WaysAtlasModel" (17 : Nat) (294 : Int64)) ∈ lw_all := lw_g (lw_at lw_m8 96 rfl) rfl
theorem q1914 : (Jvm.Cond.constantLong "WaysAtlasModel" (19 : Nat) (176741 : Int64)) ∈ lw_all := lw_g (lw_at lw_m8 97 rfl) rfl
theorem q1915 : (Jvm.Cond.constantLong "WaysAtlasModel" (21 : Nat) (409072 : Int64)) ∈ lw_all := lw_g (lw_at lw_m8 98 rfl) rfl
theorem q1916 : (Jvm.Cond.constantLong "WaysAtlasModel" (23 : Nat) (12748485 : Int64)) ∈ lw_all := lw_g (lw_at lw_m8 99 rfl) rfl
theorem q1917 : (Jvm.Cond.constantLong "WaysAtlasModel" (25 : Nat) (464660 : Int64)) ∈ lw_all := lw_g (lw_at lw_m8 100 rfl) rfl
theorem q1918 : (Jvm.Cond.constantLong "WaysAtlasModel" (27 : Nat) (21252599 : Int64)) ∈ lw_all := lw_g (lw_at lw_m8 101 rfl) rfl
theorem q1919 : (Jvm.Cond.constantLong "WaysAtlasModel" (29 : Nat) (772144 : Int64)) ∈ lw_all := lw_g (lw_at lw_m8 102 rfl) rfl
theorem q1920 : (Jvm.Cond.constantLong "WaysAtlasModel" (31 : Nat) (1279278 : Int64)) ∈ lw_all := lw_g (lw_at lw_m8 103 rfl) rfl
theorem q1921 : (Jvm.Cond.constantLong "WaysAtlasModel" (33 : Nat) (8029764 : Int64)) ∈ lw_all := lw_g (lw_at lw_m8 104 rfl) rfl
theorem q1922 : (Jvm.Cond.constantLong "WaysAtlasModel" (35 : Nat) (763528 : Int64)) ∈ lw_all := lw_g (lw_at lw_m8 105 rfl) rfl
theorem q1923 : (Jvm.Cond.constantLong "WaysAtlasModel" (37 : Nat) (3199080 : Int64)) ∈ lw_all := lw_g (lw_at lw_m8 106 rfl) rfl
theorem q1924 : (Jvm.Cond.constantLong "WaysAtlasModel" (39 : Nat) (6759166361 : Int64)) ∈ lw_all := lw_g (lw_at lw_m8 107 rfl) rfl
theorem q1925 : (Jvm.Cond.constantLong "WaysAtlasModel" (41 : Nat) (632645 : Int64)) ∈ lw_all := lw_g (lw_at lw_m8 108 rfl) rfl
theorem q1926 : (Jvm.Cond.constantLong "WaysAtlasModel" (43 : Nat) (370116 : Int64)) ∈ lw_all := lw_g (lw_at lw_m8 109 rfl) rfl
theorem q1927 : (Jvm.Cond.constantLong "WaysAtlasModel" (45 : Nat) (22483122 : Int64)) ∈ lw_all := lw_g (lw_at lw_m8 110 rfl) rfl
theorem q1928 : (Jvm.Cond.constantLong "WaysAtlasModel" (47 : Nat) (442114532 : Int64)) ∈ lw_all := lw_g (lw_at lw_m8 111 rfl) rfl
theorem q1929 : (Jvm.Cond.fieldLink "WaysAtlasModel" (49 : Nat) "WaysAtlasModel" "words" "[J") ∈ lw_all := lw_g (lw_at lw_m8 112 rfl) rfl
theorem q1930 : (Jvm.Cond.fieldLink "WaysAtlasModel" (55 : Nat) "WaysAtlasModel" "text" "[B") ∈ lw_all := lw_g (lw_at lw_m8 113 rfl) rfl
theorem q1931 : (Jvm.Cond.fieldLink "WaysAtlasModel" (243 : Nat) "WaysAtlasModel" "size" "I") ∈ lw_all := lw_g (lw_at lw_m8 114 rfl) rfl
theorem q1932 : (Jvm.Cond.fieldLink "WaysAtlasModel" (253 : Nat) "WaysAtlasModel" "at" "I") ∈ lw_all := lw_g (lw_at lw_m8 115 rfl) rfl
theorem q1933 : (Jvm.Cond.fieldLink "WaysAtlasModel" (269 : Nat) "WaysAtlasModel" "token" "I") ∈ lw_all := lw_g (lw_at lw_m8 116 rfl) rfl
theorem q1934 : (Jvm.Cond.fieldLink "WaysAtlasModel" (279 : Nat) "WaysAtlasModel" "tokenAt" "I") ∈ lw_all := lw_g (lw_at lw_m8 117 rfl) rfl
theorem q1935 : (Jvm.Cond.fieldLink "WaysAtlasModel" (272 : Nat) "WaysAtlasModel" "which" "I") ∈ lw_all := lw_g (lw_at lw_m8 118 rfl) rfl
theorem q1936 : (Jvm.Cond.fieldLink "WaysAtlasModel" (250 : Nat) "WaysAtlasModel" "value" "I") ∈ lw_all := lw_g (lw_at lw_m8 119 rfl) rfl
theorem q1937 : (Jvm.Cond.fieldLink "WaysAtlasModel" (235 : Nat) "WaysAtlasModel" "live" "I") ∈ lw_all := lw_g (lw_at lw_m8 120 rfl) rfl
theorem q1938 : (Jvm.Cond.fieldLink "WaysAtlasModel" (288 : Nat) "WaysAtlasModel" "draft" "I") ∈ lw_all := lw_g (lw_at lw_m8 121 rfl) rfl
theorem q1939 : (Jvm.Cond.fieldLink "WaysAtlasModel" (450 : Nat) "WaysAtlasModel" "hasProgram" "Z") ∈ lw_all := lw_g (lw_at lw_m8 122 rfl) rfl
theorem q1940 : (Jvm.Cond.fieldLink "WaysAtlasModel" (59 : Nat) "WaysAtlasModel" "stat" "[I") ∈ lw_all := lw_g (lw_at lw_m8 123 rfl) rfl
theorem q1941 : (Jvm.Cond.fieldLink "WaysAtlasModel" (63 : Nat) "WaysAtlasModel" "statements" "[I") ∈ lw_all := lw_g (lw_at lw_m8 124 rfl) rfl
theorem q1942 : (Jvm.Cond.fieldLink "WaysAtlasModel" (66 : Nat) "WaysAtlasModel" "entryKind" "[I") ∈ lw_all := lw_g (lw_at lw_m8 125 rfl) rfl
theorem q1943 : (Jvm.Cond.fieldLink "WaysAtlasModel" (69 : Nat) "WaysAtlasModel" "entryValue" "[I") ∈ lw_all := lw_g (lw_at lw_m8 126 rfl) rfl
theorem q1944 : (Jvm.Cond.fieldLink "WaysAtlasModel" (72 : Nat) "WaysAtlasModel" "firstOf" "[I") ∈ lw_all := lw_g (lw_at lw_m8 127 rfl) rfl
theorem q1945 : (Jvm.Cond.fieldLink "WaysAtlasModel" (75 : Nat) "WaysAtlasModel" "catchOf" "[I") ∈ lw_all := lw_g (lw_at lw_m8 128 rfl) rfl
theorem q1946 : (Jvm.Cond.fieldLink "WaysAtlasModel" (78 : Nat) "WaysAtlasModel" "catchKind" "[I") ∈ lw_all := lw_g (lw_at lw_m8 129 rfl) rfl
theorem q1947 : (Jvm.Cond.fieldLink "WaysAtlasModel" (81 : Nat) "WaysAtlasModel" "catchBlock" "[I") ∈ lw_all := lw_g (lw_at lw_m8 130 rfl) rfl
theorem q1948 : (Jvm.Cond.fieldLink "WaysAtlasModel" (84 : Nat) "WaysAtlasModel" "catches" "[I") ∈ lw_all := lw_g (lw_at lw_m8 131 rfl) rfl
theorem q1949 : (Jvm.Cond.fieldLink "WaysAtlasModel" (87 : Nat) "WaysAtlasModel" "body" "[I") ∈ lw_all := lw_g (lw_at lw_m8 132 rfl) rfl
theorem q1950 : (Jvm.Cond.fieldLink "WaysAtlasModel" (90 : Nat) "WaysAtlasModel" "methods" "[I") ∈ lw_all := lw_g (lw_at lw_m8 133 rfl) rfl
theorem q1951 : (Jvm.Cond.fieldLink "WaysAtlasModel" (93 : Nat) "WaysAtlasModel" "above" "[I") ∈ lw_all := lw_g (lw_at lw_m8 134 rfl) rfl
theorem q1952 : (Jvm.Cond.fieldLink "WaysAtlasModel" (96 : Nat) "WaysAtlasModel" "kinds" "[I") ∈ lw_all := lw_g (lw_at lw_m8 135 rfl) rfl
theorem q1953 : (Jvm.Cond.fieldLink "WaysAtlasModel" (320 : Nat) "WaysAtlasModel" "entries" "I") ∈ lw_all := lw_g (lw_at lw_m8 136 rfl) rfl
theorem q1954 : (Jvm.Cond.fieldLink "WaysAtlasModel" (373 : Nat) "WaysAtlasModel" "blocks" "I") ∈ lw_all := lw_g (lw_at lw_m8 137 rfl) rfl
theorem q1955 : (Jvm.Cond.fieldLink "WaysAtlasModel" (291 : Nat) "WaysAtlasModel" "fault" "I") ∈ lw_all := lw_g (lw_at lw_m8 138 rfl) rfl
theorem q1956 : (Jvm.Cond.fieldLink "WaysAtlasModel" (294 : Nat) "WaysAtlasModel" "faultAt" "I") ∈ lw_all := lw_g (lw_at lw_m8 139 rfl) rfl
theorem q1957 : (Jvm.Cond.fieldLink "WaysAtlasModel" (447 : Nat) "WaysAtlasModel" "faultTold" "I") ∈ lw_all := lw_g (lw_at lw_m8 140 rfl) rfl
theorem q1958 : (Jvm.Cond.fieldLink "WaysAtlasModel" (301 : Nat) "WaysAtlasModel" "checks" "I") ∈ lw_all := lw_g (lw_at lw_m8 141 rfl) rfl
theorem q1959 : (Jvm.Cond.fieldLink "WaysAtlasModel" (99 : Nat) "WaysAtlasModel" "checkHow" "[I") ∈ lw_all := lw_g (lw_at lw_m8 142 rfl) rfl
theorem q1960 : (Jvm.Cond.fieldLink "WaysAtlasModel" (102 : Nat) "WaysAtlasModel" "checkAt" "[I") ∈ lw_all := lw_g (lw_at lw_m8 143 rfl) rfl
theorem q1961 : (Jvm.Cond.fieldLink "WaysAtlasModel" (105 : Nat) "WaysAtlasModel" "checkValue" "[I") ∈ lw_all := lw_g (lw_at lw_m8 144 rfl) rfl
theorem q1962 : (Jvm.Cond.fieldLink "WaysAtlasModel" (323 : Nat) "WaysAtlasModel" "waits" "I") ∈ lw_all := lw_g (lw_at lw_m8 145 rfl) rfl
theorem q1963 : (Jvm.Cond.fieldLink "WaysAtlasModel" (108 : Nat) "WaysAtlasModel" "wait" "[I") ∈ lw_all := lw_g (lw_at lw_m8 146 rfl) rfl
theorem q1964 : (Jvm.Cond.fieldLink "WaysAtlasModel" (111 : Nat) "WaysAtlasModel" "waitValue" "[I") ∈ lw_all := lw_g (lw_at lw_m8 147 rfl) rfl
theorem q1965 : (Jvm.Cond.fieldLink "WaysAtlasModel" (326 : Nat) "WaysAtlasModel" "deep" "I") ∈ lw_all := lw_g (lw_at lw_m8 148 rfl) rfl
theorem q1966 : (Jvm.Cond.fieldLink "WaysAtlasModel" (360 : Nat) "WaysAtlasModel" "isOver" "Z") ∈ lw_all := lw_g (lw_at lw_m8 149 rfl) rfl
theorem q1967 : (Jvm.Cond.fieldLink "WaysAtlasModel" (370 : Nat) "WaysAtlasModel" "piled" "I") ∈ lw_all := lw_g (lw_at lw_m8 150 rfl) rfl
theorem q1968 : (Jvm.Cond.fieldLink "WaysAtlasModel" (114 : Nat) "WaysAtlasModel" "pileKind" "[I") ∈ lw_all := lw_g (lw_at lw_m8 151 rfl) rfl
theorem q1969 : (Jvm.Cond.fieldLink "WaysAtlasModel" (117 : Nat) "WaysAtlasModel" "pileStatement" "[I") ∈ lw_all := lw_g (lw_at lw_m8 152 rfl) rfl
theorem q1970 : (Jvm.Cond.fieldLink "WaysAtlasModel" (120 : Nat) "WaysAtlasModel" "pileBlock" "[I") ∈ lw_all := lw_g (lw_at lw_m8 153 rfl) rfl
theorem q1971 : (Jvm.Cond.fieldLink "WaysAtlasModel" (123 : Nat) "WaysAtlasModel" "pileLast" "[I") ∈ lw_all := lw_g (lw_at lw_m8 154 rfl) rfl
theorem q1972 : (Jvm.Cond.fieldLink "WaysAtlasModel" (453 : Nat) "WaysAtlasModel" "planned" "I") ∈ lw_all := lw_g (lw_at lw_m8 155 rfl) rfl
theorem q1973 : (Jvm.Cond.fieldLink "WaysAtlasModel" (126 : Nat) "WaysAtlasModel" "planStatement" "[I") ∈ lw_all := lw_g (lw_at lw_m8 156 rfl) rfl
theorem q1974 : (Jvm.Cond.fieldLink "WaysAtlasModel" (129 : Nat) "WaysAtlasModel" "planPart" "[I") ∈ lw_all := lw_g (lw_at lw_m8 157 rfl) rfl
theorem q1975 : (Jvm.Cond.fieldLink "WaysAtlasModel" (132 : Nat) "WaysAtlasModel" "planTime" "[I") ∈ lw_all := lw_g (lw_at lw_m8 158 rfl) rfl
theorem q1976 : (Jvm.Cond.fieldLink "WaysAtlasModel" (135 : Nat) "WaysAtlasModel" "planKind" "[I") ∈ lw_all := lw_g (lw_at lw_m8 159 rfl) rfl
theorem q1977 : (Jvm.Cond.fieldLink "WaysAtlasModel" (138 : Nat) "WaysAtlasModel" "hasRun" "[Z") ∈ lw_all := lw_g (lw_at lw_m8 160 rfl) rfl
theorem q1978 : (Jvm.Cond.fieldLink "WaysAtlasModel" (475 : Nat) "WaysAtlasModel" "slot" "I") ∈ lw_all := lw_g (lw_at lw_m8 161 rfl) rfl
theorem q1979 : (Jvm.Cond.fieldLink "WaysAtlasModel" (142 : Nat) "WaysAtlasModel" "told" "[I") ∈ lw_all := lw_g (lw_at lw_m8 162 rfl) rfl
theorem q1980 : (Jvm.Cond.fieldLink "WaysAtlasModel" (145 : Nat) "WaysAtlasModel" "tape" "[I") ∈ lw_all := lw_g (lw_at lw_m8 163 rfl) rfl
theorem q1981 : (Jvm.Cond.fieldLink "WaysAtlasModel" (148 : Nat) "WaysAtlasModel" "failedKind" "[I") ∈ lw_all := lw_g (lw_at lw_m8 164 rfl) rfl
theorem q1982 : (Jvm.Cond.fieldLink "WaysAtlasModel" (151 : Nat) "WaysAtlasModel" "cause" "[I") ∈ lw_all := lw_g (lw_at lw_m8 165 rfl) rfl
theorem q1983 : (Jvm.Cond.fieldLink "WaysAtlasModel" (154 : Nat) "WaysAtlasModel" "underFirst" "[I") ∈ lw_all := lw_g (lw_at lw_m8 166 rfl) rfl
theorem q1984 : (Jvm.Cond.fieldLink "WaysAtlasModel" (157 : Nat) "WaysAtlasModel" "underNext" "[I") ∈ lw_all := lw_g (lw_at lw_m8 167 rfl) rfl
theorem q1985 : (Jvm.Cond.fieldLink "WaysAtlasModel" (160 : Nat) "WaysAtlasModel" "failedAt" "[I") ∈ lw_all := lw_g (lw_at lw_m8 168 rfl) rfl
theorem q1986 : (Jvm.Cond.fieldLink "WaysAtlasModel" (163 : Nat) "WaysAtlasModel" "underWay" "[I") ∈ lw_all := lw_g (lw_at lw_m8 169 rfl) rfl
theorem q1987 : (Jvm.Cond.fieldLink "WaysAtlasModel" (166 : Nat) "WaysAtlasModel" "traces" "[I") ∈ lw_all := lw_g (lw_at lw_m8 170 rfl) rfl
theorem q1988 : (Jvm.Cond.fieldLink "WaysAtlasModel" (169 : Nat) "WaysAtlasModel" "closings" "[I") ∈ lw_all := lw_g (lw_at lw_m8 171 rfl) rfl
theorem q1989 : (Jvm.Cond.fieldLink "WaysAtlasModel" (172 : Nat) "WaysAtlasModel" "enteredOf" "[I") ∈ lw_all := lw_g (lw_at lw_m8 172 rfl) rfl
theorem q1990 : (Jvm.Cond.fieldLink "WaysAtlasModel" (469 : Nat) "WaysAtlasModel" "left" "I") ∈ lw_all := lw_g (lw_at lw_m8 173 rfl) rfl
theorem q1991 : (Jvm.Cond.fieldLink "WaysAtlasModel" (472 : Nat) "WaysAtlasModel" "ended" "I") ∈ lw_all := lw_g (lw_at lw_m8 174 rfl) rfl
theorem q1992 : (Jvm.Cond.fieldLink "WaysAtlasModel" (502 : Nat) "WaysAtlasModel" "signal" "I") ∈ lw_all := lw_g (lw_at lw_m8 175 rfl) rfl
theorem q1993 : (Jvm.Cond.fieldLink "WaysAtlasModel" (508 : Nat) "WaysAtlasModel" "signalValue" "I") ∈ lw_all := lw_g (lw_at lw_m8 176 rfl) rfl
theorem q1994 : (Jvm.Cond.fieldLink "WaysAtlasModel" (511 : Nat) "WaysAtlasModel" "frames" "I") ∈ lw_all := lw_g (lw_at lw_m8 177 rfl) rfl
theorem q1995 : (Jvm.Cond.fieldLink "WaysAtlasModel" (175 : Nat) "WaysAtlasModel" "frameKind" "[I") ∈ lw_all := lw_g (lw_at lw_m8 178 rfl) rfl
theorem q1996 : (Jvm.Cond.fieldLink "WaysAtlasModel" (178 : Nat) "WaysAtlasModel" "frameStatement" "[I") ∈ lw_all := lw_g (lw_at lw_m8 179 rfl) rfl
theorem q1997 : (Jvm.Cond.fieldLink "WaysAtlasModel" (181 : Nat) "WaysAtlasModel" "frameNow" "[I") ∈ lw_all := lw_g (lw_at lw_m8 180 rfl) rfl
theorem q1998 : (Jvm.Cond.fieldLink "WaysAtlasModel" (184 : Nat) "WaysAtlasModel" "pending" "[I") ∈ lw_all := lw_g (lw_at lw_m8 181 rfl) rfl
theorem q1999 : (Jvm.Cond.fieldLink "WaysAtlasModel" (187 : Nat) "WaysAtlasModel" "pendingValue" "[I") ∈ lw_all := lw_g (lw_at lw_m8 182 rfl) rfl
theorem q2000 : (Jvm.Cond.fieldLink "WaysAtlasModel" (190 : Nat) "WaysAtlasModel" "firstResource" "[I") ∈ lw_all := lw_g (lw_at lw_m8 183 rfl) rfl
theorem q2001 : (Jvm.Cond.fieldLink "WaysAtlasModel" (193 : Nat) "WaysAtlasModel" "openedOf" "[I") ∈ lw_all := lw_g (lw_at lw_m8 184 rfl) rfl
theorem q2002 : (Jvm.Cond.fieldLink "WaysAtlasModel" (196 : Nat) "WaysAtlasModel" "caught" "[I") ∈ lw_all := lw_g (lw_at lw_m8 185 rfl) rfl
theorem q2003 : (Jvm.Cond.fieldLink "WaysAtlasModel" (496 : Nat) "WaysAtlasModel" "acts" "I") ∈ lw_all := lw_g (lw_at lw_m8 186 rfl) rfl
theorem q2004 : (Jvm.Cond.fieldLink "WaysAtlasModel" (199 : Nat) "WaysAtlasModel" "actVar" "[I") ∈ lw_all := lw_g (lw_at lw_m8 187 rfl) rfl
theorem q2005 : (Jvm.Cond.fieldLink "WaysAtlasModel" (202 : Nat) "WaysAtlasModel" "actRow" "[I") ∈ lw_all := lw_g (lw_at lw_m8 188 rfl) rfl
theorem q2006 : (Jvm.Cond.fieldLink "WaysAtlasModel" (205 : Nat) "WaysAtlasModel" "actMethod" "[I") ∈ lw_all := lw_g (lw_at lw_m8 189 rfl) rfl
theorem q2007 : (Jvm.Cond.fieldLink "WaysAtlasModel" (208 : Nat) "WaysAtlasModel" "actStatement" "[I") ∈ lw_all := lw_g (lw_at lw_m8 190 rfl) rfl
theorem q2008 : (Jvm.Cond.fieldLink "WaysAtlasModel" (546 : Nat) "WaysAtlasModel" "rows" "I") ∈ lw_all := lw_g (lw_at lw_m8 191 rfl) rfl
theorem q2009 : (Jvm.Cond.fieldLink "WaysAtlasModel" (211 : Nat) "WaysAtlasModel" "rowSize" "[I") ∈ lw_all := lw_g (lw_at lw_m8 192 rfl) rfl
theorem q2010 : (Jvm.Cond.fieldLink "WaysAtlasModel" (214 : Nat) "WaysAtlasModel" "rowItem" "[I") ∈ lw_all := lw_g (lw_at lw_m8 193 rfl) rfl
theorem q2011 : (Jvm.Cond.fieldLink "WaysAtlasModel" (217 : Nat) "WaysAtlasModel" "passed" "[I") ∈ lw_all := lw_g (lw_at lw_m8 194 rfl) rfl
theorem q2012 : (Jvm.Cond.fieldLink "WaysAtlasModel" (478 : Nat) "WaysAtlasModel" "planning" "I") ∈ lw_all := lw_g (lw_at lw_m8 195 rfl) rfl
theorem q2013 : (Jvm.Cond.fieldLink "WaysAtlasModel" (484 : Nat) "WaysAtlasModel" "aloneStatement" "I") ∈ lw_all := lw_g (lw_at lw_m8 196 rfl) rfl
theorem q2014 : (Jvm.Cond.fieldLink "WaysAtlasModel" (487 : Nat) "WaysAtlasModel" "alonePart" "I") ∈ lw_all := lw_g (lw_at lw_m8 197 rfl) rfl
theorem q2015 : (Jvm.Cond.fieldLink "WaysAtlasModel" (490 : Nat) "WaysAtlasModel" "aloneTime" "I") ∈ lw_all := lw_g (lw_at lw_m8 198 rfl) rfl
theorem q2016 : (Jvm.Cond.fieldLink "WaysAtlasModel" (481 : Nat) "WaysAtlasModel" "quiet" "I") ∈ lw_all := lw_g (lw_at lw_m8 199 rfl) rfl
theorem q2017 : (Jvm.Cond.fieldLink "WaysAtlasModel" (220 : Nat) "WaysAtlasModel" "quietStatement" "[I") ∈ lw_all := lw_g (lw_at lw_m8 200 rfl) rfl
theorem q2018 : (Jvm.Cond.fieldLink "WaysAtlasModel" (223 : Nat) "WaysAtlasModel" "quietPart" "[I") ∈ lw_all := lw_g (lw_at lw_m8 201 rfl) rfl
theorem q2019 : (Jvm.Cond.fieldLink "WaysAtlasModel" (226 : Nat) "WaysAtlasModel" "quietTime" "[I") ∈ lw_all := lw_g (lw_at lw_m8 202 rfl) rfl
theorem q2020 : (Jvm.Cond.fieldLink "WaysAtlasModel" (229 : Nat) "WaysAtlasModel" "stack" "[I") ∈ lw_all := lw_g (lw_at lw_m8 203 rfl) rfl
theorem q2021 : (Jvm.Cond.fieldLink "WaysAtlasModel" (523 : Nat) "WaysAtlasModel" "stacked" "I") ∈ lw_all := lw_g (lw_at lw_m8 204 rfl) rfl
theorem q2022 : (Jvm.Cond.fieldLink "WaysAtlasModel" (520 : Nat) "WaysAtlasModel" "wrong" "I") ∈ lw_all := lw_g (lw_at lw_m8 205 rfl) rfl
theorem q2023 : (Jvm.Cond.fieldLink "WaysAtlasModel" (232 : Nat) "WaysAtlasModel" "wayOut" "[I") ∈ lw_all := lw_g (lw_at lw_m8 206 rfl) rfl
theorem q2024 : (Jvm.Cond.fieldLink "WaysAtlasModel" (619 : Nat) "WaysAtlasModel" "wayOuts" "I") ∈ lw_all := lw_g (lw_at lw_m8 207 rfl) rfl
theorem q2025 : (Jvm.Cond.laysFinal "WaysAtlasModel" "WaysAtlasModel" "words" "[J") ∈ lw_all := lw_g (lw_at lw_m8 208 rfl) rfl
theorem q2026 : (Jvm.Cond.soleField "WaysAtlasModel" "words") ∈ lw_all := lw_g (lw_at lw_m8 209 rfl) rfl
theorem q2027 : (Jvm.Cond.laysFinal "WaysAtlasModel" "WaysAtlasModel" "text" "[B") ∈ lw_all := lw_g (lw_at lw_m8 210 rfl) rfl
theorem q2028 : (Jvm.Cond.soleField "WaysAtlasModel" "text") ∈ lw_all := lw_g (lw_at lw_m8 211 rfl) rfl
theorem q2029 : (Jvm.Cond.lays "WaysAtlasModel" "WaysAtlasModel" "size" "I") ∈ lw_all := lw_g (lw_at lw_m8 212 rfl) rfl
theorem q2030 : (Jvm.Cond.soleField "WaysAtlasModel" "size") ∈ lw_all := lw_g (lw_at lw_m8 213 rfl) rfl
theorem q2031 : (Jvm.Cond.lays "WaysAtlasModel" "WaysAtlasModel" "at" "I") ∈ lw_all := lw_g (lw_at lw_m8 214 rfl) rfl
theorem q2032 : (Jvm.Cond.soleField "WaysAtlasModel" "at") ∈ lw_all := lw_g (lw_at lw_m8 215 rfl) rfl
theorem q2033 : (Jvm.Cond.lays "WaysAtlasModel" "WaysAtlasModel" "token" "I") ∈ lw_all := lw_g (lw_at lw_m8 216 rfl) rfl
theorem q2034 : (Jvm.Cond.soleField "WaysAtlasModel" "token") ∈ lw_all := lw_g (lw_at lw_m8 217 rfl) rfl
theorem q2035 : (Jvm.Cond.lays "WaysAtlasModel" "WaysAtlasModel" "tokenAt" "I") ∈ lw_all := lw_g (lw_at lw_m8 218 rfl) rfl
theorem q2036 : (Jvm.Cond.soleField "WaysAtlasModel" "tokenAt") ∈ lw_all := lw_g (lw_at lw_m8 219 rfl) rfl
theorem q2037 : (Jvm.Cond.lays "WaysAtlasModel" "WaysAtlasModel" "which" "I") ∈ lw_all := lw_g (lw_at lw_m8 220 rfl) rfl
theorem q2038 : (Jvm.Cond.soleField "WaysAtlasModel" "which") ∈ lw_all := lw_g (lw_at lw_m8 221 rfl) rfl
theorem q2039 : (Jvm.Cond.lays "WaysAtlasModel" "WaysAtlasModel" "value" "I") ∈ lw_all := lw_g (lw_at lw_m8 222 rfl) rfl
theorem q2040 : (Jvm.Cond.soleField "WaysAtlasModel" "value") ∈ lw_all := lw_g (lw_at lw_m8 223 rfl) rfl
theorem q2041 : (Jvm.Cond.lays "WaysAtlasModel" "WaysAtlasModel" "live" "I") ∈ lw_all := lw_g (lw_at lw_m8 224 rfl) rfl
theorem q2042 : (Jvm.Cond.soleField "WaysAtlasModel" "live") ∈ lw_all := lw_g (lw_at lw_m8 225 rfl) rfl
theorem q2043 : (Jvm.Cond.lays "WaysAtlasModel" "WaysAtlasModel" "draft" "I") ∈ lw_all := lw_g (lw_at lw_m8 226 rfl) rfl
theorem q2044 : (Jvm.Cond.soleField "WaysAtlasModel" "draft") ∈ lw_all := lw_g (lw_at lw_m8 227 rfl) rfl
theorem q2045 : (Jvm.Cond.lays "WaysAtlasModel" "WaysAtlasModel" "hasProgram" "Z") ∈ lw_all := lw_g (lw_at lw_m8 228 rfl) rfl
theorem q2046 : (Jvm.Cond.soleField "WaysAtlasModel" "hasProgram") ∈ lw_all := lw_g (lw_at lw_m8 229 rfl) rfl
theorem q2047 : (Jvm.Cond.laysFinal "WaysAtlasModel" "WaysAtlasModel" "stat" "[I") ∈ lw_all := lw_g (lw_at lw_m8 230 rfl) rfl
theorem q2048 : (Jvm.Cond.soleField "WaysAtlasModel" "stat") ∈ lw_all := lw_g (lw_at lw_m8 231 rfl) rfl
theorem q2049 : (Jvm.Cond.laysFinal "WaysAtlasModel" "WaysAtlasModel" "statements" "[I") ∈ lw_all := lw_g (lw_at lw_m8 232 rfl) rfl
theorem q2050 : (Jvm.Cond.soleField "WaysAtlasModel" "statements") ∈ lw_all := lw_g (lw_at lw_m8 233 rfl) rfl
theorem q2051 : (Jvm.Cond.laysFinal "WaysAtlasModel" "WaysAtlasModel" "entryKind" "[I") ∈ lw_all := lw_g (lw_at lw_m8 234 rfl) rfl
theorem q2052 : (Jvm.Cond.soleField "WaysAtlasModel" "entryKind") ∈ lw_all := lw_g (lw_at lw_m8 235 rfl) rfl
theorem q2053 : (Jvm.Cond.laysFinal "WaysAtlasModel" "WaysAtlasModel" "entryValue" "[I") ∈ lw_all := lw_g (lw_at lw_m8 236 rfl) rfl
theorem q2054 : (Jvm.Cond.soleField "WaysAtlasModel" "entryValue") ∈ lw_all := lw_g (lw_at lw_m8 237 rfl) rfl
theorem q2055 : (Jvm.Cond.laysFinal "WaysAtlasModel" "WaysAtlasModel" "firstOf" "[I") ∈ lw_all := lw_g (lw_at lw_m8 238 rfl) rfl
theorem q2056 : (Jvm.Cond.soleField "WaysAtlasModel" "firstOf") ∈ lw_all := lw_g (lw_at lw_m8 239 rfl) rfl
theorem q2057 : (Jvm.Cond.laysFinal "WaysAtlasModel" "WaysAtlasModel" "catchOf" "[I") ∈ lw_all := lw_g (lw_at lw_m9 0 rfl) rfl
theorem q2058 : (Jvm.Cond.soleField "WaysAtlasModel" "catchOf") ∈ lw_all := lw_g (lw_at lw_m9 1 rfl) rfl
theorem q2059 : (Jvm.Cond.laysFinal "WaysAtlasModel" "WaysAtlasModel" "catchKind" "[I") ∈ lw_all := lw_g (lw_at lw_m9 2 rfl) rfl
theorem q2060 : (Jvm.Cond.soleField "WaysAtlasModel" "catchKind") ∈ lw_all := lw_g (lw_at lw_m9 3 rfl) rfl
theorem q2061 : (Jvm.Cond.laysFinal "WaysAtlasModel" "WaysAtlasModel" "catchBlock" "[I") ∈ lw_all := lw_g (lw_at lw_m9 4 rfl) rfl
theorem q2062 : (Jvm.Cond.soleField "WaysAtlasModel" "catchBlock") ∈ lw_all := lw_g (lw_at lw_m9 5 rfl) rfl
theorem q2063 : (Jvm.Cond.laysFinal "WaysAtlasModel" "WaysAtlasModel" "catches" "[I") ∈ lw_all := lw_g (lw_at lw_m9 6 rfl) rfl
theorem q2064 : (Jvm.Cond.soleField "WaysAtlasModel" "catches") ∈ lw_all := lw_g (lw_at lw_m9 7 rfl) rfl
theorem q2065 : (Jvm.Cond.laysFinal "WaysAtlasModel" "WaysAtlasModel" "body" "[I") ∈ lw_all := lw_g (lw_at lw_m9 8 rfl) rfl
theorem q2066 : (Jvm.Cond.soleField "WaysAtlasModel" "body") ∈ lw_all := lw_g (lw_at lw_m9 9 rfl) rfl
theorem q2067 : (Jvm.Cond.laysFinal "WaysAtlasModel" "WaysAtlasModel" "methods" "[I") ∈ lw_all := lw_g (lw_at lw_m9 10 rfl) rfl
theorem q2068 : (Jvm.Cond.soleField "WaysAtlasModel" "methods") ∈ lw_all := lw_g (lw_at lw_m9 11 rfl) rfl
theorem q2069 : (Jvm.Cond.laysFinal "WaysAtlasModel" "WaysAtlasModel" "above" "[I") ∈ lw_all := lw_g (lw_at lw_m9 12 rfl) rfl
theorem q2070 : (Jvm.Cond.soleField "WaysAtlasModel" "above") ∈ lw_all := lw_g (lw_at lw_m9 13 rfl) rfl
theorem q2071 : (Jvm.Cond.laysFinal "WaysAtlasModel" "WaysAtlasModel" "kinds" "[I") ∈ lw_all := lw_g (lw_at lw_m9 14 rfl) rfl
theorem q2072 : (Jvm.Cond.soleField "WaysAtlasModel" "kinds") ∈ lw_all := lw_g (lw_at lw_m9 15 rfl) rfl
theorem q2073 : (Jvm.Cond.lays "WaysAtlasModel" "WaysAtlasModel" "entries" "I") ∈ lw_all := lw_g (lw_at lw_m9 16 rfl) rfl
theorem q2074 : (Jvm.Cond.soleField "WaysAtlasModel" "entries") ∈ lw_all := lw_g (lw_at lw_m9 17 rfl) rfl
theorem q2075 : (Jvm.Cond.lays "WaysAtlasModel" "WaysAtlasModel" "blocks" "I") ∈ lw_all := lw_g (lw_at lw_m9 18 rfl) rfl
theorem q2076 : (Jvm.Cond.soleField "WaysAtlasModel" "blocks") ∈ lw_all := lw_g (lw_at lw_m9 19 rfl) rfl
theorem q2077 : (Jvm.Cond.lays "WaysAtlasModel" "WaysAtlasModel" "fault" "I") ∈ lw_all := lw_g (lw_at lw_m9 20 rfl) rfl
theorem q2078 : (Jvm.Cond.soleField "WaysAtlasModel" "fault") ∈ lw_all := lw_g (lw_at lw_m9 21 rfl) rfl
theorem q2079 : (Jvm.Cond.lays "WaysAtlasModel" "WaysAtlasModel" "faultAt" "I") ∈ lw_all := lw_g (lw_at lw_m9 22 rfl) rfl
theorem q2080 : (Jvm.Cond.soleField "WaysAtlasModel" "faultAt") ∈ lw_all := lw_g (lw_at lw_m9 23 rfl) rfl
theorem q2081 : (Jvm.Cond.lays "WaysAtlasModel" "WaysAtlasModel" "faultTold" "I") ∈ lw_all := lw_g (lw_at lw_m9 24 rfl) rfl
theorem q2082 : (Jvm.Cond.soleField "WaysAtlasModel" "faultTold") ∈ lw_all := lw_g (lw_at lw_m9 25 rfl) rfl
theorem q2083 : (Jvm.Cond.lays "WaysAtlasModel" "WaysAtlasModel" "checks" "I") ∈ lw_all := lw_g (lw_at lw_m9 26 rfl) rfl
theorem q2084 : (Jvm.Cond.soleField "WaysAtlasModel" "checks") ∈ lw_all := lw_g (lw_at lw_m9 27 rfl) rfl
theorem q2085 : (Jvm.Cond.laysFinal "WaysAtlasModel" "WaysAtlasModel" "checkHow" "[I") ∈ lw_all := lw_g (lw_at lw_m9 28 rfl) rfl
theorem q2086 : (Jvm.Cond.soleField "WaysAtlasModel" "checkHow") ∈ lw_all := lw_g (lw_at lw_m9 29 rfl) rfl
theorem q2087 : (Jvm.Cond.laysFinal "WaysAtlasModel" "WaysAtlasModel" "checkAt" "[I") ∈ lw_all := lw_g (lw_at lw_m9 30 rfl) rfl
theorem q2088 : (Jvm.Cond.soleField "WaysAtlasModel" "checkAt") ∈ lw_all := lw_g (lw_at lw_m9 31 rfl) rfl
theorem q2089 : (Jvm.Cond.laysFinal "WaysAtlasModel" "WaysAtlasModel" "checkValue" "[I") ∈ lw_all := lw_g (lw_at lw_m9 32 rfl) rfl
theorem q2090 : (Jvm.Cond.soleField "WaysAtlasModel" "checkValue") ∈ lw_all := lw_g (lw_at lw_m9 33 rfl) rfl
theorem q2091 : (Jvm.Cond.lays "WaysAtlasModel" "WaysAtlasModel" "waits" "I") ∈ lw_all := lw_g (lw_at lw_m9 34 rfl) rfl
theorem q2092 : (Jvm.Cond.soleField "WaysAtlasModel" "waits") ∈ lw_all := lw_g (lw_at lw_m9 35 rfl) rfl
theorem q2093 : (Jvm.Cond.laysFinal "WaysAtlasModel" "WaysAtlasModel" "wait" "[I") ∈ lw_all := lw_g (lw_at lw_m9 36 rfl) rfl
theorem q2094 : (Jvm.Cond.soleField "WaysAtlasModel" "wait") ∈ lw_all := lw_g (lw_at lw_m9 37 rfl) rfl
theorem q2095 : (Jvm.Cond.laysFinal "WaysAtlasModel" "WaysAtlasModel" "waitValue" "[I") ∈ lw_all := lw_g (lw_at lw_m9 38 rfl) rfl
theorem q2096 : (Jvm.Cond.soleField "WaysAtlasModel" "waitValue") ∈ lw_all := lw_g (lw_at lw_m9 39 rfl) rfl
theorem q2097 : (Jvm.Cond.lays "WaysAtlasModel" "WaysAtlasModel" "deep" "I") ∈ lw_all := lw_g (lw_at lw_m9 40 rfl) rfl
theorem q2098 : (Jvm.Cond.soleField "WaysAtlasModel" "deep") ∈ lw_all := lw_g (lw_at lw_m9 41 rfl) rfl
theorem q2099 : (Jvm.Cond.lays "WaysAtlasModel" "WaysAtlasModel" "isOver" "Z") ∈ lw_all := lw_g (lw_at lw_m9 42 rfl) rfl
theorem q2100 : (Jvm.Cond.soleField "WaysAtlasModel" "isOver") ∈ lw_all := lw_g (lw_at lw_m9 43 rfl) rfl
theorem q2101 : (Jvm.Cond.lays "WaysAtlasModel" "WaysAtlasModel" "piled" "I") ∈ lw_all := lw_g (lw_at lw_m9 44 rfl) rfl
theorem q2102 : (Jvm.Cond.soleField "WaysAtlasModel" "piled") ∈ lw_all := lw_g (lw_at lw_m9 45 rfl) rfl
theorem q2103 : (Jvm.Cond.laysFinal "WaysAtlasModel" "WaysAtlasModel" "pileKind" "[I") ∈ lw_all := lw_g (lw_at lw_m9 46 rfl) rfl
theorem q2104 : (Jvm.Cond.soleField "WaysAtlasModel" "pileKind") ∈ lw_all := lw_g (lw_at lw_m9 47 rfl) rfl
theorem q2105 : (Jvm.Cond.laysFinal "WaysAtlasModel" "WaysAtlasModel" "pileStatement" "[I") ∈ lw_all := lw_g (lw_at lw_m9 48 rfl) rfl
theorem q2106 : (Jvm.Cond.soleField "WaysAtlasModel" "pileStatement") ∈ lw_all := lw_g (lw_at lw_m9 49 rfl) rfl
theorem q2107 : (Jvm.Cond.laysFinal "WaysAtlasModel" "WaysAtlasModel" "pileBlock" "[I") ∈ lw_all := lw_g (lw_at lw_m9 50 rfl) rfl
theorem q2108 : (Jvm.Cond.soleField "WaysAtlasModel" "pileBlock") ∈ lw_all := lw_g (lw_at lw_m9 51 rfl) rfl
theorem q2109 : (Jvm.Cond.laysFinal "WaysAtlasModel" "WaysAtlasModel" "pileLast" "[I") ∈ lw_all := lw_g (lw_at lw_m9 52 rfl) rfl
theorem q2110 : (Jvm.Cond.soleField "WaysAtlasModel" "pileLast") ∈ lw_all := lw_g (lw_at lw_m9 53 rfl) rfl
theorem q2111 : (Jvm.Cond.lays "WaysAtlasModel" "WaysAtlasModel" "planned" "I") ∈ lw_all := lw_g (lw_at lw_m9 54 rfl) rfl
theorem q2112 : (Jvm.Cond.soleField "WaysAtlasModel" "planned") ∈ lw_all := lw_g (lw_at lw_m9 55 rfl) rfl
theorem q2113 : (Jvm.Cond.laysFinal "WaysAtlasModel" "WaysAtlasModel" "planStatement" "[I") ∈ lw_all := lw_g (lw_at lw_m9 56 rfl) rfl
theorem q2114 : (Jvm.Cond.soleField "WaysAtlasModel" "planStatement") ∈ lw_all := lw_g (lw_at lw_m9 57 rfl) rfl
theorem q2115 : (Jvm.Cond.laysFinal "WaysAtlasModel" "WaysAtlasModel" "planPart" "[I") ∈ lw_all := lw_g (lw_at lw_m9 58 rfl) rfl
theorem q2116 : (Jvm.Cond.soleField "WaysAtlasModel" "planPart") ∈ lw_all := lw_g (lw_at lw_m9 59 rfl) rfl
theorem q2117 : (Jvm.Cond.laysFinal "WaysAtlasModel" "WaysAtlasModel" "planTime" "[I") ∈ lw_all := lw_g (lw_at lw_m9 60 rfl) rfl
theorem q2118 : (Jvm.Cond.soleField "WaysAtlasModel" "planTime") ∈ lw_all := lw_g (lw_at lw_m9 61 rfl) rfl
theorem q2119 : (Jvm.Cond.laysFinal "WaysAtlasModel" "WaysAtlasModel" "planKind" "[I") ∈ lw_all := lw_g (lw_at lw_m9 62 rfl) rfl
theorem q2120 : (Jvm.Cond.soleField "WaysAtlasModel" "planKind") ∈ lw_all := lw_g (lw_at lw_m9 63 rfl) rfl
theorem q2121 : (Jvm.Cond.laysFinal "WaysAtlasModel" "WaysAtlasModel" "hasRun" "[Z") ∈ lw_all := lw_g (lw_at lw_m9 64 rfl) rfl
theorem q2122 : (Jvm.Cond.soleField "WaysAtlasModel" "hasRun") ∈ lw_all := lw_g (lw_at lw_m9 65 rfl) rfl
theorem q2123 : (Jvm.Cond.lays "WaysAtlasModel" "WaysAtlasModel" "slot" "I") ∈ lw_all := lw_g (lw_at lw_m9 66 rfl) rfl
theorem q2124 : (Jvm.Cond.soleField "WaysAtlasModel" "slot") ∈ lw_all := lw_g (lw_at lw_m9 67 rfl) rfl
theorem q2125 : (Jvm.Cond.laysFinal "WaysAtlasModel" "WaysAtlasModel" "told" "[I") ∈ lw_all := lw_g (lw_at lw_m9 68 rfl) rfl
theorem q2126 : (Jvm.Cond.soleField "WaysAtlasModel" "told") ∈ lw_all := lw_g (lw_at lw_m9 69 rfl) rfl
theorem q2127 : (Jvm.Cond.laysFinal "WaysAtlasModel" "WaysAtlasModel" "tape" "[I") ∈ lw_all := lw_g (lw_at lw_m9 70 rfl) rfl
theorem q2128 : (Jvm.Cond.soleField "WaysAtlasModel" "tape") ∈ lw_all := lw_g (lw_at lw_m9 71 rfl) rfl
theorem q2129 : (Jvm.Cond.laysFinal "WaysAtlasModel" "WaysAtlasModel" "failedKind" "[I") ∈ lw_all := lw_g (lw_at lw_m9 72 rfl) rfl
theorem q2130 : (Jvm.Cond.soleField "WaysAtlasModel" "failedKind") ∈ lw_all := lw_g (lw_at lw_m9 73 rfl) rfl
theorem q2131 : (Jvm.Cond.laysFinal "WaysAtlasModel" "WaysAtlasModel" "cause" "[I") ∈ lw_all := lw_g (lw_at lw_m9 74 rfl) rfl
theorem q2132 : (Jvm.Cond.soleField "WaysAtlasModel" "cause") ∈ lw_all := lw_g (lw_at lw_m9 75 rfl) rfl
theorem q2133 : (Jvm.Cond.laysFinal "WaysAtlasModel" "WaysAtlasModel" "underFirst" "[I") ∈ lw_all := lw_g (lw_at lw_m9 76 rfl) rfl
theorem q2134 : (Jvm.Cond.soleField "WaysAtlasModel" "underFirst") ∈ lw_all := lw_g (lw_at lw_m9 77 rfl) rfl
theorem q2135 : (Jvm.Cond.laysFinal "WaysAtlasModel" "WaysAtlasModel" "underNext" "[I") ∈ lw_all := lw_g (lw_at lw_m9 78 rfl) rfl
theorem q2136 : (Jvm.Cond.soleField "WaysAtlasModel" "underNext") ∈ lw_all := lw_g (lw_at lw_m9 79 rfl) rfl
theorem q2137 : (Jvm.Cond.laysFinal "WaysAtlasModel" "WaysAtlasModel" "failedAt" "[I") ∈ lw_all := lw_g (lw_at lw_m9 80 rfl) rfl
theorem q2138 : (Jvm.Cond.soleField "WaysAtlasModel" "failedAt") ∈ lw_all := lw_g (lw_at lw_m9 81 rfl) rfl
theorem q2139 : (Jvm.Cond.laysFinal "WaysAtlasModel" "WaysAtlasModel" "underWay" "[I") ∈ lw_all := lw_g (lw_at lw_m9 82 rfl) rfl
theorem q2140 : (Jvm.Cond.soleField "WaysAtlasModel" "underWay") ∈ lw_all := lw_g (lw_at lw_m9 83 rfl) rfl
theorem q2141 : (Jvm.Cond.laysFinal "WaysAtlasModel" "WaysAtlasModel" "traces" "[I") ∈ lw_all := lw_g (lw_at lw_m9 84 rfl) rfl
theorem q2142 : (Jvm.Cond.soleField "WaysAtlasModel" "traces") ∈ lw_all := lw_g (lw_at lw_m9 85 rfl) rfl
theorem q2143 : (Jvm.Cond.laysFinal "WaysAtlasModel" "WaysAtlasModel" "closings" "[I") ∈ lw_all := lw_g (lw_at lw_m9 86 rfl) rfl
theorem q2144 : (Jvm.Cond.soleField "WaysAtlasModel" "closings") ∈ lw_all := lw_g (lw_at lw_m9 87 rfl) rfl
theorem q2145 : (Jvm.Cond.laysFinal "WaysAtlasModel" "WaysAtlasModel" "enteredOf" "[I") ∈ lw_all := lw_g (lw_at lw_m9 88 rfl) rfl
theorem q2146 : (Jvm.Cond.soleField "WaysAtlasModel" "enteredOf") ∈ lw_all := lw_g (lw_at lw_m9 89 rfl) rfl
theorem q2147 : (Jvm.Cond.lays "WaysAtlasModel" "WaysAtlasModel" "left" "I") ∈ lw_all := lw_g (lw_at lw_m9 90 rfl) rfl
theorem q2148 : (Jvm.Cond.soleField "WaysAtlasModel" "left") ∈ lw_all := lw_g (lw_at lw_m9 91 rfl) rfl
theorem q2149 : (Jvm.Cond.lays "WaysAtlasModel" "WaysAtlasModel" "ended" "I") ∈ lw_all := lw_g (lw_at lw_m9 92 rfl) rfl
theorem q2150 : (Jvm.Cond.soleField "WaysAtlasModel" "ended") ∈ lw_all := lw_g (lw_at lw_m9 93 rfl) rfl
theorem q2151 : (Jvm.Cond.lays "WaysAtlasModel" "WaysAtlasModel" "signal" "I") ∈ lw_all := lw_g (lw_at lw_m9 94 rfl) rfl
theorem q2152 : (Jvm.Cond.soleField "WaysAtlasModel" "signal") ∈ lw_all := lw_g (lw_at lw_m9 95 rfl) rfl
theorem q2153 : (Jvm.Cond.lays "WaysAtlasModel" "WaysAtlasModel" "signalValue" "I") ∈ lw_all := lw_g (lw_at lw_m9 96 rfl) rfl
theorem q2154 : (Jvm.Cond.soleField "WaysAtlasModel" "signalValue") ∈ lw_all := lw_g (lw_at lw_m9 97 rfl) rfl
theorem q2155 : (Jvm.Cond.lays "WaysAtlasModel" "WaysAtlasModel" "frames" "I") ∈ lw_all := lw_g (lw_at lw_m9 98 rfl) rfl
theorem q2156 : (Jvm.Cond.soleField "WaysAtlasModel" "frames") ∈ lw_all := lw_g (lw_at lw_m9 99 rfl) rfl
theorem q2157 : (Jvm.Cond.laysFinal "WaysAtlasModel" "WaysAtlasModel" "frameKind" "[I") ∈ lw_all := lw_g (lw_at lw_m9 100 rfl) rfl
theorem q2158 : (Jvm.Cond.soleField "WaysAtlasModel" "frameKind") ∈ lw_all := lw_g (lw_at lw_m9 101 rfl) rfl
theorem q2159 : (Jvm.Cond.laysFinal "WaysAtlasModel" "WaysAtlasModel" "frameStatement" "[I") ∈ lw_all := lw_g (lw_at lw_m9 102 rfl) rfl
theorem q2160 : (Jvm.Cond.soleField "WaysAtlasModel" "frameStatement") ∈ lw_all := lw_g (lw_at lw_m9 103 rfl) rfl
theorem q2161 : (Jvm.Cond.laysFinal "WaysAtlasModel" "WaysAtlasModel" "frameNow" "[I") ∈ lw_all := lw_g (lw_at lw_m9 104 rfl) rfl
theorem q2162 : (Jvm.Cond.soleField "WaysAtlasModel" "frameNow") ∈ lw_all := lw_g (lw_at lw_m9 105 rfl) rfl
theorem q2163 : (Jvm.Cond.laysFinal "WaysAtlasModel" "WaysAtlasModel" "pending" "[I") ∈ lw_all := lw_g (lw_at lw_m9 106 rfl) rfl
theorem q2164 : (Jvm.Cond.soleField "WaysAtlasModel" "pending") ∈ lw_all := lw_g (lw_at lw_m9 107 rfl) rfl
theorem q2165 : (Jvm.Cond.laysFinal "WaysAtlasModel" "WaysAtlasModel" "pendingValue" "[I") ∈ lw_all := lw_g (lw_at lw_m9 108 rfl) rfl
theorem q2166 : (Jvm.Cond.soleField "WaysAtlasModel" "pendingValue") ∈ lw_all := lw_g (lw_at lw_m9 109 rfl) rfl
theorem q2167 : (Jvm.Cond.laysFinal "WaysAtlasModel" "WaysAtlasModel" "firstResource" "[I") ∈ lw_all := lw_g (lw_at lw_m9 110 rfl) rfl
theorem q2168 : (Jvm.Cond.soleField "WaysAtlasModel" "firstResource") ∈ lw_all := lw_g (lw_at lw_m9 111 rfl) rfl
theorem q2169 : (Jvm.Cond.laysFinal "WaysAtlasModel" "WaysAtlasModel" "openedOf" "[I") ∈ lw_all := lw_g (lw_at lw_m9 112 rfl) rfl
theorem q2170 : (Jvm.Cond.soleField "WaysAtlasModel" "openedOf") ∈ lw_all := lw_g (lw_at lw_m9 113 rfl) rfl
theorem q2171 : (Jvm.Cond.laysFinal "WaysAtlasModel" "WaysAtlasModel" "caught" "[I") ∈ lw_all := lw_g (lw_at lw_m9 114 rfl) rfl
theorem q2172 : (Jvm.Cond.soleField "WaysAtlasModel" "caught") ∈ lw_all := lw_g (lw_at lw_m9 115 rfl) rfl
theorem q2173 : (Jvm.Cond.lays "WaysAtlasModel" "WaysAtlasModel" "acts" "I") ∈ lw_all := lw_g (lw_at lw_m9 116 rfl) rfl
theorem q2174 : (Jvm.Cond.soleField "WaysAtlasModel" "acts") ∈ lw_all := lw_g (lw_at lw_m9 117 rfl) rfl
theorem q2175 : (Jvm.Cond.laysFinal "WaysAtlasModel" "WaysAtlasModel" "actVar" "[I") ∈ lw_all := lw_g (lw_at lw_m9 118 rfl) rfl
theorem q2176 : (Jvm.Cond.soleField "WaysAtlasModel" "actVar") ∈ lw_all := lw_g (lw_at lw_m9 119 rfl) rfl
theorem q2177 : (Jvm.Cond.laysFinal "WaysAtlasModel" "WaysAtlasModel" "actRow" "[I") ∈ lw_all := lw_g (lw_at lw_m9 120 rfl) rfl
theorem q2178 : (Jvm.Cond.soleField "WaysAtlasModel" "actRow") ∈ lw_all := lw_g (lw_at lw_m9 121 rfl) rfl
theorem q2179 : (Jvm.Cond.laysFinal "WaysAtlasModel" "WaysAtlasModel" "actMethod" "[I") ∈ lw_all := lw_g (lw_at lw_m9 122 rfl) rfl
theorem q2180 : (Jvm.Cond.soleField "WaysAtlasModel" "actMethod") ∈ lw_all := lw_g (lw_at lw_m9 123 rfl) rfl
theorem q2181 : (Jvm.Cond.laysFinal "WaysAtlasModel" "WaysAtlasModel" "actStatement" "[I") ∈ lw_all := lw_g (lw_at lw_m9 124 rfl) rfl
theorem q2182 : (Jvm.Cond.soleField "WaysAtlasModel" "actStatement") ∈ lw_all := lw_g (lw_at lw_m9 125 rfl) rfl
theorem q2183 : (Jvm.Cond.lays "WaysAtlasModel" "WaysAtlasModel" "rows" "I") ∈ lw_all := lw_g (lw_at lw_m9 126 rfl) rfl
theorem q2184 : (Jvm.Cond.soleField "WaysAtlasModel" "rows") ∈ lw_all := lw_g (lw_at lw_m9 127 rfl) rfl
theorem q2185 : (Jvm.Cond.laysFinal "WaysAtlasModel" "WaysAtlasModel" "rowSize" "[I") ∈ lw_all := lw_g (lw_at lw_m9 128 rfl) rfl
theorem q2186 : (Jvm.Cond.soleField "WaysAtlasModel" "rowSize") ∈ lw_all := lw_g (lw_at lw_m9 129 rfl) rfl
theorem q2187 : (Jvm.Cond.laysFinal "WaysAtlasModel" "WaysAtlasModel" "rowItem" "[I") ∈ lw_all := lw_g (lw_at lw_m9 130 rfl) rfl
theorem q2188 : (Jvm.Cond.soleField "WaysAtlasModel" "rowItem") ∈ lw_all := lw_g (lw_at lw_m9 131 rfl) rfl
theorem q2189 : (Jvm.Cond.laysFinal "WaysAtlasModel" "WaysAtlasModel" "passed" "[I") ∈ lw_all := lw_g (lw_at lw_m9 132 rfl) rfl
theorem q2190 : (Jvm.Cond.soleField "WaysAtlasModel" "passed") ∈ lw_all := lw_g (lw_at lw_m9 133 rfl) rfl
theorem q2191 : (Jvm.Cond.lays "WaysAtlasModel" "WaysAtlasModel" "planning" "I") ∈ lw_all := lw_g (lw_at lw_m9 134 rfl) rfl
theorem q2192 : (Jvm.Cond.soleField "WaysAtlasModel" "planning") ∈ lw_all := lw_g (lw_at lw_m9 135 rfl) rfl
theorem q2193 : (Jvm.Cond.lays "WaysAtlasModel" "WaysAtlasModel" "aloneStatement" "I") ∈ lw_all := lw_g (lw_at lw_m9 136 rfl) rfl
theorem q2194 : (Jvm.Cond.soleField "WaysAtlasModel" "aloneStatement") ∈ lw_all := lw_g (lw_at lw_m9 137 rfl) rfl
theorem q2195 : (Jvm.Cond.lays "WaysAtlasModel" "WaysAtlasModel" "alonePart" "I") ∈ lw_all := lw_g (lw_at lw_m9 138 rfl) rfl
theorem q2196 : (Jvm.Cond.soleField "WaysAtlasModel" "alonePart") ∈ lw_all := lw_g (lw_at lw_m9 139 rfl) rfl
theorem q2197 : (Jvm.Cond.lays "WaysAtlasModel" "WaysAtlasModel" "aloneTime" "I") ∈ lw_all := lw_g (lw_at lw_m9 140 rfl) rfl
theorem q2198 : (Jvm.Cond.soleField "WaysAtlasModel" "aloneTime") ∈ lw_all := lw_g (lw_at lw_m9 141 rfl) rfl
theorem q2199 : (Jvm.Cond.lays "WaysAtlasModel" "WaysAtlasModel" "quiet" "I") ∈ lw_all := lw_g (lw_at lw_m9 142 rfl) rfl
theorem q2200 : (Jvm.Cond.soleField "WaysAtlasModel" "quiet") ∈ lw_all := lw_g (lw_at lw_m9 143 rfl) rfl
theorem q2201 : (Jvm.Cond.laysFinal "WaysAtlasModel" "WaysAtlasModel" "quietStatement" "[I") ∈ lw_all := lw_g (lw_at lw_m9 144 rfl) rfl
theorem q2202 : (Jvm.Cond.soleField "WaysAtlasModel" "quietStatement") ∈ lw_all := lw_g (lw_at lw_m9 145 rfl) rfl
theorem q2203 : (Jvm.Cond.laysFinal "WaysAtlasModel" "WaysAtlasModel" "quietPart" "[I") ∈ lw_all := lw_g (lw_at lw_m9 146 rfl) rfl
theorem q2204 : (Jvm.Cond.soleField "WaysAtlasModel" "quietPart") ∈ lw_all := lw_g (lw_at lw_m9 147 rfl) rfl
theorem q2205 : (Jvm.Cond.laysFinal "WaysAtlasModel" "WaysAtlasModel" "quietTime" "[I") ∈ lw_all := lw_g (lw_at lw_m9 148 rfl) rfl
theorem q2206 : (Jvm.Cond.soleField "WaysAtlasModel" "quietTime") ∈ lw_all := lw_g (lw_at lw_m9 149 rfl) rfl
theorem q2207 : (Jvm.Cond.laysFinal "WaysAtlasModel" "WaysAtlasModel" "stack" "[I") ∈ lw_all := lw_g (lw_at lw_m9 150 rfl) rfl
theorem q2208 : (Jvm.Cond.soleField "WaysAtlasModel" "stack") ∈ lw_all := lw_g (lw_at lw_m9 151 rfl) rfl
theorem q2209 : (Jvm.Cond.lays "WaysAtlasModel" "WaysAtlasModel" "stacked" "I") ∈ lw_all := lw_g (lw_at lw_m9 152 rfl) rfl
theorem q2210 : (Jvm.Cond.soleField "WaysAtlasModel" "stacked") ∈ lw_all := lw_g (lw_at lw_m9 153 rfl) rfl
theorem q2211 : (Jvm.Cond.lays "WaysAtlasModel" "WaysAtlasModel" "wrong" "I") ∈ lw_all := lw_g (lw_at lw_m9 154 rfl) rfl
theorem q2212 : (Jvm.Cond.soleField "WaysAtlasModel" "wrong") ∈ lw_all := lw_g (lw_at lw_m9 155 rfl) rfl
theorem q2213 : (Jvm.Cond.laysFinal "WaysAtlasModel" "WaysAtlasModel" "wayOut" "[I") ∈ lw_all := lw_g (lw_at lw_m9 156 rfl) rfl
theorem q2214 : (Jvm.Cond.soleField "WaysAtlasModel" "wayOut") ∈ lw_all := lw_g (lw_at lw_m9 157 rfl) rfl
theorem q2215 : (Jvm.Cond.lays "WaysAtlasModel" "WaysAtlasModel" "wayOuts" "I") ∈ lw_all := lw_g (lw_at lw_m9 158 rfl) rfl
theorem q2216 : (Jvm.Cond.soleField "WaysAtlasModel" "wayOuts") ∈ lw_all := lw_g (lw_at lw_m9 159 rfl) rfl
theorem q2217 : (Jvm.Cond.superclass "WaysAtlasModel" "java/lang/Object") ∈ lw_all := lw_g (lw_at lw_m9 160 rfl) rfl
theorem q2221 : (Jvm.Cond.instanceMethod ({ cls := "WaysAtlasModel", name := "say", desc := "(JI)I" } : Jvm.MethodName)) ∈ lw_all := lw_g (lw_at lw_m9 164 rfl) rfl
theorem q2222 : (Jvm.Cond.selects "WaysAtlasModel" ({ cls := "WaysAtlasModel", name := "say", desc := "(JI)I" } : Jvm.MethodName) ({ cls := "WaysAtlasModel", name := "say", desc := "(JI)I" } : Jvm.MethodName)) ∈ lw_all := lw_g (lw_at lw_m9 165 rfl) rfl
theorem q2223 : (Jvm.Cond.code ({ cls := "WaysAtlasModel", name := "say", desc := "(JI)I" } : Jvm.MethodName) prog_36_method_4_code (5 : Nat) (Option.some Jvm.ClassFile.FieldType.int)) ∈ lw_all := lw_g (lw_at lw_m9 166 rfl) rfl
theorem q2224 : (Jvm.Cond.methodLink "WaysAtlasModel" (239 : Nat) ({ cls := "WaysAtlasModel", name := "in", desc := "(III)Z" } : Jvm.MethodName)) ∈ lw_all := lw_g (lw_at lw_m9 167 rfl) rfl
theorem q2225 : (Jvm.Cond.static ({ cls := "WaysAtlasModel", name := "in", desc := "(III)Z" } : Jvm.MethodName)) ∈ lw_all := lw_g (lw_at lw_m9 168 rfl) rfl
theorem q2226 : (Jvm.Cond.code ({ cls := "WaysAtlasModel", name := "in", desc := "(III)Z" } : Jvm.MethodName) prog_36_method_3_code (3 : Nat) (Option.some Jvm.ClassFile.FieldType.boolean)) ∈ lw_all := lw_g (lw_at lw_m9 169 rfl) rfl
theorem q2228 : (Jvm.Cond.instanceMethod ({ cls := "WaysAtlasModel", name := "compile", desc := "(Z)I" } : Jvm.MethodName)) ∈ lw_all := lw_g (lw_at lw_m9 171 rfl) rfl
theorem q2229 : (Jvm.Cond.selects "WaysAtlasModel" ({ cls := "WaysAtlasModel", name := "compile", desc := "(Z)I" } : Jvm.MethodName) ({ cls := "WaysAtlasModel", name := "compile", desc := "(Z)I" } : Jvm.MethodName)) ∈ lw_all := lw_g (lw_at lw_m9 172 rfl) rfl
theorem q2230 : (Jvm.Cond.code ({ cls := "WaysAtlasModel", name := "compile", desc := "(Z)I" } : Jvm.MethodName) prog_36_method_53_code (2 : Nat) (Option.some Jvm.ClassFile.FieldType.int)) ∈ lw_all := lw_g (lw_at lw_m9 173 rfl) rfl
theorem q2231 : (Jvm.Cond.methodLink "WaysAtlasModel" (441 : Nat) ({ cls := "WaysAtlasModel", name := "reads", desc := "()V" } : Jvm.MethodName)) ∈ lw_all := lw_g (lw_at lw_m9 174 rfl) rfl
theorem q2232 : (Jvm.Cond.privateMethod ({ cls := "WaysAtlasModel", name := "reads", desc := "()V" } : Jvm.MethodName)) ∈ lw_tbl := lw_at lw_m9 175 rfl
theorem q2233 : (Jvm.Cond.instanceMethod ({ cls := "WaysAtlasModel", name := "reads", desc := "()V" } : Jvm.MethodName)) ∈ lw_all := lw_g (lw_at lw_m9 176 rfl) rfl
theorem q2234 : (Jvm.Cond.code ({ cls := "WaysAtlasModel", name := "reads", desc := "()V" } : Jvm.MethodName) prog_36_method_51_code (2 : Nat) (Option.none : Option Jvm.ClassFile.FieldType)) ∈ lw_all := lw_g (lw_at lw_m9 177 rfl) rfl
theorem q2235 : (Jvm.Cond.methodLink "WaysAtlasModel" (310 : Nat) ({ cls := "WaysAtlasModel", name := "advance", desc := "()V" } : Jvm.MethodName)) ∈ lw_all := lw_g (lw_at lw_m9 178 rfl) rfl
theorem q2236 : (Jvm.Cond.privateMethod ({ cls := "WaysAtlasModel", name := "advance", desc := "()V" } : Jvm.MethodName)) ∈ lw_tbl := lw_at lw_m9 179 rfl
theorem q2237 : (Jvm.Cond.instanceMethod ({ cls := "WaysAtlasModel", name := "advance", desc := "()V" } : Jvm.MethodName)) ∈ lw_all := lw_g (lw_at lw_m9 180 rfl) rfl
theorem q2238 : (Jvm.Cond.code ({ cls := "WaysAtlasModel", name := "advance", desc := "()V" } : Jvm.MethodName) prog_36_method_11_code (1 : Nat) (Option.none : Option Jvm.ClassFile.FieldType)) ∈ lw_all := lw_g (lw_at lw_m9 181 rfl) rfl
theorem q2239 : (Jvm.Cond.methodLink "WaysAtlasModel" (260 : Nat) ({ cls := "WaysAtlasModel", name := "isLetter", desc := "(I)Z" } : Jvm.MethodName)) ∈ lw_all := lw_g (lw_at lw_m9 182 rfl) rfl
theorem q2240 : (Jvm.Cond.privateMethod ({ cls := "WaysAtlasModel", name := "isLetter", desc := "(I)Z" } : Jvm.MethodName)) ∈ lw_tbl := lw_at lw_m9 183 rfl
theorem q2241 : (Jvm.Cond.instanceMethod ({ cls := "WaysAtlasModel", name := "isLetter", desc := "(I)Z" } : Jvm.MethodName)) ∈ lw_all := lw_g (lw_at lw_m9 184 rfl) rfl
theorem q2242 : (Jvm.Cond.code ({ cls := "WaysAtlasModel", name := "isLetter", desc := "(I)Z" } : Jvm.MethodName) prog_36_method_6_code (2 : Nat) (Option.some Jvm.ClassFile.FieldType.boolean)) ∈ lw_all := lw_g (lw_at lw_m9 185 rfl) rfl
theorem q2243 : (Jvm.Cond.methodLink "WaysAtlasModel" (246 : Nat) ({ cls := "WaysAtlasModel", name := "byteAt", desc := "(I)I" } : Jvm.MethodName)) ∈ lw_all := lw_g (lw_at lw_m9 186 rfl) rfl
theorem q2244 : (Jvm.Cond.privateMethod ({ cls := "WaysAtlasModel", name := "byteAt", desc := "(I)I" } : Jvm.MethodName)) ∈ lw_tbl := lw_at lw_m9 187 rfl
theorem q2245 : (Jvm.Cond.instanceMethod ({ cls := "WaysAtlasModel", name := "byteAt", desc := "(I)I" } : Jvm.MethodName)) ∈ lw_all := lw_g (lw_at lw_m9 188 rfl) rfl
theorem q2246 : (Jvm.Cond.code ({ cls := "WaysAtlasModel", name := "byteAt", desc := "(I)I" } : Jvm.MethodName) prog_36_method_5_code (2 : Nat) (Option.some Jvm.ClassFile.FieldType.int)) ∈ lw_all := lw_g (lw_at lw_m9 189 rfl) rfl
theorem q2247 : (Jvm.Cond.methodLink "WaysAtlasModel" (282 : Nat) ({ cls := "WaysAtlasModel", name := "wordOrName", desc := "()V" } : Jvm.MethodName)) ∈ lw_all := lw_g (lw_at lw_m9 190 rfl) rfl
theorem q2248 : (Jvm.Cond.privateMethod ({ cls := "WaysAtlasModel", name := "wordOrName", desc := "()V" } : Jvm.MethodName)) ∈ lw_tbl := lw_at lw_m9 191 rfl
theorem q2249 : (Jvm.Cond.instanceMethod ({ cls := "WaysAtlasModel", name := "wordOrName", desc := "()V" } : Jvm.MethodName)) ∈ lw_all := lw_g (lw_at lw_m9 192 rfl) rfl
theorem q2250 : (Jvm.Cond.code ({ cls := "WaysAtlasModel", name := "wordOrName", desc := "()V" } : Jvm.MethodName) prog_36_method_9_code (7 : Nat) (Option.none : Option Jvm.ClassFile.FieldType)) ∈ lw_all := lw_g (lw_at lw_m9 193 rfl) rfl
theorem q2251 : (Jvm.Cond.constantLong "WaysAtlasModel" (263 : Nat) (32 : Int64)) ∈ lw_all := lw_g (lw_at lw_m9 194 rfl) rfl
theorem q2252 : (Jvm.Cond.constantLong "WaysAtlasModel" (265 : Nat) (96 : Int64)) ∈ lw_all := lw_g (lw_at lw_m9 195 rfl) rfl
theorem q2253 : (Jvm.Cond.constantLong "WaysAtlasModel" (267 : Nat) (-1 : Int64)) ∈ lw_all := lw_g (lw_at lw_m9 196 rfl) rfl
theorem q2254 : (Jvm.Cond.methodLink "WaysAtlasModel" (256 : Nat) ({ cls := "WaysAtlasModel", name := "isDigit", desc := "(I)Z" } : Jvm.MethodName)) ∈ lw_all := lw_g (lw_at lw_m9 197 rfl) rfl
theorem q2255 : (Jvm.Cond.privateMethod ({ cls := "WaysAtlasModel", name := "isDigit", desc := "(I)Z" } : Jvm.MethodName)) ∈ lw_tbl := lw_at lw_m9 198 rfl
theorem q2256 : (Jvm.Cond.instanceMethod ({ cls := "WaysAtlasModel", name := "isDigit", desc := "(I)Z" } : Jvm.MethodName)) ∈ lw_all := lw_g (lw_at lw_m9 199 rfl) rfl
theorem q2257 : (Jvm.Cond.code ({ cls := "WaysAtlasModel", name := "isDigit", desc := "(I)Z" } : Jvm.MethodName) prog_36_method_7_code (2 : Nat) (Option.some Jvm.ClassFile.FieldType.boolean)) ∈ lw_all := lw_g (lw_at lw_m9 200 rfl) rfl
theorem q2258 : (Jvm.Cond.methodLink "WaysAtlasModel" (275 : Nat) ({ cls := "WaysAtlasModel", name := "digits", desc := "()I" } : Jvm.MethodName)) ∈ lw_all := lw_g (lw_at lw_m9 201 rfl) rfl
theorem q2259 : (Jvm.Cond.privateMethod ({ cls := "WaysAtlasModel", name := "digits", desc := "()I" } : Jvm.MethodName)) ∈ lw_tbl := lw_at lw_m9 202 rfl
theorem q2260 : (Jvm.Cond.instanceMethod ({ cls := "WaysAtlasModel", name := "digits", desc := "()I" } : Jvm.MethodName)) ∈ lw_all := lw_g (lw_at lw_m9 203 rfl) rfl
theorem q2261 : (Jvm.Cond.code ({ cls := "WaysAtlasModel", name := "digits", desc := "()I" } : Jvm.MethodName) prog_36_method_8_code (2 : Nat) (Option.some Jvm.ClassFile.FieldType.int)) ∈ lw_all := lw_g (lw_at lw_m9 204 rfl) rfl
theorem q2262 : (Jvm.Cond.methodLink "WaysAtlasModel" (285 : Nat) ({ cls := "WaysAtlasModel", name := "isSignByte", desc := "(I)Z" } : Jvm.MethodName)) ∈ lw_all := lw_g (lw_at lw_m9 205 rfl) rfl
theorem q2263 : (Jvm.Cond.static ({ cls := "WaysAtlasModel", name := "isSignByte", desc := "(I)Z" } : Jvm.MethodName)) ∈ lw_all := lw_g (lw_at lw_m9 206 rfl) rfl
theorem q2264 : (Jvm.Cond.code ({ cls := "WaysAtlasModel", name := "isSignByte", desc := "(I)Z" } : Jvm.MethodName) prog_36_method_10_code (1 : Nat) (Option.some Jvm.ClassFile.FieldType.boolean)) ∈ lw_all := lw_g (lw_at lw_m9 207 rfl) rfl
theorem q2265 : (Jvm.Cond.methodLink "WaysAtlasModel" (432 : Nat) ({ cls := "WaysAtlasModel", name := "outside", desc := "()V" } : Jvm.MethodName)) ∈ lw_all := lw_g (lw_at lw_m9 208 rfl) rfl
theorem q2266 : (Jvm.Cond.privateMethod ({ cls := "WaysAtlasModel", name := "outside", desc := "()V" } : Jvm.MethodName)) ∈ lw_tbl := lw_at lw_m9 209 rfl
theorem q2267 : (Jvm.Cond.instanceMethod ({ cls := "WaysAtlasModel", name := "outside", desc := "()V" } : Jvm.MethodName)) ∈ lw_all := lw_g (lw_at lw_m9 210 rfl) rfl
theorem q2268 : (Jvm.Cond.code ({ cls := "WaysAtlasModel", name := "outside", desc := "()V" } : Jvm.MethodName) prog_36_method_50_code (4 : Nat) (Option.none : Option Jvm.ClassFile.FieldType)) ∈ lw_all := lw_g (lw_at lw_m9 211 rfl) rfl
theorem q2269 : (Jvm.Cond.methodLink "WaysAtlasModel" (345 : Nat) ({ cls := "WaysAtlasModel", name := "isWord", desc := "(I)Z" } : Jvm.MethodName)) ∈ lw_all := lw_g (lw_at lw_m9 212 rfl) rfl
theorem q2270 : (Jvm.Cond.privateMethod ({ cls := "WaysAtlasModel", name := "isWord", desc := "(I)Z" } : Jvm.MethodName)) ∈ lw_tbl := lw_at lw_m9 213 rfl
theorem q2271 : (Jvm.Cond.instanceMethod ({ cls := "WaysAtlasModel", name := "isWord", desc := "(I)Z" } : Jvm.MethodName)) ∈ lw_all := lw_g (lw_at lw_m9 214 rfl) rfl
theorem q2272 : (Jvm.Cond.code ({ cls := "WaysAtlasModel", name := "isWord", desc := "(I)Z" } : Jvm.MethodName) prog_36_method_12_code (2 : Nat) (Option.some Jvm.ClassFile.FieldType.boolean)) ∈ lw_all := lw_g (lw_at lw_m9 215 rfl) rfl
theorem q2273 : (Jvm.Cond.methodLink "WaysAtlasModel" (297 : Nat) ({ cls := "WaysAtlasModel", name := "fails", desc := "(II)V" } : Jvm.MethodName)) ∈ lw_all := lw_g (lw_at lw_m9 216 rfl) rfl
theorem q2274 : (Jvm.Cond.privateMethod ({ cls := "WaysAtlasModel", name := "fails", desc := "(II)V" } : Jvm.MethodName)) ∈ lw_tbl := lw_at lw_m9 217 rfl
theorem q2275 : (Jvm.Cond.instanceMethod ({ cls := "WaysAtlasModel", name := "fails", desc := "(II)V" } : Jvm.MethodName)) ∈ lw_all := lw_g (lw_at lw_m9 218 rfl) rfl
theorem q2276 : (Jvm.Cond.code ({ cls := "WaysAtlasModel", name := "fails", desc := "(II)V" } : Jvm.MethodName) prog_36_method_17_code (3 : Nat) (Option.none : Option Jvm.ClassFile.FieldType)) ∈ lw_all := lw_g (lw_at lw_m9 219 rfl) rfl
theorem q2277 : (Jvm.Cond.methodLink "WaysAtlasModel" (307 : Nat) ({ cls := "WaysAtlasModel", name := "cannot", desc := "()V" } : Jvm.MethodName)) ∈ lw_all := lw_g (lw_at lw_m9 220 rfl) rfl
theorem q2278 : (Jvm.Cond.privateMethod ({ cls := "WaysAtlasModel", name := "cannot", desc := "()V" } : Jvm.MethodName)) ∈ lw_tbl := lw_at lw_m9 221 rfl
theorem q2279 : (Jvm.Cond.instanceMethod ({ cls := "WaysAtlasModel", name := "cannot", desc := "()V" } : Jvm.MethodName)) ∈ lw_all := lw_g (lw_at lw_m9 222 rfl) rfl
theorem q2280 : (Jvm.Cond.code ({ cls := "WaysAtlasModel", name := "cannot", desc := "()V" } : Jvm.MethodName) prog_36_method_18_code (1 : Nat) (Option.none : Option Jvm.ClassFile.FieldType)) ∈ lw_all := lw_g (lw_at lw_m9 223 rfl) rfl
theorem q2281 : (Jvm.Cond.methodLink "WaysAtlasModel" (405 : Nat) ({ cls := "WaysAtlasModel", name := "takeKind", desc := "(I)I" } : Jvm.MethodName)) ∈ lw_all := lw_g (lw_at lw_m9 224 rfl) rfl
theorem q2282 : (Jvm.Cond.privateMethod ({ cls := "WaysAtlasModel", name := "takeKind", desc := "(I)I" } : Jvm.MethodName)) ∈ lw_tbl := lw_at lw_m9 225 rfl
theorem q2283 : (Jvm.Cond.instanceMethod ({ cls := "WaysAtlasModel", name := "takeKind", desc := "(I)I" } : Jvm.MethodName)) ∈ lw_all := lw_g (lw_at lw_m9 226 rfl) rfl
theorem q2284 : (Jvm.Cond.code ({ cls := "WaysAtlasModel", name := "takeKind", desc := "(I)I" } : Jvm.MethodName) prog_36_method_22_code (3 : Nat) (Option.some Jvm.ClassFile.FieldType.int)) ∈ lw_all := lw_g (lw_at lw_m9 227 rfl) rfl
theorem q2285 : (Jvm.Cond.methodLink "WaysAtlasModel" (313 : Nat) ({ cls := "WaysAtlasModel", name := "isName", desc := "(I)Z" } : Jvm.MethodName)) ∈ lw_all := lw_g (lw_at lw_m9 228 rfl) rfl
theorem q2286 : (Jvm.Cond.privateMethod ({ cls := "WaysAtlasModel", name := "isName", desc := "(I)Z" } : Jvm.MethodName)) ∈ lw_tbl := lw_at lw_m9 229 rfl
theorem q2287 : (Jvm.Cond.instanceMethod ({ cls := "WaysAtlasModel", name := "isName", desc := "(I)Z" } : Jvm.MethodName)) ∈ lw_all := lw_g (lw_at lw_m9 230 rfl) rfl
theorem q2288 : (Jvm.Cond.code ({ cls := "WaysAtlasModel", name := "isName", desc := "(I)Z" } : Jvm.MethodName) prog_36_method_14_code (2 : Nat) (Option.some Jvm.ClassFile.FieldType.boolean)) ∈ lw_all := lw_g (lw_at lw_m9 231 rfl) rfl
theorem q2289 : (Jvm.Cond.methodLink "WaysAtlasModel" (316 : Nat) ({ cls := "WaysAtlasModel", name := "check", desc := "(III)V" } : Jvm.MethodName)) ∈ lw_all := lw_g (lw_at lw_m9 232 rfl) rfl
theorem q2290 : (Jvm.Cond.privateMethod ({ cls := "WaysAtlasModel", name := "check", desc := "(III)V" } : Jvm.MethodName)) ∈ lw_tbl := lw_at lw_m9 233 rfl
theorem q2291 : (Jvm.Cond.instanceMethod ({ cls := "WaysAtlasModel", name := "check", desc := "(III)V" } : Jvm.MethodName)) ∈ lw_all := lw_g (lw_at lw_m9 234 rfl) rfl
theorem q2292 : (Jvm.Cond.code ({ cls := "WaysAtlasModel", name := "check", desc := "(III)V" } : Jvm.MethodName) prog_36_method_19_code (4 : Nat) (Option.none : Option Jvm.ClassFile.FieldType)) ∈ lw_all := lw_g (lw_at lw_m9 235 rfl) rfl
theorem q2293 : (Jvm.Cond.methodLink "WaysAtlasModel" (385 : Nat) ({ cls := "WaysAtlasModel", name := "takeSign", desc := "(I)V" } : Jvm.MethodName)) ∈ lw_all := lw_g (lw_at lw_m9 236 rfl) rfl
theorem q2294 : (Jvm.Cond.privateMethod ({ cls := "WaysAtlasModel", name := "takeSign", desc := "(I)V" } : Jvm.MethodName)) ∈ lw_tbl := lw_at lw_m9 237 rfl
theorem q2295 : (Jvm.Cond.instanceMethod ({ cls := "WaysAtlasModel", name := "takeSign", desc := "(I)V" } : Jvm.MethodName)) ∈ lw_all := lw_g (lw_at lw_m9 238 rfl) rfl
theorem q2296 : (Jvm.Cond.code ({ cls := "WaysAtlasModel", name := "takeSign", desc := "(I)V" } : Jvm.MethodName) prog_36_method_20_code (2 : Nat) (Option.none : Option Jvm.ClassFile.FieldType)) ∈ lw_all := lw_g (lw_at lw_m9 239 rfl) rfl
theorem q2297 : (Jvm.Cond.methodLink "WaysAtlasModel" (304 : Nat) ({ cls := "WaysAtlasModel", name := "isSign", desc := "(I)Z" } : Jvm.MethodName)) ∈ lw_all := lw_g (lw_at lw_m10 0 rfl) rfl
theorem q2298 : (Jvm.Cond.privateMethod ({ cls := "WaysAtlasModel", name := "isSign", desc := "(I)Z" } : Jvm.MethodName)) ∈ lw_tbl := lw_at lw_m10 1 rfl
theorem q2299 : (Jvm.Cond.instanceMethod ({ cls := "WaysAtlasModel", name := "isSign", desc := "(I)Z" } : Jvm.MethodName)) ∈ lw_all := lw_g (lw_at lw_m10 2 rfl) rfl
theorem q2300 : (Jvm.Cond.code ({ cls := "WaysAtlasModel", name := "isSign", desc := "(I)Z" } : Jvm.MethodName) prog_36_method_13_code (2 : Nat) (Option.some Jvm.ClassFile.FieldType.boolean)) ∈ lw_all := lw_g (lw_at lw_m10 3 rfl) rfl
theorem q2301 : (Jvm.Cond.methodLink "WaysAtlasModel" (401 : Nat) ({ cls := "WaysAtlasModel", name := "opens", desc := "(II)I" } : Jvm.MethodName)) ∈ lw_all := lw_g (lw_at lw_m10 4 rfl) rfl
theorem q2302 : (Jvm.Cond.privateMethod ({ cls := "WaysAtlasModel", name := "opens", desc := "(II)I" } : Jvm.MethodName)) ∈ lw_tbl := lw_at lw_m10 5 rfl
theorem q2303 : (Jvm.Cond.instanceMethod ({ cls := "WaysAtlasModel", name := "opens", desc := "(II)I" } : Jvm.MethodName)) ∈ lw_all := lw_g (lw_at lw_m10 6 rfl) rfl
theorem q2304 : (Jvm.Cond.code ({ cls := "WaysAtlasModel", name := "opens", desc := "(II)I" } : Jvm.MethodName) prog_36_method_35_code (3 : Nat) (Option.some Jvm.ClassFile.FieldType.int)) ∈ lw_all := lw_g (lw_at lw_m10 7 rfl) rfl
theorem q2305 : (Jvm.Cond.methodLink "WaysAtlasModel" (435 : Nat) ({ cls := "WaysAtlasModel", name := "closes", desc := "()V" } : Jvm.MethodName)) ∈ lw_all := lw_g (lw_at lw_m10 8 rfl) rfl
theorem q2306 : (Jvm.Cond.privateMethod ({ cls := "WaysAtlasModel", name := "closes", desc := "()V" } : Jvm.MethodName)) ∈ lw_tbl := lw_at lw_m10 9 rfl
theorem q2307 : (Jvm.Cond.instanceMethod ({ cls := "WaysAtlasModel", name := "closes", desc := "()V" } : Jvm.MethodName)) ∈ lw_all := lw_g (lw_at lw_m10 10 rfl) rfl
theorem q2308 : (Jvm.Cond.code ({ cls := "WaysAtlasModel", name := "closes", desc := "()V" } : Jvm.MethodName) prog_36_method_49_code (3 : Nat) (Option.none : Option Jvm.ClassFile.FieldType)) ∈ lw_all := lw_g (lw_at lw_m10 11 rfl) rfl
theorem q2309 : (Jvm.Cond.methodLink "WaysAtlasModel" (376 : Nat) ({ cls := "WaysAtlasModel", name := "put", desc := "(III)V" } : Jvm.MethodName)) ∈ lw_all := lw_g (lw_at lw_m10 12 rfl) rfl
theorem q2310 : (Jvm.Cond.privateMethod ({ cls := "WaysAtlasModel", name := "put", desc := "(III)V" } : Jvm.MethodName)) ∈ lw_tbl := lw_at lw_m10 13 rfl
theorem q2311 : (Jvm.Cond.instanceMethod ({ cls := "WaysAtlasModel", name := "put", desc := "(III)V" } : Jvm.MethodName)) ∈ lw_all := lw_g (lw_at lw_m10 14 rfl) rfl
theorem q2312 : (Jvm.Cond.code ({ cls := "WaysAtlasModel", name := "put", desc := "(III)V" } : Jvm.MethodName) prog_36_method_16_code (4 : Nat) (Option.none : Option Jvm.ClassFile.FieldType)) ∈ lw_all := lw_g (lw_at lw_m10 15 rfl) rfl
theorem q2313 : (Jvm.Cond.methodLink "WaysAtlasModel" (429 : Nat) ({ cls := "WaysAtlasModel", name := "ofCatch", desc := "(I)V" } : Jvm.MethodName)) ∈ lw_all := lw_g (lw_at lw_m10 16 rfl) rfl
theorem q2314 : (Jvm.Cond.privateMethod ({ cls := "WaysAtlasModel", name := "ofCatch", desc := "(I)V" } : Jvm.MethodName)) ∈ lw_tbl := lw_at lw_m10 17 rfl
theorem q2315 : (Jvm.Cond.instanceMethod ({ cls := "WaysAtlasModel", name := "ofCatch", desc := "(I)V" } : Jvm.MethodName)) ∈ lw_all := lw_g (lw_at lw_m10 18 rfl) rfl
theorem q2316 : (Jvm.Cond.code ({ cls := "WaysAtlasModel", name := "ofCatch", desc := "(I)V" } : Jvm.MethodName) prog_36_method_48_code (4 : Nat) (Option.none : Option Jvm.ClassFile.FieldType)) ∈ lw_all := lw_g (lw_at lw_m10 19 rfl) rfl
theorem q2317 : (Jvm.Cond.methodLink "WaysAtlasModel" (438 : Nat) ({ cls := "WaysAtlasModel", name := "statement", desc := "()V" } : Jvm.MethodName)) ∈ lw_all := lw_g (lw_at lw_m10 20 rfl) rfl
theorem q2318 : (Jvm.Cond.privateMethod ({ cls := "WaysAtlasModel", name := "statement", desc := "()V" } : Jvm.MethodName)) ∈ lw_tbl := lw_at lw_m10 21 rfl
theorem q2319 : (Jvm.Cond.instanceMethod ({ cls := "WaysAtlasModel", name := "statement", desc := "()V" } : Jvm.MethodName)) ∈ lw_all := lw_g (lw_at lw_m10 22 rfl) rfl
theorem q2320 : (Jvm.Cond.code ({ cls := "WaysAtlasModel", name := "statement", desc := "()V" } : Jvm.MethodName) prog_36_method_47_code (2 : Nat) (Option.none : Option Jvm.ClassFile.FieldType)) ∈ lw_all := lw_g (lw_at lw_m10 23 rfl) rfl
theorem q2321 : (Jvm.Cond.methodLink "WaysAtlasModel" (408 : Nat) ({ cls := "WaysAtlasModel", name := "canBegin", desc := "()Z" } : Jvm.MethodName)) ∈ lw_all := lw_g (lw_at lw_m10 24 rfl) rfl
theorem q2322 : (Jvm.Cond.privateMethod ({ cls := "WaysAtlasModel", name := "canBegin", desc := "()Z" } : Jvm.MethodName)) ∈ lw_tbl := lw_at lw_m10 25 rfl
theorem q2323 : (Jvm.Cond.instanceMethod ({ cls := "WaysAtlasModel", name := "canBegin", desc := "()Z" } : Jvm.MethodName)) ∈ lw_all := lw_g (lw_at lw_m10 26 rfl) rfl
theorem q2324 : (Jvm.Cond.code ({ cls := "WaysAtlasModel", name := "canBegin", desc := "()Z" } : Jvm.MethodName) prog_36_method_46_code (1 : Nat) (Option.some Jvm.ClassFile.FieldType.boolean)) ∈ lw_all := lw_g (lw_at lw_m10 27 rfl) rfl
theorem q2325 : (Jvm.Cond.methodLink "WaysAtlasModel" (411 : Nat) ({ cls := "WaysAtlasModel", name := "ofVar", desc := "()V" } : Jvm.MethodName)) ∈ lw_all := lw_g (lw_at lw_m10 28 rfl) rfl
theorem q2326 : (Jvm.Cond.privateMethod ({ cls := "WaysAtlasModel", name := "ofVar", desc := "()V" } : Jvm.MethodName)) ∈ lw_tbl := lw_at lw_m10 29 rfl
theorem q2327 : (Jvm.Cond.instanceMethod ({ cls := "WaysAtlasModel", name := "ofVar", desc := "()V" } : Jvm.MethodName)) ∈ lw_all := lw_g (lw_at lw_m10 30 rfl) rfl
theorem q2328 : (Jvm.Cond.code ({ cls := "WaysAtlasModel", name := "ofVar", desc := "()V" } : Jvm.MethodName) prog_36_method_40_code (3 : Nat) (Option.none : Option Jvm.ClassFile.FieldType)) ∈ lw_all := lw_g (lw_at lw_m10 31 rfl) rfl
theorem q2329 : (Jvm.Cond.methodLink "WaysAtlasModel" (392 : Nat) ({ cls := "WaysAtlasModel", name := "comes", desc := "(I)I" } : Jvm.MethodName)) ∈ lw_all := lw_g (lw_at lw_m10 32 rfl) rfl
theorem q2330 : (Jvm.Cond.privateMethod ({ cls := "WaysAtlasModel", name := "comes", desc := "(I)I" } : Jvm.MethodName)) ∈ lw_tbl := lw_at lw_m10 33 rfl
theorem q2331 : (Jvm.Cond.instanceMethod ({ cls := "WaysAtlasModel", name := "comes", desc := "(I)I" } : Jvm.MethodName)) ∈ lw_all := lw_g (lw_at lw_m10 34 rfl) rfl
theorem q2332 : (Jvm.Cond.code ({ cls := "WaysAtlasModel", name := "comes", desc := "(I)I" } : Jvm.MethodName) prog_36_method_37_code (4 : Nat) (Option.some Jvm.ClassFile.FieldType.int)) ∈ lw_all := lw_g (lw_at lw_m10 35 rfl) rfl
theorem q2333 : (Jvm.Cond.methodLink "WaysAtlasModel" (395 : Nat) ({ cls := "WaysAtlasModel", name := "call", desc := "(I)V" } : Jvm.MethodName)) ∈ lw_all := lw_g (lw_at lw_m10 36 rfl) rfl
theorem q2334 : (Jvm.Cond.privateMethod ({ cls := "WaysAtlasModel", name := "call", desc := "(I)V" } : Jvm.MethodName)) ∈ lw_tbl := lw_at lw_m10 37 rfl
theorem q2335 : (Jvm.Cond.instanceMethod ({ cls := "WaysAtlasModel", name := "call", desc := "(I)V" } : Jvm.MethodName)) ∈ lw_all := lw_g (lw_at lw_m10 38 rfl) rfl
theorem q2336 : (Jvm.Cond.code ({ cls := "WaysAtlasModel", name := "call", desc := "(I)V" } : Jvm.MethodName) prog_36_method_39_code (2 : Nat) (Option.none : Option Jvm.ClassFile.FieldType)) ∈ lw_all := lw_g (lw_at lw_m10 39 rfl) rfl
theorem q2337 : (Jvm.Cond.methodLink "WaysAtlasModel" (382 : Nat) ({ cls := "WaysAtlasModel", name := "takeMethod", desc := "()I" } : Jvm.MethodName)) ∈ lw_all := lw_g (lw_at lw_m10 40 rfl) rfl
theorem q2338 : (Jvm.Cond.privateMethod ({ cls := "WaysAtlasModel", name := "takeMethod", desc := "()I" } : Jvm.MethodName)) ∈ lw_tbl := lw_at lw_m10 41 rfl
theorem q2339 : (Jvm.Cond.instanceMethod ({ cls := "WaysAtlasModel", name := "takeMethod", desc := "()I" } : Jvm.MethodName)) ∈ lw_all := lw_g (lw_at lw_m10 42 rfl) rfl
theorem q2340 : (Jvm.Cond.code ({ cls := "WaysAtlasModel", name := "takeMethod", desc := "()I" } : Jvm.MethodName) prog_36_method_23_code (2 : Nat) (Option.some Jvm.ClassFile.FieldType.int)) ∈ lw_all := lw_g (lw_at lw_m10 43 rfl) rfl
theorem q2341 : (Jvm.Cond.methodLink "WaysAtlasModel" (389 : Nat) ({ cls := "WaysAtlasModel", name := "sumOf", desc := "(III)V" } : Jvm.MethodName)) ∈ lw_all := lw_g (lw_at lw_m10 44 rfl) rfl
theorem q2342 : (Jvm.Cond.privateMethod ({ cls := "WaysAtlasModel", name := "sumOf", desc := "(III)V" } : Jvm.MethodName)) ∈ lw_tbl := lw_at lw_m10 45 rfl
theorem q2343 : (Jvm.Cond.instanceMethod ({ cls := "WaysAtlasModel", name := "sumOf", desc := "(III)V" } : Jvm.MethodName)) ∈ lw_all := lw_g (lw_at lw_m10 46 rfl) rfl
theorem q2344 : (Jvm.Cond.code ({ cls := "WaysAtlasModel", name := "sumOf", desc := "(III)V" } : Jvm.MethodName) prog_36_method_38_code (4 : Nat) (Option.none : Option Jvm.ClassFile.FieldType)) ∈ lw_all := lw_g (lw_at lw_m10 47 rfl) rfl
theorem q2345 : (Jvm.Cond.methodLink "WaysAtlasModel" (379 : Nat) ({ cls := "WaysAtlasModel", name := "sum", desc := "()V" } : Jvm.MethodName)) ∈ lw_all := lw_g (lw_at lw_m10 48 rfl) rfl
theorem q2346 : (Jvm.Cond.privateMethod ({ cls := "WaysAtlasModel", name := "sum", desc := "()V" } : Jvm.MethodName)) ∈ lw_tbl := lw_at lw_m10 49 rfl
theorem q2347 : (Jvm.Cond.instanceMethod ({ cls := "WaysAtlasModel", name := "sum", desc := "()V" } : Jvm.MethodName)) ∈ lw_all := lw_g (lw_at lw_m10 50 rfl) rfl
theorem q2348 : (Jvm.Cond.code ({ cls := "WaysAtlasModel", name := "sum", desc := "()V" } : Jvm.MethodName) prog_36_method_34_code (2 : Nat) (Option.none : Option Jvm.ClassFile.FieldType)) ∈ lw_all := lw_g (lw_at lw_m10 51 rfl) rfl
theorem q2349 : (Jvm.Cond.methodLink "WaysAtlasModel" (364 : Nat) ({ cls := "WaysAtlasModel", name := "beginsFactor", desc := "()Z" } : Jvm.MethodName)) ∈ lw_all := lw_g (lw_at lw_m10 52 rfl) rfl
theorem q2350 : (Jvm.Cond.privateMethod ({ cls := "WaysAtlasModel", name := "beginsFactor", desc := "()Z" } : Jvm.MethodName)) ∈ lw_tbl := lw_at lw_m10 53 rfl
theorem q2351 : (Jvm.Cond.instanceMethod ({ cls := "WaysAtlasModel", name := "beginsFactor", desc := "()Z" } : Jvm.MethodName)) ∈ lw_all := lw_g (lw_at lw_m10 54 rfl) rfl
theorem q2352 : (Jvm.Cond.code ({ cls := "WaysAtlasModel", name := "beginsFactor", desc := "()Z" } : Jvm.MethodName) prog_36_method_32_code (2 : Nat) (Option.some Jvm.ClassFile.FieldType.boolean)) ∈ lw_all := lw_g (lw_at lw_m10 55 rfl) rfl
theorem q2353 : (Jvm.Cond.methodLink "WaysAtlasModel" (335 : Nat) ({ cls := "WaysAtlasModel", name := "mayGoDeeper", desc := "()Z" } : Jvm.MethodName)) ∈ lw_all := lw_g (lw_at lw_m10 56 rfl) rfl
theorem q2354 : (Jvm.Cond.privateMethod ({ cls := "WaysAtlasModel", name := "mayGoDeeper", desc := "()Z" } : Jvm.MethodName)) ∈ lw_tbl := lw_at lw_m10 57 rfl
theorem q2355 : (Jvm.Cond.instanceMethod ({ cls := "WaysAtlasModel", name := "mayGoDeeper", desc := "()Z" } : Jvm.MethodName)) ∈ lw_all := lw_g (lw_at lw_m10 58 rfl) rfl
theorem q2356 : (Jvm.Cond.code ({ cls := "WaysAtlasModel", name := "mayGoDeeper", desc := "()Z" } : Jvm.MethodName) prog_36_method_27_code (1 : Nat) (Option.some Jvm.ClassFile.FieldType.boolean)) ∈ lw_all := lw_g (lw_at lw_m10 59 rfl) rfl
theorem q2357 : (Jvm.Cond.methodLink "WaysAtlasModel" (339 : Nat) ({ cls := "WaysAtlasModel", name := "waitsFor", desc := "(II)V" } : Jvm.MethodName)) ∈ lw_all := lw_g (lw_at lw_m10 60 rfl) rfl
theorem q2358 : (Jvm.Cond.privateMethod ({ cls := "WaysAtlasModel", name := "waitsFor", desc := "(II)V" } : Jvm.MethodName)) ∈ lw_tbl := lw_at lw_m10 61 rfl
theorem q2359 : (Jvm.Cond.instanceMethod ({ cls := "WaysAtlasModel", name := "waitsFor", desc := "(II)V" } : Jvm.MethodName)) ∈ lw_all := lw_g (lw_at lw_m10 62 rfl) rfl
theorem q2360 : (Jvm.Cond.code ({ cls := "WaysAtlasModel", name := "waitsFor", desc := "(II)V" } : Jvm.MethodName) prog_36_method_26_code (3 : Nat) (Option.none : Option Jvm.ClassFile.FieldType)) ∈ lw_all := lw_g (lw_at lw_m10 63 rfl) rfl
theorem q2361 : (Jvm.Cond.methodLink "WaysAtlasModel" (342 : Nat) ({ cls := "WaysAtlasModel", name := "takeNumber", desc := "()I" } : Jvm.MethodName)) ∈ lw_all := lw_g (lw_at lw_m10 64 rfl) rfl
theorem q2362 : (Jvm.Cond.privateMethod ({ cls := "WaysAtlasModel", name := "takeNumber", desc := "()I" } : Jvm.MethodName)) ∈ lw_tbl := lw_at lw_m10 65 rfl
theorem q2363 : (Jvm.Cond.instanceMethod ({ cls := "WaysAtlasModel", name := "takeNumber", desc := "()I" } : Jvm.MethodName)) ∈ lw_all := lw_g (lw_at lw_m10 66 rfl) rfl
theorem q2364 : (Jvm.Cond.code ({ cls := "WaysAtlasModel", name := "takeNumber", desc := "()I" } : Jvm.MethodName) prog_36_method_21_code (2 : Nat) (Option.some Jvm.ClassFile.FieldType.int)) ∈ lw_all := lw_g (lw_at lw_m10 67 rfl) rfl
theorem q2365 : (Jvm.Cond.methodLink "WaysAtlasModel" (332 : Nat) ({ cls := "WaysAtlasModel", name := "emits", desc := "(II)V" } : Jvm.MethodName)) ∈ lw_all := lw_g (lw_at lw_m10 68 rfl) rfl
theorem q2366 : (Jvm.Cond.privateMethod ({ cls := "WaysAtlasModel", name := "emits", desc := "(II)V" } : Jvm.MethodName)) ∈ lw_tbl := lw_at lw_m10 69 rfl
theorem q2367 : (Jvm.Cond.instanceMethod ({ cls := "WaysAtlasModel", name := "emits", desc := "(II)V" } : Jvm.MethodName)) ∈ lw_all := lw_g (lw_at lw_m10 70 rfl) rfl
theorem q2368 : (Jvm.Cond.code ({ cls := "WaysAtlasModel", name := "emits", desc := "(II)V" } : Jvm.MethodName) prog_36_method_25_code (3 : Nat) (Option.none : Option Jvm.ClassFile.FieldType)) ∈ lw_all := lw_g (lw_at lw_m10 71 rfl) rfl
theorem q2369 : (Jvm.Cond.methodLink "WaysAtlasModel" (348 : Nat) ({ cls := "WaysAtlasModel", name := "takeRow", desc := "()I" } : Jvm.MethodName)) ∈ lw_all := lw_g (lw_at lw_m10 72 rfl) rfl
theorem q2370 : (Jvm.Cond.privateMethod ({ cls := "WaysAtlasModel", name := "takeRow", desc := "()I" } : Jvm.MethodName)) ∈ lw_tbl := lw_at lw_m10 73 rfl
theorem q2371 : (Jvm.Cond.instanceMethod ({ cls := "WaysAtlasModel", name := "takeRow", desc := "()I" } : Jvm.MethodName)) ∈ lw_all := lw_g (lw_at lw_m10 74 rfl) rfl
theorem q2372 : (Jvm.Cond.code ({ cls := "WaysAtlasModel", name := "takeRow", desc := "()I" } : Jvm.MethodName) prog_36_method_24_code (2 : Nat) (Option.some Jvm.ClassFile.FieldType.int)) ∈ lw_all := lw_g (lw_at lw_m10 75 rfl) rfl
theorem q2373 : (Jvm.Cond.methodLink "WaysAtlasModel" (367 : Nat) ({ cls := "WaysAtlasModel", name := "goesOn", desc := "()Z" } : Jvm.MethodName)) ∈ lw_all := lw_g (lw_at lw_m10 76 rfl) rfl
theorem q2374 : (Jvm.Cond.privateMethod ({ cls := "WaysAtlasModel", name := "goesOn", desc := "()Z" } : Jvm.MethodName)) ∈ lw_tbl := lw_at lw_m10 77 rfl
theorem q2375 : (Jvm.Cond.instanceMethod ({ cls := "WaysAtlasModel", name := "goesOn", desc := "()Z" } : Jvm.MethodName)) ∈ lw_all := lw_g (lw_at lw_m10 78 rfl) rfl
theorem q2376 : (Jvm.Cond.code ({ cls := "WaysAtlasModel", name := "goesOn", desc := "()Z" } : Jvm.MethodName) prog_36_method_33_code (2 : Nat) (Option.some Jvm.ClassFile.FieldType.boolean)) ∈ lw_all := lw_g (lw_at lw_m10 79 rfl) rfl
theorem q2377 : (Jvm.Cond.methodLink "WaysAtlasModel" (351 : Nat) ({ cls := "WaysAtlasModel", name := "endFactor", desc := "()V" } : Jvm.MethodName)) ∈ lw_all := lw_g (lw_at lw_m10 80 rfl) rfl
theorem q2378 : (Jvm.Cond.privateMethod ({ cls := "WaysAtlasModel", name := "endFactor", desc := "()V" } : Jvm.MethodName)) ∈ lw_tbl := lw_at lw_m10 81 rfl
theorem q2379 : (Jvm.Cond.instanceMethod ({ cls := "WaysAtlasModel", name := "endFactor", desc := "()V" } : Jvm.MethodName)) ∈ lw_all := lw_g (lw_at lw_m10 82 rfl) rfl
theorem q2380 : (Jvm.Cond.code ({ cls := "WaysAtlasModel", name := "endFactor", desc := "()V" } : Jvm.MethodName) prog_36_method_29_code (1 : Nat) (Option.none : Option Jvm.ClassFile.FieldType)) ∈ lw_all := lw_g (lw_at lw_m10 83 rfl) rfl
theorem q2381 : (Jvm.Cond.methodLink "WaysAtlasModel" (329 : Nat) ({ cls := "WaysAtlasModel", name := "top", desc := "()I" } : Jvm.MethodName)) ∈ lw_all := lw_g (lw_at lw_m10 84 rfl) rfl
theorem q2382 : (Jvm.Cond.privateMethod ({ cls := "WaysAtlasModel", name := "top", desc := "()I" } : Jvm.MethodName)) ∈ lw_tbl := lw_at lw_m10 85 rfl
theorem q2383 : (Jvm.Cond.instanceMethod ({ cls := "WaysAtlasModel", name := "top", desc := "()I" } : Jvm.MethodName)) ∈ lw_all := lw_g (lw_at lw_m10 86 rfl) rfl
theorem q2384 : (Jvm.Cond.code ({ cls := "WaysAtlasModel", name := "top", desc := "()I" } : Jvm.MethodName) prog_36_method_28_code (1 : Nat) (Option.some Jvm.ClassFile.FieldType.int)) ∈ lw_all := lw_g (lw_at lw_m10 87 rfl) rfl
theorem q2385 : (Jvm.Cond.methodLink "WaysAtlasModel" (354 : Nat) ({ cls := "WaysAtlasModel", name := "endSum", desc := "()V" } : Jvm.MethodName)) ∈ lw_all := lw_g (lw_at lw_m10 88 rfl) rfl
theorem q2386 : (Jvm.Cond.privateMethod ({ cls := "WaysAtlasModel", name := "endSum", desc := "()V" } : Jvm.MethodName)) ∈ lw_tbl := lw_at lw_m10 89 rfl
theorem q2387 : (Jvm.Cond.instanceMethod ({ cls := "WaysAtlasModel", name := "endSum", desc := "()V" } : Jvm.MethodName)) ∈ lw_all := lw_g (lw_at lw_m10 90 rfl) rfl
theorem q2388 : (Jvm.Cond.code ({ cls := "WaysAtlasModel", name := "endSum", desc := "()V" } : Jvm.MethodName) prog_36_method_31_code (1 : Nat) (Option.none : Option Jvm.ClassFile.FieldType)) ∈ lw_all := lw_g (lw_at lw_m10 91 rfl) rfl
theorem q2389 : (Jvm.Cond.methodLink "WaysAtlasModel" (357 : Nat) ({ cls := "WaysAtlasModel", name := "endProduct", desc := "()V" } : Jvm.MethodName)) ∈ lw_all := lw_g (lw_at lw_m10 92 rfl) rfl
theorem q2390 : (Jvm.Cond.privateMethod ({ cls := "WaysAtlasModel", name := "endProduct", desc := "()V" } : Jvm.MethodName)) ∈ lw_tbl := lw_at lw_m10 93 rfl
theorem q2391 : (Jvm.Cond.instanceMethod ({ cls := "WaysAtlasModel", name := "endProduct", desc := "()V" } : Jvm.MethodName)) ∈ lw_all := lw_g (lw_at lw_m10 94 rfl) rfl
theorem q2392 : (Jvm.Cond.code ({ cls := "WaysAtlasModel", name := "endProduct", desc := "()V" } : Jvm.MethodName) prog_36_method_30_code (1 : Nat) (Option.none : Option Jvm.ClassFile.FieldType)) ∈ lw_all := lw_g (lw_at lw_m10 95 rfl) rfl
theorem q2393 : (Jvm.Cond.methodLink "WaysAtlasModel" (414 : Nat) ({ cls := "WaysAtlasModel", name := "ofRow", desc := "()V" } : Jvm.MethodName)) ∈ lw_all := lw_g (lw_at lw_m10 96 rfl) rfl
theorem q2394 : (Jvm.Cond.privateMethod ({ cls := "WaysAtlasModel", name := "ofRow", desc := "()V" } : Jvm.MethodName)) ∈ lw_tbl := lw_at lw_m10 97 rfl
theorem q2395 : (Jvm.Cond.instanceMethod ({ cls := "WaysAtlasModel", name := "ofRow", desc := "()V" } : Jvm.MethodName)) ∈ lw_all := lw_g (lw_at lw_m10 98 rfl) rfl
theorem q2396 : (Jvm.Cond.code ({ cls := "WaysAtlasModel", name := "ofRow", desc := "()V" } : Jvm.MethodName) prog_36_method_41_code (2 : Nat) (Option.none : Option Jvm.ClassFile.FieldType)) ∈ lw_all := lw_g (lw_at lw_m10 99 rfl) rfl
theorem q2397 : (Jvm.Cond.methodLink "WaysAtlasModel" (417 : Nat) ({ cls := "WaysAtlasModel", name := "ofIf", desc := "()V" } : Jvm.MethodName)) ∈ lw_all := lw_g (lw_at lw_m10 100 rfl) rfl
theorem q2398 : (Jvm.Cond.privateMethod ({ cls := "WaysAtlasModel", name := "ofIf", desc := "()V" } : Jvm.MethodName)) ∈ lw_tbl := lw_at lw_m10 101 rfl
theorem q2399 : (Jvm.Cond.instanceMethod ({ cls := "WaysAtlasModel", name := "ofIf", desc := "()V" } : Jvm.MethodName)) ∈ lw_all := lw_g (lw_at lw_m10 102 rfl) rfl
theorem q2400 : (Jvm.Cond.code ({ cls := "WaysAtlasModel", name := "ofIf", desc := "()V" } : Jvm.MethodName) prog_36_method_43_code (3 : Nat) (Option.none : Option Jvm.ClassFile.FieldType)) ∈ lw_all := lw_g (lw_at lw_m10 103 rfl) rfl
theorem q2401 : (Jvm.Cond.methodLink "WaysAtlasModel" (420 : Nat) ({ cls := "WaysAtlasModel", name := "loopNumber", desc := "(I)V" } : Jvm.MethodName)) ∈ lw_all := lw_g (lw_at lw_m10 104 rfl) rfl
theorem q2402 : (Jvm.Cond.privateMethod ({ cls := "WaysAtlasModel", name := "loopNumber", desc := "(I)V" } : Jvm.MethodName)) ∈ lw_tbl := lw_at lw_m10 105 rfl
theorem q2403 : (Jvm.Cond.instanceMethod ({ cls := "WaysAtlasModel", name := "loopNumber", desc := "(I)V" } : Jvm.MethodName)) ∈ lw_all := lw_g (lw_at lw_m10 106 rfl) rfl
theorem q2404 : (Jvm.Cond.code ({ cls := "WaysAtlasModel", name := "loopNumber", desc := "(I)V" } : Jvm.MethodName) prog_36_method_42_code (4 : Nat) (Option.none : Option Jvm.ClassFile.FieldType)) ∈ lw_all := lw_g (lw_at lw_m10 107 rfl) rfl
theorem q2405 : (Jvm.Cond.methodLink "WaysAtlasModel" (398 : Nat) ({ cls := "WaysAtlasModel", name := "around", desc := "(I)I" } : Jvm.MethodName)) ∈ lw_all := lw_g (lw_at lw_m10 108 rfl) rfl
theorem q2406 : (Jvm.Cond.privateMethod ({ cls := "WaysAtlasModel", name := "around", desc := "(I)I" } : Jvm.MethodName)) ∈ lw_tbl := lw_at lw_m10 109 rfl
theorem q2407 : (Jvm.Cond.instanceMethod ({ cls := "WaysAtlasModel", name := "around", desc := "(I)I" } : Jvm.MethodName)) ∈ lw_all := lw_g (lw_at lw_m10 110 rfl) rfl
theorem q2408 : (Jvm.Cond.code ({ cls := "WaysAtlasModel", name := "around", desc := "(I)I" } : Jvm.MethodName) prog_36_method_36_code (4 : Nat) (Option.some Jvm.ClassFile.FieldType.int)) ∈ lw_all := lw_g (lw_at lw_m10 111 rfl) rfl
theorem q2409 : (Jvm.Cond.methodLink "WaysAtlasModel" (423 : Nat) ({ cls := "WaysAtlasModel", name := "again", desc := "(I)V" } : Jvm.MethodName)) ∈ lw_all := lw_g (lw_at lw_m10 112 rfl) rfl
theorem q2410 : (Jvm.Cond.privateMethod ({ cls := "WaysAtlasModel", name := "again", desc := "(I)V" } : Jvm.MethodName)) ∈ lw_tbl := lw_at lw_m10 113 rfl
theorem q2411 : (Jvm.Cond.instanceMethod ({ cls := "WaysAtlasModel", name := "again", desc := "(I)V" } : Jvm.MethodName)) ∈ lw_all := lw_g (lw_at lw_m10 114 rfl) rfl
theorem q2412 : (Jvm.Cond.code ({ cls := "WaysAtlasModel", name := "again", desc := "(I)V" } : Jvm.MethodName) prog_36_method_45_code (4 : Nat) (Option.none : Option Jvm.ClassFile.FieldType)) ∈ lw_all := lw_g (lw_at lw_m10 115 rfl) rfl
theorem q2413 : (Jvm.Cond.methodLink "WaysAtlasModel" (426 : Nat) ({ cls := "WaysAtlasModel", name := "ofWith", desc := "()V" } : Jvm.MethodName)) ∈ lw_all := lw_g (lw_at lw_m10 116 rfl) rfl
theorem q2414 : (Jvm.Cond.privateMethod ({ cls := "WaysAtlasModel", name := "ofWith", desc := "()V" } : Jvm.MethodName)) ∈ lw_tbl := lw_at lw_m10 117 rfl
theorem q2415 : (Jvm.Cond.instanceMethod ({ cls := "WaysAtlasModel", name := "ofWith", desc := "()V" } : Jvm.MethodName)) ∈ lw_all := lw_g (lw_at lw_m10 118 rfl) rfl
theorem q2416 : (Jvm.Cond.code ({ cls := "WaysAtlasModel", name := "ofWith", desc := "()V" } : Jvm.MethodName) prog_36_method_44_code (5 : Nat) (Option.none : Option Jvm.ClassFile.FieldType)) ∈ lw_all := lw_g (lw_at lw_m10 119 rfl) rfl
theorem q2417 : (Jvm.Cond.methodLink "WaysAtlasModel" (444 : Nat) ({ cls := "WaysAtlasModel", name := "looks", desc := "()V" } : Jvm.MethodName)) ∈ lw_all := lw_g (lw_at lw_m10 120 rfl) rfl
theorem q2418 : (Jvm.Cond.privateMethod ({ cls := "WaysAtlasModel", name := "looks", desc := "()V" } : Jvm.MethodName)) ∈ lw_tbl := lw_at lw_m10 121 rfl
theorem q2419 : (Jvm.Cond.instanceMethod ({ cls := "WaysAtlasModel", name := "looks", desc := "()V" } : Jvm.MethodName)) ∈ lw_all := lw_g (lw_at lw_m10 122 rfl) rfl
theorem q2420 : (Jvm.Cond.code ({ cls := "WaysAtlasModel", name := "looks", desc := "()V" } : Jvm.MethodName) prog_36_method_52_code (3 : Nat) (Option.none : Option Jvm.ClassFile.FieldType)) ∈ lw_all := lw_g (lw_at lw_m10 123 rfl) rfl
theorem q2422 : (Jvm.Cond.instanceMethod ({ cls := "WaysAtlasModel", name := "fault", desc := "()I" } : Jvm.MethodName)) ∈ lw_all := lw_g (lw_at lw_m10 125 rfl) rfl
theorem q2423 : (Jvm.Cond.selects "WaysAtlasModel" ({ cls := "WaysAtlasModel", name := "fault", desc := "()I" } : Jvm.MethodName) ({ cls := "WaysAtlasModel", name := "fault", desc := "()I" } : Jvm.MethodName)) ∈ lw_all := lw_g (lw_at lw_m10 126 rfl) rfl
theorem q2424 : (Jvm.Cond.code ({ cls := "WaysAtlasModel", name := "fault", desc := "()I" } : Jvm.MethodName) prog_36_method_54_code (1 : Nat) (Option.some Jvm.ClassFile.FieldType.int)) ∈ lw_all := lw_g (lw_at lw_m10 127 rfl) rfl
theorem q2426 : (Jvm.Cond.instanceMethod ({ cls := "WaysAtlasModel", name := "count", desc := "(I)I" } : Jvm.MethodName)) ∈ lw_all := lw_g (lw_at lw_m10 129 rfl) rfl
theorem q2427 : (Jvm.Cond.selects "WaysAtlasModel" ({ cls := "WaysAtlasModel", name := "count", desc := "(I)I" } : Jvm.MethodName) ({ cls := "WaysAtlasModel", name := "count", desc := "(I)I" } : Jvm.MethodName)) ∈ lw_all := lw_g (lw_at lw_m10 130 rfl) rfl
theorem q2428 : (Jvm.Cond.code ({ cls := "WaysAtlasModel", name := "count", desc := "(I)I" } : Jvm.MethodName) prog_36_method_55_code (2 : Nat) (Option.some Jvm.ClassFile.FieldType.int)) ∈ lw_all := lw_g (lw_at lw_m10 131 rfl) rfl
theorem q2430 : (Jvm.Cond.instanceMethod ({ cls := "WaysAtlasModel", name := "plan", desc := "(IIII)I" } : Jvm.MethodName)) ∈ lw_all := lw_g (lw_at lw_m10 133 rfl) rfl
theorem q2431 : (Jvm.Cond.selects "WaysAtlasModel" ({ cls := "WaysAtlasModel", name := "plan", desc := "(IIII)I" } : Jvm.MethodName) ({ cls := "WaysAtlasModel", name := "plan", desc := "(IIII)I" } : Jvm.MethodName)) ∈ lw_all := lw_g (lw_at lw_m10 134 rfl) rfl
theorem q2432 : (Jvm.Cond.code ({ cls := "WaysAtlasModel", name := "plan", desc := "(IIII)I" } : Jvm.MethodName) prog_36_method_58_code (5 : Nat) (Option.some Jvm.ClassFile.FieldType.int)) ∈ lw_all := lw_g (lw_at lw_m10 135 rfl) rfl
theorem q2433 : (Jvm.Cond.methodLink "WaysAtlasModel" (459 : Nat) ({ cls := "WaysAtlasModel", name := "isStatement", desc := "(I)Z" } : Jvm.MethodName)) ∈ lw_all := lw_g (lw_at lw_m10 136 rfl) rfl
theorem q2434 : (Jvm.Cond.privateMethod ({ cls := "WaysAtlasModel", name := "isStatement", desc := "(I)Z" } : Jvm.MethodName)) ∈ lw_tbl := lw_at lw_m10 137 rfl
theorem q2435 : (Jvm.Cond.instanceMethod ({ cls := "WaysAtlasModel", name := "isStatement", desc := "(I)Z" } : Jvm.MethodName)) ∈ lw_all := lw_g (lw_at lw_m10 138 rfl) rfl
theorem q2436 : (Jvm.Cond.code ({ cls := "WaysAtlasModel", name := "isStatement", desc := "(I)Z" } : Jvm.MethodName) prog_36_method_56_code (2 : Nat) (Option.some Jvm.ClassFile.FieldType.boolean)) ∈ lw_all := lw_g (lw_at lw_m10 139 rfl) rfl
theorem q2437 : (Jvm.Cond.methodLink "WaysAtlasModel" (462 : Nat) ({ cls := "WaysAtlasModel", name := "hasPart", desc := "(II)Z" } : Jvm.MethodName)) ∈ lw_all := lw_g (lw_at lw_m10 140 rfl) rfl
theorem q2438 : (Jvm.Cond.privateMethod ({ cls := "WaysAtlasModel", name := "hasPart", desc := "(II)Z" } : Jvm.MethodName)) ∈ lw_tbl := lw_at lw_m10 141 rfl
theorem q2439 : (Jvm.Cond.instanceMethod ({ cls := "WaysAtlasModel", name := "hasPart", desc := "(II)Z" } : Jvm.MethodName)) ∈ lw_all := lw_g (lw_at lw_m10 142 rfl) rfl
theorem q2440 : (Jvm.Cond.code ({ cls := "WaysAtlasModel", name := "hasPart", desc := "(II)Z" } : Jvm.MethodName) prog_36_method_57_code (4 : Nat) (Option.some Jvm.ClassFile.FieldType.boolean)) ∈ lw_all := lw_g (lw_at lw_m10 143 rfl) rfl
theorem q2441 : (Jvm.Cond.methodLink "WaysAtlasModel" (456 : Nat) ({ cls := "WaysAtlasModel", name := "get", desc := "(II)I" } : Jvm.MethodName)) ∈ lw_all := lw_g (lw_at lw_m10 144 rfl) rfl
theorem q2442 : (Jvm.Cond.privateMethod ({ cls := "WaysAtlasModel", name := "get", desc := "(II)I" } : Jvm.MethodName)) ∈ lw_tbl := lw_at lw_m10 145 rfl
theorem q2443 : (Jvm.Cond.instanceMethod ({ cls := "WaysAtlasModel", name := "get", desc := "(II)I" } : Jvm.MethodName)) ∈ lw_all := lw_g (lw_at lw_m10 146 rfl) rfl
theorem q2444 : (Jvm.Cond.code ({ cls := "WaysAtlasModel", name := "get", desc := "(II)I" } : Jvm.MethodName) prog_36_method_15_code (3 : Nat) (Option.some Jvm.ClassFile.FieldType.int)) ∈ lw_all := lw_g (lw_at lw_m10 147 rfl) rfl
theorem q2446 : (Jvm.Cond.instanceMethod ({ cls := "WaysAtlasModel", name := "clear", desc := "()I" } : Jvm.MethodName)) ∈ lw_all := lw_g (lw_at lw_m10 149 rfl) rfl
theorem q2447 : (Jvm.Cond.selects "WaysAtlasModel" ({ cls := "WaysAtlasModel", name := "clear", desc := "()I" } : Jvm.MethodName) ({ cls := "WaysAtlasModel", name := "clear", desc := "()I" } : Jvm.MethodName)) ∈ lw_all := lw_g (lw_at lw_m10 150 rfl) rfl
theorem q2448 : (Jvm.Cond.code ({ cls := "WaysAtlasModel", name := "clear", desc := "()I" } : Jvm.MethodName) prog_36_method_59_code (2 : Nat) (Option.some Jvm.ClassFile.FieldType.int)) ∈ lw_all := lw_g (lw_at lw_m10 151 rfl) rfl
theorem q2450 : (Jvm.Cond.instanceMethod ({ cls := "WaysAtlasModel", name := "handler", desc := "(II)I" } : Jvm.MethodName)) ∈ lw_all := lw_g (lw_at lw_m10 153 rfl) rfl
theorem q2451 : (Jvm.Cond.selects "WaysAtlasModel" ({ cls := "WaysAtlasModel", name := "handler", desc := "(II)I" } : Jvm.MethodName) ({ cls := "WaysAtlasModel", name := "handler", desc := "(II)I" } : Jvm.MethodName)) ∈ lw_all := lw_g (lw_at lw_m10 154 rfl) rfl
theorem q2452 : (Jvm.Cond.code ({ cls := "WaysAtlasModel", name := "handler", desc := "(II)I" } : Jvm.MethodName) prog_36_method_61_code (6 : Nat) (Option.some Jvm.ClassFile.FieldType.int)) ∈ lw_all := lw_g (lw_at lw_m10 155 rfl) rfl
theorem q2453 : (Jvm.Cond.methodLink "WaysAtlasModel" (466 : Nat) ({ cls := "WaysAtlasModel", name := "isAbove", desc := "(II)Z" } : Jvm.MethodName)) ∈ lw_all := lw_g (lw_at lw_m10 156 rfl) rfl
theorem q2454 : (Jvm.Cond.privateMethod ({ cls := "WaysAtlasModel", name := "isAbove", desc := "(II)Z" } : Jvm.MethodName)) ∈ lw_tbl := lw_at lw_m10 157 rfl
theorem q2455 : (Jvm.Cond.instanceMethod ({ cls := "WaysAtlasModel", name := "isAbove", desc := "(II)Z" } : Jvm.MethodName)) ∈ lw_all := lw_g (lw_at lw_m10 158 rfl) rfl
theorem q2456 : (Jvm.Cond.code ({ cls := "WaysAtlasModel", name := "isAbove", desc := "(II)Z" } : Jvm.MethodName) prog_36_method_60_code (4 : Nat) (Option.some Jvm.ClassFile.FieldType.boolean)) ∈ lw_all := lw_g (lw_at lw_m10 159 rfl) rfl
theorem q2458 : (Jvm.Cond.instanceMethod ({ cls := "WaysAtlasModel", name := "run", desc := "(ZIIII)I" } : Jvm.MethodName)) ∈ lw_all := lw_g (lw_at lw_m10 161 rfl) rfl
theorem q2459 : (Jvm.Cond.selects "WaysAtlasModel" ({ cls := "WaysAtlasModel", name := "run", desc := "(ZIIII)I" } : Jvm.MethodName) ({ cls := "WaysAtlasModel", name := "run", desc := "(ZIIII)I" } : Jvm.MethodName)) ∈ lw_all := lw_g (lw_at lw_m10 162 rfl) rfl
theorem q2460 : (Jvm.Cond.code ({ cls := "WaysAtlasModel", name := "run", desc := "(ZIIII)I" } : Jvm.MethodName) prog_36_method_95_code (6 : Nat) (Option.some Jvm.ClassFile.FieldType.int)) ∈ lw_all := lw_g (lw_at lw_m10 163 rfl) rfl
theorem q2461 : (Jvm.Cond.methodLink "WaysAtlasModel" (609 : Nat) ({ cls := "WaysAtlasModel", name := "isMethod", desc := "(I)Z" } : Jvm.MethodName)) ∈ lw_all := lw_g (lw_at lw_m10 164 rfl) rfl
theorem q2462 : (Jvm.Cond.privateMethod ({ cls := "WaysAtlasModel", name := "isMethod", desc := "(I)Z" } : Jvm.MethodName)) ∈ lw_tbl := lw_at lw_m10 165 rfl
theorem q2463 : (Jvm.Cond.instanceMethod ({ cls := "WaysAtlasModel", name := "isMethod", desc := "(I)Z" } : Jvm.MethodName)) ∈ lw_all := lw_g (lw_at lw_m10 166 rfl) rfl
theorem q2464 : (Jvm.Cond.code ({ cls := "WaysAtlasModel", name := "isMethod", desc := "(I)Z" } : Jvm.MethodName) prog_36_method_94_code (2 : Nat) (Option.some Jvm.ClassFile.FieldType.boolean)) ∈ lw_all := lw_g (lw_at lw_m10 167 rfl) rfl
theorem q2465 : (Jvm.Cond.methodLink "WaysAtlasModel" (612 : Nat) ({ cls := "WaysAtlasModel", name := "runs", desc := "(IIII)I" } : Jvm.MethodName)) ∈ lw_all := lw_g (lw_at lw_m10 168 rfl) rfl
theorem q2466 : (Jvm.Cond.privateMethod ({ cls := "WaysAtlasModel", name := "runs", desc := "(IIII)I" } : Jvm.MethodName)) ∈ lw_tbl := lw_at lw_m10 169 rfl
theorem q2467 : (Jvm.Cond.instanceMethod ({ cls := "WaysAtlasModel", name := "runs", desc := "(IIII)I" } : Jvm.MethodName)) ∈ lw_all := lw_g (lw_at lw_m10 170 rfl) rfl
theorem q2468 : (Jvm.Cond.code ({ cls := "WaysAtlasModel", name := "runs", desc := "(IIII)I" } : Jvm.MethodName) prog_36_method_93_code (6 : Nat) (Option.some Jvm.ClassFile.FieldType.int)) ∈ lw_all := lw_g (lw_at lw_m10 171 rfl) rfl
theorem q2469 : (Jvm.Cond.methodLink "WaysAtlasModel" (542 : Nat) ({ cls := "WaysAtlasModel", name := "beginsMethod", desc := "(IIII)V" } : Jvm.MethodName)) ∈ lw_all := lw_g (lw_at lw_m10 172 rfl) rfl
theorem q2470 : (Jvm.Cond.privateMethod ({ cls := "WaysAtlasModel", name := "beginsMethod", desc := "(IIII)V" } : Jvm.MethodName)) ∈ lw_tbl := lw_at lw_m10 173 rfl
theorem q2471 : (Jvm.Cond.instanceMethod ({ cls := "WaysAtlasModel", name := "beginsMethod", desc := "(IIII)V" } : Jvm.MethodName)) ∈ lw_all := lw_g (lw_at lw_m10 174 rfl) rfl
theorem q2472 : (Jvm.Cond.code ({ cls := "WaysAtlasModel", name := "beginsMethod", desc := "(IIII)V" } : Jvm.MethodName) prog_36_method_75_code (6 : Nat) (Option.none : Option Jvm.ClassFile.FieldType)) ∈ lw_all := lw_g (lw_at lw_m10 175 rfl) rfl
theorem q2473 : (Jvm.Cond.methodLink "WaysAtlasModel" (514 : Nat) ({ cls := "WaysAtlasModel", name := "pushes", desc := "(III)V" } : Jvm.MethodName)) ∈ lw_all := lw_g (lw_at lw_m10 176 rfl) rfl
theorem q2474 : (Jvm.Cond.privateMethod ({ cls := "WaysAtlasModel", name := "pushes", desc := "(III)V" } : Jvm.MethodName)) ∈ lw_tbl := lw_at lw_m10 177 rfl
theorem q2475 : (Jvm.Cond.instanceMethod ({ cls := "WaysAtlasModel", name := "pushes", desc := "(III)V" } : Jvm.MethodName)) ∈ lw_all := lw_g (lw_at lw_m10 178 rfl) rfl
theorem q2476 : (Jvm.Cond.code ({ cls := "WaysAtlasModel", name := "pushes", desc := "(III)V" } : Jvm.MethodName) prog_36_method_69_code (4 : Nat) (Option.none : Option Jvm.ClassFile.FieldType)) ∈ lw_all := lw_g (lw_at lw_m10 179 rfl) rfl
theorem q2477 : (Jvm.Cond.methodLink "WaysAtlasModel" (493 : Nat) ({ cls := "WaysAtlasModel", name := "tell", desc := "(I)I" } : Jvm.MethodName)) ∈ lw_all := lw_g (lw_at lw_m10 180 rfl) rfl
theorem q2478 : (Jvm.Cond.privateMethod ({ cls := "WaysAtlasModel", name := "tell", desc := "(I)I" } : Jvm.MethodName)) ∈ lw_tbl := lw_at lw_m10 181 rfl
theorem q2479 : (Jvm.Cond.instanceMethod ({ cls := "WaysAtlasModel", name := "tell", desc := "(I)I" } : Jvm.MethodName)) ∈ lw_all := lw_g (lw_at lw_m10 182 rfl) rfl
theorem q2480 : (Jvm.Cond.code ({ cls := "WaysAtlasModel", name := "tell", desc := "(I)I" } : Jvm.MethodName) prog_36_method_63_code (2 : Nat) (Option.some Jvm.ClassFile.FieldType.int)) ∈ lw_all := lw_g (lw_at lw_m10 183 rfl) rfl
theorem q2481 : (Jvm.Cond.methodLink "WaysAtlasModel" (536 : Nat) ({ cls := "WaysAtlasModel", name := "entersBlock", desc := "(I)V" } : Jvm.MethodName)) ∈ lw_all := lw_g (lw_at lw_m10 184 rfl) rfl
theorem q2482 : (Jvm.Cond.privateMethod ({ cls := "WaysAtlasModel", name := "entersBlock", desc := "(I)V" } : Jvm.MethodName)) ∈ lw_tbl := lw_at lw_m10 185 rfl
theorem q2483 : (Jvm.Cond.instanceMethod ({ cls := "WaysAtlasModel", name := "entersBlock", desc := "(I)V" } : Jvm.MethodName)) ∈ lw_all := lw_g (lw_at lw_m10 186 rfl) rfl
theorem q2484 : (Jvm.Cond.code ({ cls := "WaysAtlasModel", name := "entersBlock", desc := "(I)V" } : Jvm.MethodName) prog_36_method_70_code (2 : Nat) (Option.none : Option Jvm.ClassFile.FieldType)) ∈ lw_all := lw_g (lw_at lw_m10 187 rfl) rfl
theorem q2485 : (Jvm.Cond.methodLink "WaysAtlasModel" (606 : Nat) ({ cls := "WaysAtlasModel", name := "goesOnce", desc := "()V" } : Jvm.MethodName)) ∈ lw_all := lw_g (lw_at lw_m10 188 rfl) rfl
theorem q2486 : (Jvm.Cond.privateMethod ({ cls := "WaysAtlasModel", name := "goesOnce", desc := "()V" } : Jvm.MethodName)) ∈ lw_tbl := lw_at lw_m10 189 rfl
theorem q2487 : (Jvm.Cond.instanceMethod ({ cls := "WaysAtlasModel", name := "goesOnce", desc := "()V" } : Jvm.MethodName)) ∈ lw_all := lw_g (lw_at lw_m10 190 rfl) rfl
theorem q2488 : (Jvm.Cond.code ({ cls := "WaysAtlasModel", name := "goesOnce", desc := "()V" } : Jvm.MethodName) prog_36_method_92_code (3 : Nat) (Option.none : Option Jvm.ClassFile.FieldType)) ∈ lw_all := lw_g (lw_at lw_m10 191 rfl) rfl
theorem q2489 : (Jvm.Cond.methodLink "WaysAtlasModel" (552 : Nat) ({ cls := "WaysAtlasModel", name := "takesStep", desc := "()Z" } : Jvm.MethodName)) ∈ lw_all := lw_g (lw_at lw_m10 192 rfl) rfl
theorem q2490 : (Jvm.Cond.privateMethod ({ cls := "WaysAtlasModel", name := "takesStep", desc := "()Z" } : Jvm.MethodName)) ∈ lw_tbl := lw_at lw_m10 193 rfl
theorem q2491 : (Jvm.Cond.instanceMethod ({ cls := "WaysAtlasModel", name := "takesStep", desc := "()Z" } : Jvm.MethodName)) ∈ lw_all := lw_g (lw_at lw_m10 194 rfl) rfl
theorem q2492 : (Jvm.Cond.code ({ cls := "WaysAtlasModel", name := "takesStep", desc := "()Z" } : Jvm.MethodName) prog_36_method_62_code (1 : Nat) (Option.some Jvm.ClassFile.FieldType.boolean)) ∈ lw_all := lw_g (lw_at lw_m10 195 rfl) rfl
theorem q2493 : (Jvm.Cond.methodLink "WaysAtlasModel" (594 : Nat) ({ cls := "WaysAtlasModel", name := "does", desc := "(I)V" } : Jvm.MethodName)) ∈ lw_all := lw_g (lw_at lw_m10 196 rfl) rfl
theorem q2494 : (Jvm.Cond.privateMethod ({ cls := "WaysAtlasModel", name := "does", desc := "(I)V" } : Jvm.MethodName)) ∈ lw_tbl := lw_at lw_m10 197 rfl
theorem q2495 : (Jvm.Cond.instanceMethod ({ cls := "WaysAtlasModel", name := "does", desc := "(I)V" } : Jvm.MethodName)) ∈ lw_all := lw_g (lw_at lw_m10 198 rfl) rfl
theorem q2496 : (Jvm.Cond.code ({ cls := "WaysAtlasModel", name := "does", desc := "(I)V" } : Jvm.MethodName) prog_36_method_84_code (5 : Nat) (Option.none : Option Jvm.ClassFile.FieldType)) ∈ lw_all := lw_g (lw_at lw_m10 199 rfl) rfl
theorem q2497 : (Jvm.Cond.methodLink "WaysAtlasModel" (555 : Nat) ({ cls := "WaysAtlasModel", name := "passes", desc := "(II)I" } : Jvm.MethodName)) ∈ lw_all := lw_g (lw_at lw_m10 200 rfl) rfl
theorem q2498 : (Jvm.Cond.privateMethod ({ cls := "WaysAtlasModel", name := "passes", desc := "(II)I" } : Jvm.MethodName)) ∈ lw_tbl := lw_at lw_m10 201 rfl
theorem q2499 : (Jvm.Cond.instanceMethod ({ cls := "WaysAtlasModel", name := "passes", desc := "(II)I" } : Jvm.MethodName)) ∈ lw_all := lw_g (lw_at lw_m10 202 rfl) rfl
theorem q2500 : (Jvm.Cond.code ({ cls := "WaysAtlasModel", name := "passes", desc := "(II)I" } : Jvm.MethodName) prog_36_method_65_code (5 : Nat) (Option.some Jvm.ClassFile.FieldType.int)) ∈ lw_all := lw_g (lw_at lw_m10 203 rfl) rfl
theorem q2501 : (Jvm.Cond.methodLink "WaysAtlasModel" (533 : Nat) ({ cls := "WaysAtlasModel", name := "fail", desc := "(I)V" } : Jvm.MethodName)) ∈ lw_all := lw_g (lw_at lw_m10 204 rfl) rfl
theorem q2502 : (Jvm.Cond.privateMethod ({ cls := "WaysAtlasModel", name := "fail", desc := "(I)V" } : Jvm.MethodName)) ∈ lw_tbl := lw_at lw_m10 205 rfl
theorem q2503 : (Jvm.Cond.instanceMethod ({ cls := "WaysAtlasModel", name := "fail", desc := "(I)V" } : Jvm.MethodName)) ∈ lw_all := lw_g (lw_at lw_m10 206 rfl) rfl
theorem q2504 : (Jvm.Cond.code ({ cls := "WaysAtlasModel", name := "fail", desc := "(I)V" } : Jvm.MethodName) prog_36_method_67_code (2 : Nat) (Option.none : Option Jvm.ClassFile.FieldType)) ∈ lw_all := lw_g (lw_at lw_m10 207 rfl) rfl
theorem q2505 : (Jvm.Cond.methodLink "WaysAtlasModel" (505 : Nat) ({ cls := "WaysAtlasModel", name := "makes", desc := "(II)I" } : Jvm.MethodName)) ∈ lw_all := lw_g (lw_at lw_m10 208 rfl) rfl
theorem q2506 : (Jvm.Cond.privateMethod ({ cls := "WaysAtlasModel", name := "makes", desc := "(II)I" } : Jvm.MethodName)) ∈ lw_tbl := lw_at lw_m10 209 rfl
theorem q2507 : (Jvm.Cond.instanceMethod ({ cls := "WaysAtlasModel", name := "makes", desc := "(II)I" } : Jvm.MethodName)) ∈ lw_all := lw_g (lw_at lw_m10 210 rfl) rfl
theorem q2508 : (Jvm.Cond.code ({ cls := "WaysAtlasModel", name := "makes", desc := "(II)I" } : Jvm.MethodName) prog_36_method_66_code (6 : Nat) (Option.some Jvm.ClassFile.FieldType.int)) ∈ lw_all := lw_g (lw_at lw_m10 211 rfl) rfl
theorem q2509 : (Jvm.Cond.methodLink "WaysAtlasModel" (499 : Nat) ({ cls := "WaysAtlasModel", name := "more", desc := "(I)V" } : Jvm.MethodName)) ∈ lw_all := lw_g (lw_at lw_m10 212 rfl) rfl
theorem q2510 : (Jvm.Cond.privateMethod ({ cls := "WaysAtlasModel", name := "more", desc := "(I)V" } : Jvm.MethodName)) ∈ lw_tbl := lw_at lw_m10 213 rfl
theorem q2511 : (Jvm.Cond.instanceMethod ({ cls := "WaysAtlasModel", name := "more", desc := "(I)V" } : Jvm.MethodName)) ∈ lw_all := lw_g (lw_at lw_m10 214 rfl) rfl
theorem q2512 : (Jvm.Cond.code ({ cls := "WaysAtlasModel", name := "more", desc := "(I)V" } : Jvm.MethodName) prog_36_method_64_code (2 : Nat) (Option.none : Option Jvm.ClassFile.FieldType)) ∈ lw_all := lw_g (lw_at lw_m10 215 rfl) rfl
theorem q2513 : (Jvm.Cond.methodLink "WaysAtlasModel" (539 : Nat) ({ cls := "WaysAtlasModel", name := "eval", desc := "(III)I" } : Jvm.MethodName)) ∈ lw_all := lw_g (lw_at lw_m10 216 rfl) rfl
theorem q2514 : (Jvm.Cond.privateMethod ({ cls := "WaysAtlasModel", name := "eval", desc := "(III)I" } : Jvm.MethodName)) ∈ lw_tbl := lw_at lw_m10 217 rfl
theorem q2515 : (Jvm.Cond.instanceMethod ({ cls := "WaysAtlasModel", name := "eval", desc := "(III)I" } : Jvm.MethodName)) ∈ lw_all := lw_g (lw_at lw_m10 218 rfl) rfl
theorem q2516 : (Jvm.Cond.code ({ cls := "WaysAtlasModel", name := "eval", desc := "(III)I" } : Jvm.MethodName) prog_36_method_74_code (7 : Nat) (Option.some Jvm.ClassFile.FieldType.int)) ∈ lw_all := lw_g (lw_at lw_m10 219 rfl) rfl
theorem q2517 : (Jvm.Cond.methodLink "WaysAtlasModel" (517 : Nat) ({ cls := "WaysAtlasModel", name := "row", desc := "(I)I" } : Jvm.MethodName)) ∈ lw_all := lw_g (lw_at lw_m10 220 rfl) rfl
theorem q2518 : (Jvm.Cond.privateMethod ({ cls := "WaysAtlasModel", name := "row", desc := "(I)I" } : Jvm.MethodName)) ∈ lw_tbl := lw_at lw_m10 221 rfl
theorem q2519 : (Jvm.Cond.instanceMethod ({ cls := "WaysAtlasModel", name := "row", desc := "(I)I" } : Jvm.MethodName)) ∈ lw_all := lw_g (lw_at lw_m10 222 rfl) rfl
theorem q2520 : (Jvm.Cond.code ({ cls := "WaysAtlasModel", name := "row", desc := "(I)I" } : Jvm.MethodName) prog_36_method_71_code (2 : Nat) (Option.some Jvm.ClassFile.FieldType.int)) ∈ lw_all := lw_g (lw_at lw_m10 223 rfl) rfl
theorem q2521 : (Jvm.Cond.methodLink "WaysAtlasModel" (526 : Nat) ({ cls := "WaysAtlasModel", name := "evalRow", desc := "(II)I" } : Jvm.MethodName)) ∈ lw_all := lw_g (lw_at lw_m10 224 rfl) rfl
theorem q2522 : (Jvm.Cond.privateMethod ({ cls := "WaysAtlasModel", name := "evalRow", desc := "(II)I" } : Jvm.MethodName)) ∈ lw_tbl := lw_at lw_m10 225 rfl
theorem q2523 : (Jvm.Cond.instanceMethod ({ cls := "WaysAtlasModel", name := "evalRow", desc := "(II)I" } : Jvm.MethodName)) ∈ lw_all := lw_g (lw_at lw_m10 226 rfl) rfl
theorem q2524 : (Jvm.Cond.code ({ cls := "WaysAtlasModel", name := "evalRow", desc := "(II)I" } : Jvm.MethodName) prog_36_method_72_code (3 : Nat) (Option.some Jvm.ClassFile.FieldType.int)) ∈ lw_all := lw_g (lw_at lw_m10 227 rfl) rfl
theorem q2525 : (Jvm.Cond.methodLink "WaysAtlasModel" (529 : Nat) ({ cls := "WaysAtlasModel", name := "sign", desc := "(III)I" } : Jvm.MethodName)) ∈ lw_all := lw_g (lw_at lw_m10 228 rfl) rfl
theorem q2526 : (Jvm.Cond.privateMethod ({ cls := "WaysAtlasModel", name := "sign", desc := "(III)I" } : Jvm.MethodName)) ∈ lw_tbl := lw_at lw_m10 229 rfl
theorem q2527 : (Jvm.Cond.instanceMethod ({ cls := "WaysAtlasModel", name := "sign", desc := "(III)I" } : Jvm.MethodName)) ∈ lw_all := lw_g (lw_at lw_m10 230 rfl) rfl
theorem q2528 : (Jvm.Cond.code ({ cls := "WaysAtlasModel", name := "sign", desc := "(III)I" } : Jvm.MethodName) prog_36_method_73_code (4 : Nat) (Option.some Jvm.ClassFile.FieldType.int)) ∈ lw_all := lw_g (lw_at lw_m10 231 rfl) rfl
theorem q2529 : (Jvm.Cond.methodLink "WaysAtlasModel" (558 : Nat) ({ cls := "WaysAtlasModel", name := "calls", desc := "(I)V" } : Jvm.MethodName)) ∈ lw_all := lw_g (lw_at lw_m10 232 rfl) rfl
theorem q2530 : (Jvm.Cond.privateMethod ({ cls := "WaysAtlasModel", name := "calls", desc := "(I)V" } : Jvm.MethodName)) ∈ lw_tbl := lw_at lw_m10 233 rfl
theorem q2531 : (Jvm.Cond.instanceMethod ({ cls := "WaysAtlasModel", name := "calls", desc := "(I)V" } : Jvm.MethodName)) ∈ lw_all := lw_g (lw_at lw_m10 234 rfl) rfl
theorem q2532 : (Jvm.Cond.code ({ cls := "WaysAtlasModel", name := "calls", desc := "(I)V" } : Jvm.MethodName) prog_36_method_76_code (4 : Nat) (Option.none : Option Jvm.ClassFile.FieldType)) ∈ lw_all := lw_g (lw_at lw_m10 235 rfl) rfl
theorem q2533 : (Jvm.Cond.methodLink "WaysAtlasModel" (561 : Nat) ({ cls := "WaysAtlasModel", name := "newRow", desc := "(I)V" } : Jvm.MethodName)) ∈ lw_all := lw_g (lw_at lw_m10 236 rfl) rfl
theorem q2534 : (Jvm.Cond.privateMethod ({ cls := "WaysAtlasModel", name := "newRow", desc := "(I)V" } : Jvm.MethodName)) ∈ lw_tbl := lw_at lw_m10 237 rfl
theorem q2535 : (Jvm.Cond.instanceMethod ({ cls := "WaysAtlasModel", name := "newRow", desc := "(I)V" } : Jvm.MethodName)) ∈ lw_all := lw_g (lw_at lw_m10 238 rfl) rfl
theorem q2536 : (Jvm.Cond.code ({ cls := "WaysAtlasModel", name := "newRow", desc := "(I)V" } : Jvm.MethodName) prog_36_method_78_code (4 : Nat) (Option.none : Option Jvm.ClassFile.FieldType)) ∈ lw_all := lw_g (lw_at lw_m10 239 rfl) rfl
theorem q2537 : (Jvm.Cond.methodLink "WaysAtlasModel" (564 : Nat) ({ cls := "WaysAtlasModel", name := "setsRow", desc := "(I)V" } : Jvm.MethodName)) ∈ lw_all := lw_g (lw_at lw_m11 0 rfl) rfl
theorem q2538 : (Jvm.Cond.privateMethod ({ cls := "WaysAtlasModel", name := "setsRow", desc := "(I)V" } : Jvm.MethodName)) ∈ lw_tbl := lw_at lw_m11 1 rfl
theorem q2539 : (Jvm.Cond.instanceMethod ({ cls := "WaysAtlasModel", name := "setsRow", desc := "(I)V" } : Jvm.MethodName)) ∈ lw_all := lw_g (lw_at lw_m11 2 rfl) rfl
theorem q2540 : (Jvm.Cond.code ({ cls := "WaysAtlasModel", name := "setsRow", desc := "(I)V" } : Jvm.MethodName) prog_36_method_77_code (5 : Nat) (Option.none : Option Jvm.ClassFile.FieldType)) ∈ lw_all := lw_g (lw_at lw_m11 3 rfl) rfl
theorem q2541 : (Jvm.Cond.methodLink "WaysAtlasModel" (567 : Nat) ({ cls := "WaysAtlasModel", name := "signals", desc := "(II)V" } : Jvm.MethodName)) ∈ lw_all := lw_g (lw_at lw_m11 4 rfl) rfl
theorem q2542 : (Jvm.Cond.privateMethod ({ cls := "WaysAtlasModel", name := "signals", desc := "(II)V" } : Jvm.MethodName)) ∈ lw_tbl := lw_at lw_m11 5 rfl
theorem q2543 : (Jvm.Cond.instanceMethod ({ cls := "WaysAtlasModel", name := "signals", desc := "(II)V" } : Jvm.MethodName)) ∈ lw_all := lw_g (lw_at lw_m11 6 rfl) rfl
theorem q2544 : (Jvm.Cond.code ({ cls := "WaysAtlasModel", name := "signals", desc := "(II)V" } : Jvm.MethodName) prog_36_method_68_code (3 : Nat) (Option.none : Option Jvm.ClassFile.FieldType)) ∈ lw_all := lw_g (lw_at lw_m11 7 rfl) rfl
theorem q2545 : (Jvm.Cond.methodLink "WaysAtlasModel" (570 : Nat) ({ cls := "WaysAtlasModel", name := "asks", desc := "(I)V" } : Jvm.MethodName)) ∈ lw_all := lw_g (lw_at lw_m11 8 rfl) rfl
theorem q2546 : (Jvm.Cond.privateMethod ({ cls := "WaysAtlasModel", name := "asks", desc := "(I)V" } : Jvm.MethodName)) ∈ lw_tbl := lw_at lw_m11 9 rfl
theorem q2547 : (Jvm.Cond.instanceMethod ({ cls := "WaysAtlasModel", name := "asks", desc := "(I)V" } : Jvm.MethodName)) ∈ lw_all := lw_g (lw_at lw_m11 10 rfl) rfl
theorem q2548 : (Jvm.Cond.code ({ cls := "WaysAtlasModel", name := "asks", desc := "(I)V" } : Jvm.MethodName) prog_36_method_79_code (7 : Nat) (Option.none : Option Jvm.ClassFile.FieldType)) ∈ lw_all := lw_g (lw_at lw_m11 11 rfl) rfl
theorem q2549 : (Jvm.Cond.methodLink "WaysAtlasModel" (573 : Nat) ({ cls := "WaysAtlasModel", name := "loops", desc := "(I)V" } : Jvm.MethodName)) ∈ lw_all := lw_g (lw_at lw_m11 12 rfl) rfl
theorem q2550 : (Jvm.Cond.privateMethod ({ cls := "WaysAtlasModel", name := "loops", desc := "(I)V" } : Jvm.MethodName)) ∈ lw_tbl := lw_at lw_m11 13 rfl
theorem q2551 : (Jvm.Cond.instanceMethod ({ cls := "WaysAtlasModel", name := "loops", desc := "(I)V" } : Jvm.MethodName)) ∈ lw_all := lw_g (lw_at lw_m11 14 rfl) rfl
theorem q2552 : (Jvm.Cond.code ({ cls := "WaysAtlasModel", name := "loops", desc := "(I)V" } : Jvm.MethodName) prog_36_method_80_code (3 : Nat) (Option.none : Option Jvm.ClassFile.FieldType)) ∈ lw_all := lw_g (lw_at lw_m11 15 rfl) rfl
theorem q2553 : (Jvm.Cond.methodLink "WaysAtlasModel" (549 : Nat) ({ cls := "WaysAtlasModel", name := "turns", desc := "()V" } : Jvm.MethodName)) ∈ lw_all := lw_g (lw_at lw_m11 16 rfl) rfl
theorem q2554 : (Jvm.Cond.privateMethod ({ cls := "WaysAtlasModel", name := "turns", desc := "()V" } : Jvm.MethodName)) ∈ lw_tbl := lw_at lw_m11 17 rfl
theorem q2555 : (Jvm.Cond.instanceMethod ({ cls := "WaysAtlasModel", name := "turns", desc := "()V" } : Jvm.MethodName)) ∈ lw_all := lw_g (lw_at lw_m11 18 rfl) rfl
theorem q2556 : (Jvm.Cond.code ({ cls := "WaysAtlasModel", name := "turns", desc := "()V" } : Jvm.MethodName) prog_36_method_81_code (1 : Nat) (Option.none : Option Jvm.ClassFile.FieldType)) ∈ lw_all := lw_g (lw_at lw_m11 19 rfl) rfl
theorem q2557 : (Jvm.Cond.methodLink "WaysAtlasModel" (576 : Nat) ({ cls := "WaysAtlasModel", name := "taken", desc := "()I" } : Jvm.MethodName)) ∈ lw_all := lw_g (lw_at lw_m11 20 rfl) rfl
theorem q2558 : (Jvm.Cond.privateMethod ({ cls := "WaysAtlasModel", name := "taken", desc := "()I" } : Jvm.MethodName)) ∈ lw_tbl := lw_at lw_m11 21 rfl
theorem q2559 : (Jvm.Cond.instanceMethod ({ cls := "WaysAtlasModel", name := "taken", desc := "()I" } : Jvm.MethodName)) ∈ lw_all := lw_g (lw_at lw_m11 22 rfl) rfl
theorem q2560 : (Jvm.Cond.code ({ cls := "WaysAtlasModel", name := "taken", desc := "()I" } : Jvm.MethodName) prog_36_method_82_code (2 : Nat) (Option.some Jvm.ClassFile.FieldType.int)) ∈ lw_all := lw_g (lw_at lw_m11 23 rfl) rfl
theorem q2561 : (Jvm.Cond.methodLink "WaysAtlasModel" (579 : Nat) ({ cls := "WaysAtlasModel", name := "opensAll", desc := "(I)V" } : Jvm.MethodName)) ∈ lw_all := lw_g (lw_at lw_m11 24 rfl) rfl
theorem q2562 : (Jvm.Cond.privateMethod ({ cls := "WaysAtlasModel", name := "opensAll", desc := "(I)V" } : Jvm.MethodName)) ∈ lw_tbl := lw_at lw_m11 25 rfl
theorem q2563 : (Jvm.Cond.instanceMethod ({ cls := "WaysAtlasModel", name := "opensAll", desc := "(I)V" } : Jvm.MethodName)) ∈ lw_all := lw_g (lw_at lw_m11 26 rfl) rfl
theorem q2564 : (Jvm.Cond.code ({ cls := "WaysAtlasModel", name := "opensAll", desc := "(I)V" } : Jvm.MethodName) prog_36_method_83_code (5 : Nat) (Option.none : Option Jvm.ClassFile.FieldType)) ∈ lw_all := lw_g (lw_at lw_m11 27 rfl) rfl
theorem q2565 : (Jvm.Cond.methodLink "WaysAtlasModel" (597 : Nat) ({ cls := "WaysAtlasModel", name := "comesToLoop", desc := "(I)V" } : Jvm.MethodName)) ∈ lw_all := lw_g (lw_at lw_m11 28 rfl) rfl
theorem q2566 : (Jvm.Cond.privateMethod ({ cls := "WaysAtlasModel", name := "comesToLoop", desc := "(I)V" } : Jvm.MethodName)) ∈ lw_tbl := lw_at lw_m11 29 rfl
theorem q2567 : (Jvm.Cond.instanceMethod ({ cls := "WaysAtlasModel", name := "comesToLoop", desc := "(I)V" } : Jvm.MethodName)) ∈ lw_all := lw_g (lw_at lw_m11 30 rfl) rfl
theorem q2568 : (Jvm.Cond.code ({ cls := "WaysAtlasModel", name := "comesToLoop", desc := "(I)V" } : Jvm.MethodName) prog_36_method_90_code (3 : Nat) (Option.none : Option Jvm.ClassFile.FieldType)) ∈ lw_all := lw_g (lw_at lw_m11 31 rfl) rfl
theorem q2569 : (Jvm.Cond.methodLink "WaysAtlasModel" (600 : Nat) ({ cls := "WaysAtlasModel", name := "comesToGuard", desc := "(I)V" } : Jvm.MethodName)) ∈ lw_all := lw_g (lw_at lw_m11 32 rfl) rfl
theorem q2570 : (Jvm.Cond.privateMethod ({ cls := "WaysAtlasModel", name := "comesToGuard", desc := "(I)V" } : Jvm.MethodName)) ∈ lw_tbl := lw_at lw_m11 33 rfl
theorem q2571 : (Jvm.Cond.instanceMethod ({ cls := "WaysAtlasModel", name := "comesToGuard", desc := "(I)V" } : Jvm.MethodName)) ∈ lw_all := lw_g (lw_at lw_m11 34 rfl) rfl
theorem q2572 : (Jvm.Cond.code ({ cls := "WaysAtlasModel", name := "comesToGuard", desc := "(I)V" } : Jvm.MethodName) prog_36_method_89_code (4 : Nat) (Option.none : Option Jvm.ClassFile.FieldType)) ∈ lw_all := lw_g (lw_at lw_m11 35 rfl) rfl
theorem q2573 : (Jvm.Cond.methodLink "WaysAtlasModel" (585 : Nat) ({ cls := "WaysAtlasModel", name := "closesAll", desc := "(I)V" } : Jvm.MethodName)) ∈ lw_all := lw_g (lw_at lw_m11 36 rfl) rfl
theorem q2574 : (Jvm.Cond.privateMethod ({ cls := "WaysAtlasModel", name := "closesAll", desc := "(I)V" } : Jvm.MethodName)) ∈ lw_tbl := lw_at lw_m11 37 rfl
theorem q2575 : (Jvm.Cond.instanceMethod ({ cls := "WaysAtlasModel", name := "closesAll", desc := "(I)V" } : Jvm.MethodName)) ∈ lw_all := lw_g (lw_at lw_m11 38 rfl) rfl
theorem q2576 : (Jvm.Cond.code ({ cls := "WaysAtlasModel", name := "closesAll", desc := "(I)V" } : Jvm.MethodName) prog_36_method_86_code (6 : Nat) (Option.none : Option Jvm.ClassFile.FieldType)) ∈ lw_all := lw_g (lw_at lw_m11 39 rfl) rfl
theorem q2577 : (Jvm.Cond.methodLink "WaysAtlasModel" (582 : Nat) ({ cls := "WaysAtlasModel", name := "suppresses", desc := "(II)V" } : Jvm.MethodName)) ∈ lw_all := lw_g (lw_at lw_m11 40 rfl) rfl
theorem q2578 : (Jvm.Cond.privateMethod ({ cls := "WaysAtlasModel", name := "suppresses", desc := "(II)V" } : Jvm.MethodName)) ∈ lw_tbl := lw_at lw_m11 41 rfl
theorem q2579 : (Jvm.Cond.instanceMethod ({ cls := "WaysAtlasModel", name := "suppresses", desc := "(II)V" } : Jvm.MethodName)) ∈ lw_all := lw_g (lw_at lw_m11 42 rfl) rfl
theorem q2580 : (Jvm.Cond.code ({ cls := "WaysAtlasModel", name := "suppresses", desc := "(II)V" } : Jvm.MethodName) prog_36_method_85_code (5 : Nat) (Option.none : Option Jvm.ClassFile.FieldType)) ∈ lw_all := lw_g (lw_at lw_m11 43 rfl) rfl
theorem q2581 : (Jvm.Cond.methodLink "WaysAtlasModel" (588 : Nat) ({ cls := "WaysAtlasModel", name := "catchFor", desc := "(II)I" } : Jvm.MethodName)) ∈ lw_all := lw_g (lw_at lw_m11 44 rfl) rfl
theorem q2582 : (Jvm.Cond.privateMethod ({ cls := "WaysAtlasModel", name := "catchFor", desc := "(II)I" } : Jvm.MethodName)) ∈ lw_tbl := lw_at lw_m11 45 rfl
theorem q2583 : (Jvm.Cond.instanceMethod ({ cls := "WaysAtlasModel", name := "catchFor", desc := "(II)I" } : Jvm.MethodName)) ∈ lw_all := lw_g (lw_at lw_m11 46 rfl) rfl
theorem q2584 : (Jvm.Cond.code ({ cls := "WaysAtlasModel", name := "catchFor", desc := "(II)I" } : Jvm.MethodName) prog_36_method_87_code (5 : Nat) (Option.some Jvm.ClassFile.FieldType.int)) ∈ lw_all := lw_g (lw_at lw_m11 47 rfl) rfl
theorem q2585 : (Jvm.Cond.methodLink "WaysAtlasModel" (591 : Nat) ({ cls := "WaysAtlasModel", name := "finishes", desc := "(I)V" } : Jvm.MethodName)) ∈ lw_all := lw_g (lw_at lw_m11 48 rfl) rfl
theorem q2586 : (Jvm.Cond.privateMethod ({ cls := "WaysAtlasModel", name := "finishes", desc := "(I)V" } : Jvm.MethodName)) ∈ lw_tbl := lw_at lw_m11 49 rfl
theorem q2587 : (Jvm.Cond.instanceMethod ({ cls := "WaysAtlasModel", name := "finishes", desc := "(I)V" } : Jvm.MethodName)) ∈ lw_all := lw_g (lw_at lw_m11 50 rfl) rfl
theorem q2588 : (Jvm.Cond.code ({ cls := "WaysAtlasModel", name := "finishes", desc := "(I)V" } : Jvm.MethodName) prog_36_method_88_code (3 : Nat) (Option.none : Option Jvm.ClassFile.FieldType)) ∈ lw_all := lw_g (lw_at lw_m11 51 rfl) rfl
theorem q2589 : (Jvm.Cond.methodLink "WaysAtlasModel" (603 : Nat) ({ cls := "WaysAtlasModel", name := "comesToMethod", desc := "(I)V" } : Jvm.MethodName)) ∈ lw_all := lw_g (lw_at lw_m11 52 rfl) rfl
theorem q2590 : (Jvm.Cond.privateMethod ({ cls := "WaysAtlasModel", name := "comesToMethod", desc := "(I)V" } : Jvm.MethodName)) ∈ lw_tbl := lw_at lw_m11 53 rfl
theorem q2591 : (Jvm.Cond.instanceMethod ({ cls := "WaysAtlasModel", name := "comesToMethod", desc := "(I)V" } : Jvm.MethodName)) ∈ lw_all := lw_g (lw_at lw_m11 54 rfl) rfl
theorem q2592 : (Jvm.Cond.code ({ cls := "WaysAtlasModel", name := "comesToMethod", desc := "(I)V" } : Jvm.MethodName) prog_36_method_91_code (5 : Nat) (Option.none : Option Jvm.ClassFile.FieldType)) ∈ lw_all := lw_g (lw_at lw_m11 55 rfl) rfl
theorem q2594 : (Jvm.Cond.instanceMethod ({ cls := "WaysAtlasModel", name := "ran", desc := "(II)I" } : Jvm.MethodName)) ∈ lw_all := lw_g (lw_at lw_m11 57 rfl) rfl
theorem q2595 : (Jvm.Cond.selects "WaysAtlasModel" ({ cls := "WaysAtlasModel", name := "ran", desc := "(II)I" } : Jvm.MethodName) ({ cls := "WaysAtlasModel", name := "ran", desc := "(II)I" } : Jvm.MethodName)) ∈ lw_all := lw_g (lw_at lw_m11 58 rfl) rfl
theorem q2596 : (Jvm.Cond.code ({ cls := "WaysAtlasModel", name := "ran", desc := "(II)I" } : Jvm.MethodName) prog_36_method_97_code (3 : Nat) (Option.some Jvm.ClassFile.FieldType.int)) ∈ lw_all := lw_g (lw_at lw_m11 59 rfl) rfl
theorem q2597 : (Jvm.Cond.methodLink "WaysAtlasModel" (616 : Nat) ({ cls := "WaysAtlasModel", name := "isRun", desc := "(I)Z" } : Jvm.MethodName)) ∈ lw_all := lw_g (lw_at lw_m11 60 rfl) rfl
theorem q2598 : (Jvm.Cond.privateMethod ({ cls := "WaysAtlasModel", name := "isRun", desc := "(I)Z" } : Jvm.MethodName)) ∈ lw_tbl := lw_at lw_m11 61 rfl
theorem q2599 : (Jvm.Cond.instanceMethod ({ cls := "WaysAtlasModel", name := "isRun", desc := "(I)Z" } : Jvm.MethodName)) ∈ lw_all := lw_g (lw_at lw_m11 62 rfl) rfl
theorem q2600 : (Jvm.Cond.code ({ cls := "WaysAtlasModel", name := "isRun", desc := "(I)Z" } : Jvm.MethodName) prog_36_method_96_code (2 : Nat) (Option.some Jvm.ClassFile.FieldType.boolean)) ∈ lw_all := lw_g (lw_at lw_m11 63 rfl) rfl
theorem q2602 : (Jvm.Cond.instanceMethod ({ cls := "WaysAtlasModel", name := "mark", desc := "(II)I" } : Jvm.MethodName)) ∈ lw_all := lw_g (lw_at lw_m11 65 rfl) rfl
theorem q2603 : (Jvm.Cond.selects "WaysAtlasModel" ({ cls := "WaysAtlasModel", name := "mark", desc := "(II)I" } : Jvm.MethodName) ({ cls := "WaysAtlasModel", name := "mark", desc := "(II)I" } : Jvm.MethodName)) ∈ lw_all := lw_g (lw_at lw_m11 66 rfl) rfl
theorem q2604 : (Jvm.Cond.code ({ cls := "WaysAtlasModel", name := "mark", desc := "(II)I" } : Jvm.MethodName) prog_36_method_98_code (3 : Nat) (Option.some Jvm.ClassFile.FieldType.int)) ∈ lw_all := lw_g (lw_at lw_m11 67 rfl) rfl
theorem q2606 : (Jvm.Cond.instanceMethod ({ cls := "WaysAtlasModel", name := "failure", desc := "(III)I" } : Jvm.MethodName)) ∈ lw_all := lw_g (lw_at lw_m11 69 rfl) rfl
theorem q2607 : (Jvm.Cond.selects "WaysAtlasModel" ({ cls := "WaysAtlasModel", name := "failure", desc := "(III)I" } : Jvm.MethodName) ({ cls := "WaysAtlasModel", name := "failure", desc := "(III)I" } : Jvm.MethodName)) ∈ lw_all := lw_g (lw_at lw_m11 70 rfl) rfl
theorem q2608 : (Jvm.Cond.code ({ cls := "WaysAtlasModel", name := "failure", desc := "(III)I" } : Jvm.MethodName) prog_36_method_99_code (5 : Nat) (Option.some Jvm.ClassFile.FieldType.int)) ∈ lw_all := lw_g (lw_at lw_m11 71 rfl) rfl
theorem q2610 : (Jvm.Cond.instanceMethod ({ cls := "WaysAtlasModel", name := "trace", desc := "(III)I" } : Jvm.MethodName)) ∈ lw_all := lw_g (lw_at lw_m11 73 rfl) rfl
theorem q2611 : (Jvm.Cond.selects "WaysAtlasModel" ({ cls := "WaysAtlasModel", name := "trace", desc := "(III)I" } : Jvm.MethodName) ({ cls := "WaysAtlasModel", name := "trace", desc := "(III)I" } : Jvm.MethodName)) ∈ lw_all := lw_g (lw_at lw_m11 74 rfl) rfl
theorem q2612 : (Jvm.Cond.code ({ cls := "WaysAtlasModel", name := "trace", desc := "(III)I" } : Jvm.MethodName) prog_36_method_100_code (4 : Nat) (Option.some Jvm.ClassFile.FieldType.int)) ∈ lw_all := lw_g (lw_at lw_m11 75 rfl) rfl
theorem q2614 : (Jvm.Cond.instanceMethod ({ cls := "WaysAtlasModel", name := "closed", desc := "(II)I" } : Jvm.MethodName)) ∈ lw_all := lw_g (lw_at lw_m11 77 rfl) rfl
theorem q2615 : (Jvm.Cond.selects "WaysAtlasModel" ({ cls := "WaysAtlasModel", name := "closed", desc := "(II)I" } : Jvm.MethodName) ({ cls := "WaysAtlasModel", name := "closed", desc := "(II)I" } : Jvm.MethodName)) ∈ lw_all := lw_g (lw_at lw_m11 78 rfl) rfl
theorem q2616 : (Jvm.Cond.code ({ cls := "WaysAtlasModel", name := "closed", desc := "(II)I" } : Jvm.MethodName) prog_36_method_101_code (3 : Nat) (Option.some Jvm.ClassFile.FieldType.int)) ∈ lw_all := lw_g (lw_at lw_m11 79 rfl) rfl
theorem q2618 : (Jvm.Cond.instanceMethod ({ cls := "WaysAtlasModel", name := "entered", desc := "(II)I" } : Jvm.MethodName)) ∈ lw_all := lw_g (lw_at lw_m11 81 rfl) rfl
theorem q2619 : (Jvm.Cond.selects "WaysAtlasModel" ({ cls := "WaysAtlasModel", name := "entered", desc := "(II)I" } : Jvm.MethodName) ({ cls := "WaysAtlasModel", name := "entered", desc := "(II)I" } : Jvm.MethodName)) ∈ lw_all := lw_g (lw_at lw_m11 82 rfl) rfl
theorem q2620 : (Jvm.Cond.code ({ cls := "WaysAtlasModel", name := "entered", desc := "(II)I" } : Jvm.MethodName) prog_36_method_102_code (3 : Nat) (Option.some Jvm.ClassFile.FieldType.int)) ∈ lw_all := lw_g (lw_at lw_m11 83 rfl) rfl
theorem q2622 : (Jvm.Cond.instanceMethod ({ cls := "WaysAtlasModel", name := "ways", desc := "(III)I" } : Jvm.MethodName)) ∈ lw_all := lw_g (lw_at lw_m11 85 rfl) rfl
theorem q2623 : (Jvm.Cond.selects "WaysAtlasModel" ({ cls := "WaysAtlasModel", name := "ways", desc := "(III)I" } : Jvm.MethodName) ({ cls := "WaysAtlasModel", name := "ways", desc := "(III)I" } : Jvm.MethodName)) ∈ lw_all := lw_g (lw_at lw_m11 86 rfl) rfl
theorem q2624 : (Jvm.Cond.code ({ cls := "WaysAtlasModel", name := "ways", desc := "(III)I" } : Jvm.MethodName) prog_36_method_104_code (6 : Nat) (Option.some Jvm.ClassFile.FieldType.int)) ∈ lw_all := lw_g (lw_at lw_m11 87 rfl) rfl
theorem q2625 : (Jvm.Cond.methodLink "WaysAtlasModel" (622 : Nat) ({ cls := "WaysAtlasModel", name := "notesWay", desc := "()V" } : Jvm.MethodName)) ∈ lw_all := lw_g (lw_at lw_m11 88 rfl) rfl
theorem q2626 : (Jvm.Cond.privateMethod ({ cls := "WaysAtlasModel", name := "notesWay", desc := "()V" } : Jvm.MethodName)) ∈ lw_tbl := lw_at lw_m11 89 rfl
theorem q2627 : (Jvm.Cond.instanceMethod ({ cls := "WaysAtlasModel", name := "notesWay", desc := "()V" } : Jvm.MethodName)) ∈ lw_all := lw_g (lw_at lw_m11 90 rfl) rfl
theorem q2628 : (Jvm.Cond.code ({ cls := "WaysAtlasModel", name := "notesWay", desc := "()V" } : Jvm.MethodName) prog_36_method_103_code (6 : Nat) (Option.none : Option Jvm.ClassFile.FieldType)) ∈ lw_all := lw_g (lw_at lw_m11 91 rfl) rfl
theorem q2630 : (Jvm.Cond.instanceMethod ({ cls := "WaysAtlasModel", name := "same", desc := "(III)I" } : Jvm.MethodName)) ∈ lw_all := lw_g (lw_at lw_m11 93 rfl) rfl
theorem q2631 : (Jvm.Cond.selects "WaysAtlasModel" ({ cls := "WaysAtlasModel", name := "same", desc := "(III)I" } : Jvm.MethodName) ({ cls := "WaysAtlasModel", name := "same", desc := "(III)I" } : Jvm.MethodName)) ∈ lw_all := lw_g (lw_at lw_m11 94 rfl) rfl
theorem q2632 : (Jvm.Cond.code ({ cls := "WaysAtlasModel", name := "same", desc := "(III)I" } : Jvm.MethodName) prog_36_method_105_code (4 : Nat) (Option.some Jvm.ClassFile.FieldType.int)) ∈ lw_all := lw_g (lw_at lw_m11 95 rfl) rfl
theorem q221 : (Jvm.Cond.arrayClass Jvm.ClassFile.FieldType.byte) ∈ lw_all := lw_g (lw_at lw_m1 84 rfl) rfl
theorem q222 : (Jvm.Cond.arrayClass Jvm.ClassFile.FieldType.int) ∈ lw_all := lw_g (lw_at lw_m1 85 rfl) rfl
theorem q230 : (Jvm.Cond.arrayOver (Jvm.ClassFile.FieldType.object "WaysAtlas$Statement")) ∈ lw_tbl := lw_at lw_m1 93 rfl
theorem q278 : (Jvm.Cond.arrayOver (Jvm.ClassFile.FieldType.object "WaysAtlas$Method")) ∈ lw_tbl := lw_at lw_m1 141 rfl
theorem q281 : (Jvm.Cond.arrayOver (Jvm.ClassFile.FieldType.object "WaysAtlas$Guard")) ∈ lw_tbl := lw_at lw_m1 144 rfl
theorem q363 : (Jvm.Cond.arrayOver (Jvm.ClassFile.FieldType.object "WaysAtlas$Frame")) ∈ lw_tbl := lw_at lw_m1 226 rfl
theorem q1189 : (Jvm.Cond.arrayOver (Jvm.ClassFile.FieldType.array (Jvm.ClassFile.FieldType.object "WaysAtlas$Statement"))) ∈ lw_tbl := lw_at lw_m5 92 rfl
theorem q2218 : (Jvm.Cond.arrayClass Jvm.ClassFile.FieldType.long) ∈ lw_all := lw_g (lw_at lw_m9 161 rfl) rfl
theorem q2219 : (Jvm.Cond.arrayClass Jvm.ClassFile.FieldType.boolean) ∈ lw_all := lw_g (lw_at lw_m9 162 rfl) rfl
theorem q2677 : (Jvm.Cond.arrayOver (Jvm.ClassFile.FieldType.object "java/lang/String")) ∈ lw_tbl := lw_at lw_m11 140 rfl
theorem in_J0 : ∀ w ∈ wsJ00, w ∈ lw_all := lw_in wsJ00 [374, 376, 378, 380, 382] (by decide +kernel) (by decide +kernel)
theorem in_X0 : ∀ w ∈ wsX00, w ∈ lw_all := lw_in wsX00 [655, 657, 659, 661, 663, 665, 667, 669, 671, 673] (by decide +kernel) (by decide +kernel)
theorem in_X1 : ∀ w ∈ wsX10, w ∈ lw_all := lw_in wsX10 [206, 208, 210, 212, 214, 216, 218] (by decide +kernel) (by decide +kernel)
theorem in_X10 : ∀ w ∈ wsX100, w ∈ lw_all := lw_in wsX100 [790, 791, 792, 793, 794, 812, 808, 810] (by decide +kernel) (by decide +kernel)
theorem in_X11 : ∀ w ∈ wsX110, w ∈ lw_all := lw_in wsX110 [854, 856, 858] (by decide +kernel) (by decide +kernel)
theorem in_X13 : ∀ w ∈ wsX130, w ∈ lw_all := lw_in wsX130 [914, 916, 918] (by decide +kernel) (by decide +kernel)
theorem in_X14 : ∀ w ∈ wsX140, w ∈ lw_all := lw_in wsX140 [928] (by decide +kernel) (by decide +kernel)
theorem in_X15 : ∀ w ∈ wsX150, w ∈ lw_all := lw_in wsX150 [938] (by decide +kernel) (by decide +kernel)
theorem in_X16 : ∀ w ∈ wsX160, w ∈ lw_all := lw_in wsX160 [950, 952] (by decide +kernel) (by decide +kernel)
theorem in_X18 : ∀ w ∈ wsX180, w ∈ lw_all := lw_in wsX180 [998, 990, 992, 994, 996] (by decide +kernel) (by decide +kernel)
theorem in_X2 : ∀ w ∈ wsX20, w ∈ lw_all := lw_in wsX20 [244, 246, 248, 250, 252, 254, 256, 258, 260, 262, 264, 266, 268] (by decide +kernel) (by decide +kernel)
theorem in_X20 : ∀ w ∈ wsX200, w ∈ lw_all := lw_in wsX200 [1016, 1012, 1014] (by decide +kernel) (by decide +kernel)
theorem in_X21 : ∀ w ∈ wsX210, w ∈ lw_all := lw_in wsX210 [1034, 1030, 1032] (by decide +kernel) (by decide +kernel)
theorem in_X22 : ∀ w ∈ wsX220, w ∈ lw_all := lw_in wsX220 [1052, 1048, 1050] (by decide +kernel) (by decide +kernel)
theorem in_X23 : ∀ w ∈ wsX230, w ∈ lw_all := lw_in wsX230 [1066, 1062, 1064] (by decide +kernel) (by decide +kernel)
theorem in_X24 : ∀ w ∈ wsX240, w ∈ lw_all := lw_in wsX240 [1081, 1079] (by decide +kernel) (by decide +kernel)
theorem in_X25 : ∀ w ∈ wsX250, w ∈ lw_all := lw_in wsX250 [1092, 1090] (by decide +kernel) (by decide +kernel)
theorem in_X26 : ∀ w ∈ wsX260, w ∈ lw_all := lw_in wsX260 [1121, 1111, 1113, 1115, 1117, 1119] (by decide +kernel) (by decide +kernel)
theorem in_X27 : ∀ w ∈ wsX270, w ∈ lw_all := lw_in wsX270 [1140, 1136, 1138] (by decide +kernel) (by decide +kernel)
theorem in_X28 : ∀ w ∈ wsX280, w ∈ lw_all := lw_in wsX280 [1151, 1149] (by decide +kernel) (by decide +kernel)
theorem in_X29 : ∀ w ∈ wsX290, w ∈ lw_all := lw_in wsX290 [1162, 1160] (by decide +kernel) (by decide +kernel)
theorem in_X3 : ∀ w ∈ wsX30, w ∈ lw_all := lw_in wsX30 [308, 310, 312, 314, 316, 318, 320, 322, 324, 326] (by decide +kernel) (by decide +kernel)
theorem in_X30 : ∀ w ∈ wsX300, w ∈ lw_all := lw_in wsX300 [1176, 1172, 1174] (by decide +kernel) (by decide +kernel)
theorem in_X31 : ∀ w ∈ wsX310, w ∈ lw_all := lw_in wsX310 [1219, 1207, 1209, 1211, 1213, 1215, 1217] (by decide +kernel) (by decide +kernel)
theorem in_X32 : ∀ w ∈ wsX320, w ∈ lw_all := lw_in wsX320 [1348, 1350, 1352, 1354, 1356, 1358, 1360, 1362] (by decide +kernel) (by decide +kernel)
theorem in_X33 : ∀ w ∈ wsX330, w ∈ lw_all := lw_in wsX330 [1253, 1255, 1257, 1259, 1261, 1263] (by decide +kernel) (by decide +kernel)
theorem in_X4 : ∀ w ∈ wsX40, w ∈ lw_all := lw_in wsX40 [343, 345, 347, 349] (by decide +kernel) (by decide +kernel)
theorem in_X5 : ∀ w ∈ wsX50, w ∈ lw_all := lw_in wsX50 [576, 578, 580, 582, 584, 586, 588, 590, 592, 594, 596, 598, 600, 602, 604, 606, 608, 610, 612, 614, 616, 618, 620, 622, 624, 626, 628, 630, 632, 634, 636, 638, 640, 642] (by decide +kernel) (by decide +kernel)
theorem in_X6 : ∀ w ∈ wsX60, w ∈ lw_all := lw_in wsX60 [373, 375, 377, 379, 381, 427, 421] (by decide +kernel) (by decide +kernel)
theorem in_X7 : ∀ w ∈ wsX70, w ∈ lw_all := lw_in wsX70 [435, 436, 437, 438, 439, 445] (by decide +kernel) (by decide +kernel)
theorem in_X8 : ∀ w ∈ wsX80, w ∈ lw_all := lw_in wsX80 [479, 481, 483, 485, 487, 489, 491, 493] (by decide +kernel) (by decide +kernel)
theorem in_X9 : ∀ w ∈ wsX90, w ∈ lw_all := lw_in wsX90 [2025, 2027, 2029, 2031, 2033, 2035, 2037, 2039, 2041, 2043, 2045, 2047, 2049, 2051, 2053, 2055, 2057, 2059, 2061, 2063, 2065, 2067, 2069, 2071, 2073, 2075, 2077, 2079, 2081, 2083, 2085, 2087, 2089, 2091, 2093, 2095, 2097, 2099, 2101, 2103, 2105, 2107, 2109, 2111, 2113, 2115, 2117, 2119, 2121, 2123, 2125, 2127, 2129, 2131, 2133, 2135, 2137, 2139, 2141, 2143, 2145, 2147, 2149, 2151, 2153, 2155, 2157, 2159, 2161, 2163, 2165, 2167, 2169, 2171, 2173, 2175, 2177, 2179, 2181, 2183, 2185, 2187, 2189, 2191, 2193, 2195, 2197, 2199, 2201, 2203, 2205, 2207, 2209, 2211, 2213, 2215] (by decide +kernel) (by decide +kernel)
/-- classes that objects are made of, by number -/
def xclL : List (Nat × vw_C) := [(0, (RX0, TX0, 10)), (1, (RX1, TX1, 7)), (2, (RX2, TX2, 13)), (3, (RX3, TX3, 10)), (4, (RX4, TX4, 4)), (5, (RX5, TX5, 34)), (6, (RX6, TX6, 7)), (7, (RX7, TX7, 6)), (8, (RX8, TX8, 8)), (9, (RX9, TX9, 96)), (10, (RX10, TX10, 8)), (11, (RX11, TX11, 3)), (13, (RX13, TX13, 3)), (14, (RX14, TX14, 1)), (15, (RX15, TX15, 1)), (16, (RX16, TX16, 2)), (18, (RX18, TX18, 5)), (20, (RX20, TX20, 3)), (21, (RX21, TX21, 3)), (22, (RX22, TX22, 3)), (23, (RX23, TX23, 3)), (24, (RX24, TX24, 2)), (25, (RX25, TX25, 2)), (26, (RX26, TX26, 6)), (27, (RX27, TX27, 3)), (28, (RX28, TX28, 2)), (29, (RX29, TX29, 2)), (30, (RX30, TX30, 3)), (31, (RX31, TX31, 7)), (32, (RX32, TX32, 8)), (33, (RX33, TX33, 6))]
def xlk {α : Type} (l : List (Nat × α)) (d : α) (k : Nat) : α := match l with
  | [] => d
  | b :: r => if b.1 = k then b.2 else xlk r d k
def xgdL : List (Nat × List Nat) := [(0, [1001, 1002, 1003, 1, 1004, 1005, 1006, 1007, 1008, 1009]), (1, [1010, 2, 1011, 1012, 1013, 3, 4]), (2, [1014, 1015, 5, 6, 7, 8, 1016, 9, 1017, 10, 1018, 1019, 11]), (3, [1020, 12, 1021, 13, 1022, 14, 1023, 1024, 15, 1025]), (4, [1026, 1027, 1028, 16]), (5, [1029, 1030, 1031, 17, 18, 19, 20, 1032, 21, 1033, 1034, 1035, 1036, 1037, 1038, 1039, 22, 23, 1040, 24, 25, 1041, 1042, 1043, 26, 1044, 1045, 27, 28, 29, 30, 31, 1046, 1047]), (6, [1048, 1049, 1050, 1051, 1052, 32, 33]), (7, [1048, 1049, 1050, 1051, 1052, 32]), (8, [1053, 1054, 1055, 34, 1056, 35, 36, 37]), (9, [1057, 1058, 38, 39, 40, 41, 42, 43, 44, 45, 46, 1059, 1060, 1061, 1062, 1063, 1064, 1065, 1066, 1067, 1068, 1069, 1070, 1071, 47, 48, 49, 50, 51, 52, 1072, 1073, 1074, 53, 1075, 1076, 54, 55, 56, 1077, 1078, 1079, 1080, 57, 1081, 1082, 1083, 1084, 1085, 58, 1086, 1087, 1088, 1089, 1090, 1091, 1092, 1093, 1094, 1095, 1096, 59, 60, 61, 62, 63, 1097, 1098, 1099, 1100, 1101, 1102, 1103, 1104, 64, 1105, 1106, 1107, 1108, 65, 1109, 1110, 1111, 66, 67, 68, 69, 70, 1112, 1113, 1114, 1115, 71, 72, 1116, 73]), (10, [1048, 1049, 1050, 1051, 1052, 32, 74, 75]), (11, [76, 1117, 77]), (13, [78, 1118, 1119]), (14, [79]), (15, [80]), (16, [81, 1120]), (18, [82, 83, 84, 1121, 1122]), (20, [82, 85, 1123]), (21, [82, 1124, 1125]), (22, [82, 86, 1126]), (23, [82, 87, 88]), (24, [82, 89]), (25, [82, 1127]), (26, [82, 1128, 90, 1129, 1130, 1131]), (27, [82, 1132, 1133]), (28, [82, 91]), (29, [82, 92]), (30, [82, 93, 1134]), (31, [82, 94, 1135, 1136, 1137, 95, 1138]), (32, [96, 1139, 1140, 1141, 97, 1142, 98, 99]), (33, [1143, 100, 1144, 101, 102, 1145])]
def xgid (c k : Nat) : Nat := (xlk xgdL [] c).getD k 0
/-- a field by its number: declarer, name, descriptor; type; is it final -/
def xgL : List (Nat × (String × String × String) × FieldType × Bool) := [(1001, ("WaysAtlas", "scanner", "LWaysAtlas$Scanner;"), .object "WaysAtlas$Scanner", true), (1002, ("WaysAtlas", "reader", "LWaysAtlas$Reader;"), .object "WaysAtlas$Reader", true), (1003, ("WaysAtlas", "program", "LWaysAtlas$Program;"), .object "WaysAtlas$Program", false), (1, ("WaysAtlas", "fault", "I"), .int, false), (1004, ("WaysAtlas", "plan", "LWaysAtlas$Plan;"), .object "WaysAtlas$Plan", false), (1005, ("WaysAtlas", "quiet", "LWaysAtlas$Plan;"), .object "WaysAtlas$Plan", true), (1006, ("WaysAtlas", "byCode", "LWaysAtlas$Run;"), .object "WaysAtlas$Run", false), (1007, ("WaysAtlas", "byTree", "LWaysAtlas$Run;"), .object "WaysAtlas$Run", false), (1008, ("WaysAtlas", "beside", "LWaysAtlas$Run;"), .object "WaysAtlas$Run", false), (1009, ("WaysAtlas", "other", "LWaysAtlas$Run;"), .object "WaysAtlas$Run", false), (1010, ("WaysAtlas$Scanner", "text", "[B"), .array (.byte), true), (2, ("WaysAtlas$Scanner", "size", "I"), .int, false), (1011, ("WaysAtlas$Scanner", "kinds", "[I"), .array (.int), true), (1012, ("WaysAtlas$Scanner", "places", "[I"), .array (.int), true), (1013, ("WaysAtlas$Scanner", "values", "[I"), .array (.int), true), (3, ("WaysAtlas$Scanner", "many", "I"), .int, false), (4, ("WaysAtlas$Scanner", "at", "I"), .int, false), (1014, ("WaysAtlas$Reader", "s", "LWaysAtlas$Scanner;"), .object "WaysAtlas$Scanner", true), (1015, ("WaysAtlas$Reader", "p", "LWaysAtlas$Program;"), .object "WaysAtlas$Program", false), (5, ("WaysAtlas$Reader", "at", "I"), .int, false), (6, ("WaysAtlas$Reader", "blocks", "I"), .int, false), (7, ("WaysAtlas$Reader", "nested", "I"), .int, false), (8, ("WaysAtlas$Reader", "loops", "I"), .int, false), (1016, ("WaysAtlas$Reader", "taking", "LWaysAtlas$Guard;"), .object "WaysAtlas$Guard", false), (9, ("WaysAtlas$Reader", "wrong", "I"), .int, false), (1017, ("WaysAtlas$Reader", "pile", "[LWaysAtlas$Statement;"), .array (.object "WaysAtlas$Statement"), true), (10, ("WaysAtlas$Reader", "piled", "I"), .int, false), (1018, ("WaysAtlas$Reader", "told", "[I"), .array (.int), true), (1019, ("WaysAtlas$Reader", "toldAt", "[I"), .array (.int), true), (11, ("WaysAtlas$Reader", "tells", "I"), .int, false), (1020, ("WaysAtlas$Program", "methods", "[LWaysAtlas$Method;"), .array (.object "WaysAtlas$Method"), true), (12, ("WaysAtlas$Program", "many", "I"), .int, false), (1021, ("WaysAtlas$Program", "above", "[I"), .array (.int), true), (13, ("WaysAtlas$Program", "kinds", "I"), .int, false), (1022, ("WaysAtlas$Program", "statements", "[LWaysAtlas$Statement;"), .array (.object "WaysAtlas$Statement"), true), (14, ("WaysAtlas$Program", "size", "I"), .int, false), (1023, ("WaysAtlas$Program", "handlerOf", "[LWaysAtlas$Guard;"), .array (.object "WaysAtlas$Guard"), true), (1024, ("WaysAtlas$Program", "handler", "[I"), .array (.int), true), (15, ("WaysAtlas$Program", "handlers", "I"), .int, false), (1025, ("WaysAtlas$Program", "code", "LWaysAtlas$Lower;"), .object "WaysAtlas$Lower", false), (1026, ("WaysAtlas$Plan", "part", "[I"), .array (.int), true), (1027, ("WaysAtlas$Plan", "time", "[I"), .array (.int), true), (1028, ("WaysAtlas$Plan", "kind", "[I"), .array (.int), true), (16, ("WaysAtlas$Plan", "many", "I"), .int, false), (1029, ("WaysAtlas$Run", "program", "LWaysAtlas$Program;"), .object "WaysAtlas$Program", false), (1030, ("WaysAtlas$Run", "plan", "LWaysAtlas$Plan;"), .object "WaysAtlas$Plan", false), (1031, ("WaysAtlas$Run", "frames", "[LWaysAtlas$Frame;"), .array (.object "WaysAtlas$Frame"), true), (17, ("WaysAtlas$Run", "deep", "I"), .int, false), (18, ("WaysAtlas$Run", "deepest", "I"), .int, false), (19, ("WaysAtlas$Run", "steps", "I"), .int, false), (20, ("WaysAtlas$Run", "most", "I"), .int, false), (1032, ("WaysAtlas$Run", "tape", "[I"), .array (.int), true), (21, ("WaysAtlas$Run", "marks", "I"), .int, false), (1033, ("WaysAtlas$Run", "kind", "[I"), .array (.int), true), (1034, ("WaysAtlas$Run", "cause", "[I"), .array (.int), true), (1035, ("WaysAtlas$Run", "first", "[I"), .array (.int), true), (1036, ("WaysAtlas$Run", "next", "[I"), .array (.int), true), (1037, ("WaysAtlas$Run", "statement", "[I"), .array (.int), true), (1038, ("WaysAtlas$Run", "under", "[I"), .array (.int), true), (1039, ("WaysAtlas$Run", "trace", "[I"), .array (.int), true), (22, ("WaysAtlas$Run", "failures", "I"), .int, false), (23, ("WaysAtlas$Run", "opened", "I"), .int, false), (1040, ("WaysAtlas$Run", "closed", "[I"), .array (.int), true), (24, ("WaysAtlas$Run", "closes", "I"), .int, false), (25, ("WaysAtlas$Run", "lost", "I"), .int, false), (1041, ("WaysAtlas$Run", "entered", "[I"), .array (.int), true), (1042, ("WaysAtlas$Run", "passed", "[I"), .array (.int), true), (1043, ("WaysAtlas$Run", "passings", "[I"), .array (.int), true), (26, ("WaysAtlas$Run", "passingMany", "I"), .int, false), (1044, ("WaysAtlas$Run", "rowSize", "[I"), .array (.int), true), (1045, ("WaysAtlas$Run", "cells", "[I"), .array (.int), true), (27, ("WaysAtlas$Run", "rowMany", "I"), .int, false), (28, ("WaysAtlas$Run", "ended", "I"), .int, false), (29, ("WaysAtlas$Run", "given", "I"), .int, false), (30, ("WaysAtlas$Run", "failure", "I"), .int, false), (31, ("WaysAtlas$Run", "failing", "I"), .int, false), (1046, ("WaysAtlas$Run", "thrown", "LWaysAtlas$Thrown;"), .object "WaysAtlas$Thrown", true), (1047, ("WaysAtlas$Run", "spent", "LWaysAtlas$Spent;"), .object "WaysAtlas$Spent", true), (1048, ("java/lang/Throwable", "cause", "Ljava/lang/Throwable;"), .object "java/lang/Throwable", false), (1049, ("java/lang/Throwable", "stackTrace", "[Ljava/lang/StackTraceElement;"), .array (.object "java/lang/StackTraceElement"), false), (1050, ("java/lang/Throwable", "suppressedExceptions", "Ljava/util/List;"), .object "java/util/List", false), (1051, ("java/lang/Throwable", "detailMessage", "Ljava/lang/String;"), .object "java/lang/String", false), (1052, ("java/lang/Throwable", "backtrace", "Ljava/lang/Object;"), .object "java/lang/Object", false), (32, ("java/lang/Throwable", "depth", "I"), .int, false), (33, ("WaysAtlas$Thrown", "failure", "I"), .int, false), (1053, ("WaysAtlas$Frame", "vars", "[I"), .array (.int), true), (1054, ("WaysAtlas$Frame", "rows", "[I"), .array (.int), true), (1055, ("WaysAtlas$Frame", "slots", "[I"), .array (.int), true), (34, ("WaysAtlas$Frame", "result", "I"), .int, false), (1056, ("WaysAtlas$Frame", "method", "LWaysAtlas$Method;"), .object "WaysAtlas$Method", false), (35, ("WaysAtlas$Frame", "at", "I"), .int, false), (36, ("WaysAtlas$Frame", "pc", "I"), .int, false), (37, ("WaysAtlas$Frame", "into", "I"), .int, false), (1057, ("WaysAtlasModel", "words", "[J"), .array (.long), true), (1058, ("WaysAtlasModel", "text", "[B"), .array (.byte), true), (38, ("WaysAtlasModel", "size", "I"), .int, false), (39, ("WaysAtlasModel", "at", "I"), .int, false), (40, ("WaysAtlasModel", "token", "I"), .int, false), (41, ("WaysAtlasModel", "tokenAt", "I"), .int, false), (42, ("WaysAtlasModel", "which", "I"), .int, false), (43, ("WaysAtlasModel", "value", "I"), .int, false), (44, ("WaysAtlasModel", "live", "I"), .int, false), (45, ("WaysAtlasModel", "draft", "I"), .int, false), (46, ("WaysAtlasModel", "hasProgram", "Z"), .boolean, false), (1059, ("WaysAtlasModel", "stat", "[I"), .array (.int), true), (1060, ("WaysAtlasModel", "statements", "[I"), .array (.int), true), (1061, ("WaysAtlasModel", "entryKind", "[I"), .array (.int), true), (1062, ("WaysAtlasModel", "entryValue", "[I"), .array (.int), true), (1063, ("WaysAtlasModel", "firstOf", "[I"), .array (.int), true), (1064, ("WaysAtlasModel", "catchOf", "[I"), .array (.int), true), (1065, ("WaysAtlasModel", "catchKind", "[I"), .array (.int), true), (1066, ("WaysAtlasModel", "catchBlock", "[I"), .array (.int), true), (1067, ("WaysAtlasModel", "catches", "[I"), .array (.int), true), (1068, ("WaysAtlasModel", "body", "[I"), .array (.int), true), (1069, ("WaysAtlasModel", "methods", "[I"), .array (.int), true), (1070, ("WaysAtlasModel", "above", "[I"), .array (.int), true), (1071, ("WaysAtlasModel", "kinds", "[I"), .array (.int), true), (47, ("WaysAtlasModel", "entries", "I"), .int, false), (48, ("WaysAtlasModel", "blocks", "I"), .int, false), (49, ("WaysAtlasModel", "fault", "I"), .int, false), (50, ("WaysAtlasModel", "faultAt", "I"), .int, false), (51, ("WaysAtlasModel", "faultTold", "I"), .int, false), (52, ("WaysAtlasModel", "checks", "I"), .int, false), (1072, ("WaysAtlasModel", "checkHow", "[I"), .array (.int), true), (1073, ("WaysAtlasModel", "checkAt", "[I"), .array (.int), true), (1074, ("WaysAtlasModel", "checkValue", "[I"), .array (.int), true), (53, ("WaysAtlasModel", "waits", "I"), .int, false), (1075, ("WaysAtlasModel", "wait", "[I"), .array (.int), true), (1076, ("WaysAtlasModel", "waitValue", "[I"), .array (.int), true), (54, ("WaysAtlasModel", "deep", "I"), .int, false), (55, ("WaysAtlasModel", "isOver", "Z"), .boolean, false), (56, ("WaysAtlasModel", "piled", "I"), .int, false), (1077, ("WaysAtlasModel", "pileKind", "[I"), .array (.int), true), (1078, ("WaysAtlasModel", "pileStatement", "[I"), .array (.int), true), (1079, ("WaysAtlasModel", "pileBlock", "[I"), .array (.int), true), (1080, ("WaysAtlasModel", "pileLast", "[I"), .array (.int), true), (57, ("WaysAtlasModel", "planned", "I"), .int, false), (1081, ("WaysAtlasModel", "planStatement", "[I"), .array (.int), true), (1082, ("WaysAtlasModel", "planPart", "[I"), .array (.int), true), (1083, ("WaysAtlasModel", "planTime", "[I"), .array (.int), true), (1084, ("WaysAtlasModel", "planKind", "[I"), .array (.int), true), (1085, ("WaysAtlasModel", "hasRun", "[Z"), .array (.boolean), true), (58, ("WaysAtlasModel", "slot", "I"), .int, false), (1086, ("WaysAtlasModel", "told", "[I"), .array (.int), true), (1087, ("WaysAtlasModel", "tape", "[I"), .array (.int), true), (1088, ("WaysAtlasModel", "failedKind", "[I"), .array (.int), true), (1089, ("WaysAtlasModel", "cause", "[I"), .array (.int), true), (1090, ("WaysAtlasModel", "underFirst", "[I"), .array (.int), true), (1091, ("WaysAtlasModel", "underNext", "[I"), .array (.int), true), (1092, ("WaysAtlasModel", "failedAt", "[I"), .array (.int), true), (1093, ("WaysAtlasModel", "underWay", "[I"), .array (.int), true), (1094, ("WaysAtlasModel", "traces", "[I"), .array (.int), true), (1095, ("WaysAtlasModel", "closings", "[I"), .array (.int), true), (1096, ("WaysAtlasModel", "enteredOf", "[I"), .array (.int), true), (59, ("WaysAtlasModel", "left", "I"), .int, false), (60, ("WaysAtlasModel", "ended", "I"), .int, false), (61, ("WaysAtlasModel", "signal", "I"), .int, false), (62, ("WaysAtlasModel", "signalValue", "I"), .int, false), (63, ("WaysAtlasModel", "frames", "I"), .int, false), (1097, ("WaysAtlasModel", "frameKind", "[I"), .array (.int), true), (1098, ("WaysAtlasModel", "frameStatement", "[I"), .array (.int), true), (1099, ("WaysAtlasModel", "frameNow", "[I"), .array (.int), true), (1100, ("WaysAtlasModel", "pending", "[I"), .array (.int), true), (1101, ("WaysAtlasModel", "pendingValue", "[I"), .array (.int), true), (1102, ("WaysAtlasModel", "firstResource", "[I"), .array (.int), true), (1103, ("WaysAtlasModel", "openedOf", "[I"), .array (.int), true), (1104, ("WaysAtlasModel", "caught", "[I"), .array (.int), true), (64, ("WaysAtlasModel", "acts", "I"), .int, false), (1105, ("WaysAtlasModel", "actVar", "[I"), .array (.int), true), (1106, ("WaysAtlasModel", "actRow", "[I"), .array (.int), true), (1107, ("WaysAtlasModel", "actMethod", "[I"), .array (.int), true), (1108, ("WaysAtlasModel", "actStatement", "[I"), .array (.int), true), (65, ("WaysAtlasModel", "rows", "I"), .int, false), (1109, ("WaysAtlasModel", "rowSize", "[I"), .array (.int), true), (1110, ("WaysAtlasModel", "rowItem", "[I"), .array (.int), true), (1111, ("WaysAtlasModel", "passed", "[I"), .array (.int), true), (66, ("WaysAtlasModel", "planning", "I"), .int, false), (67, ("WaysAtlasModel", "aloneStatement", "I"), .int, false), (68, ("WaysAtlasModel", "alonePart", "I"), .int, false), (69, ("WaysAtlasModel", "aloneTime", "I"), .int, false), (70, ("WaysAtlasModel", "quiet", "I"), .int, false), (1112, ("WaysAtlasModel", "quietStatement", "[I"), .array (.int), true), (1113, ("WaysAtlasModel", "quietPart", "[I"), .array (.int), true), (1114, ("WaysAtlasModel", "quietTime", "[I"), .array (.int), true), (1115, ("WaysAtlasModel", "stack", "[I"), .array (.int), true), (71, ("WaysAtlasModel", "stacked", "I"), .int, false), (72, ("WaysAtlasModel", "wrong", "I"), .int, false), (1116, ("WaysAtlasModel", "wayOut", "[I"), .array (.int), true), (73, ("WaysAtlasModel", "wayOuts", "I"), .int, false), (74, ("WaysAtlas$Fault", "kind", "I"), .int, true), (75, ("WaysAtlas$Fault", "place", "I"), .int, true), (76, ("WaysAtlas$Method", "number", "I"), .int, true), (1117, ("WaysAtlas$Method", "block", "[LWaysAtlas$Statement;"), .array (.object "WaysAtlas$Statement"), false), (77, ("WaysAtlas$Method", "from", "I"), .int, false), (78, ("WaysAtlas$Sign", "sign", "I"), .int, true), (1118, ("WaysAtlas$Sign", "left", "LWaysAtlas$Node;"), .object "WaysAtlas$Node", true), (1119, ("WaysAtlas$Sign", "right", "LWaysAtlas$Node;"), .object "WaysAtlas$Node", true), (79, ("WaysAtlas$Number", "v", "I"), .int, true), (80, ("WaysAtlas$Var", "v", "I"), .int, true), (81, ("WaysAtlas$Place", "row", "I"), .int, true), (1120, ("WaysAtlas$Place", "at", "LWaysAtlas$Node;"), .object "WaysAtlas$Node", true), (82, ("WaysAtlas$Statement", "number", "I"), .int, true), (83, ("WaysAtlas$Call", "into", "I"), .int, true), (84, ("WaysAtlas$Call", "method", "I"), .int, true), (1121, ("WaysAtlas$Call", "a", "LWaysAtlas$Node;"), .object "WaysAtlas$Node", true), (1122, ("WaysAtlas$Call", "b", "LWaysAtlas$Node;"), .object "WaysAtlas$Node", true), (85, ("WaysAtlas$SetVar", "v", "I"), .int, true), (1123, ("WaysAtlas$SetVar", "of", "LWaysAtlas$Node;"), .object "WaysAtlas$Node", true), (1124, ("WaysAtlas$PutRow", "place", "LWaysAtlas$Place;"), .object "WaysAtlas$Place", true), (1125, ("WaysAtlas$PutRow", "of", "LWaysAtlas$Node;"), .object "WaysAtlas$Node", true), (86, ("WaysAtlas$NewRow", "row", "I"), .int, true), (1126, ("WaysAtlas$NewRow", "of", "LWaysAtlas$Node;"), .object "WaysAtlas$Node", true), (87, ("WaysAtlas$SameRow", "row", "I"), .int, true), (88, ("WaysAtlas$SameRow", "other", "I"), .int, true), (89, ("WaysAtlas$Mark", "v", "I"), .int, true), (1127, ("WaysAtlas$Return", "of", "LWaysAtlas$Node;"), .object "WaysAtlas$Node", true), (1128, ("WaysAtlas$If", "left", "LWaysAtlas$Node;"), .object "WaysAtlas$Node", true), (90, ("WaysAtlas$If", "sign", "I"), .int, true), (1129, ("WaysAtlas$If", "right", "LWaysAtlas$Node;"), .object "WaysAtlas$Node", true), (1130, ("WaysAtlas$If", "then", "[LWaysAtlas$Statement;"), .array (.object "WaysAtlas$Statement"), false), (1131, ("WaysAtlas$If", "other", "[LWaysAtlas$Statement;"), .array (.object "WaysAtlas$Statement"), false), (1132, ("WaysAtlas$Loop", "of", "LWaysAtlas$Node;"), .object "WaysAtlas$Node", true), (1133, ("WaysAtlas$Loop", "block", "[LWaysAtlas$Statement;"), .array (.object "WaysAtlas$Statement"), false), (91, ("WaysAtlas$Leave", "way", "I"), .int, true), (92, ("WaysAtlas$Throw", "kind", "I"), .int, true), (93, ("WaysAtlas$Again", "kind", "I"), .int, true), (1134, ("WaysAtlas$Again", "of", "LWaysAtlas$Guard;"), .object "WaysAtlas$Guard", true), (94, ("WaysAtlas$Guard", "resources", "I"), .int, true), (1135, ("WaysAtlas$Guard", "block", "[LWaysAtlas$Statement;"), .array (.object "WaysAtlas$Statement"), false), (1136, ("WaysAtlas$Guard", "kinds", "[I"), .array (.int), false), (1137, ("WaysAtlas$Guard", "catches", "[[LWaysAtlas$Statement;"), .array (.array (.object "WaysAtlas$Statement")), false), (95, ("WaysAtlas$Guard", "many", "I"), .int, false), (1138, ("WaysAtlas$Guard", "finish", "[LWaysAtlas$Statement;"), .array (.object "WaysAtlas$Statement"), false), (96, ("WaysAtlas$Scope", "sort", "I"), .int, true), (1139, ("WaysAtlas$Scope", "of", "LWaysAtlas$Statement;"), .object "WaysAtlas$Statement", true), (1140, ("WaysAtlas$Scope", "outer", "LWaysAtlas$Scope;"), .object "WaysAtlas$Scope", true), (1141, ("WaysAtlas$Scope", "gaps", "[I"), .array (.int), false), (97, ("WaysAtlas$Scope", "gapMany", "I"), .int, false), (1142, ("WaysAtlas$Scope", "jumps", "[I"), .array (.int), false), (98, ("WaysAtlas$Scope", "many", "I"), .int, false), (99, ("WaysAtlas$Scope", "goal", "I"), .int, false), (1143, ("WaysAtlas$Lower", "ops", "[I"), .array (.int), false), (100, ("WaysAtlas$Lower", "size", "I"), .int, false), (1144, ("WaysAtlas$Lower", "table", "[I"), .array (.int), false), (101, ("WaysAtlas$Lower", "rows", "I"), .int, false), (102, ("WaysAtlas$Lower", "isShared", "Z"), .boolean, true), (1145, ("WaysAtlas$Lower", "scope", "LWaysAtlas$Scope;"), .object "WaysAtlas$Scope", false)]
def xgX (g : Nat) : (String × String × String) × FieldType × Bool := xlk xgL (("", "", ""), .int, false) g
def xgF (g : Nat) : String × String × String := (xgX g).1
def xgT (g : Nat) : FieldType := (xgX g).2.1
def xgN (g : Nat) : Bool := (xgX g).2.2
theorem xcl_nd : (xclL.map (·.1)).Nodup := by decide
theorem xcl_in : ∀ q ∈ xclL, ∀ w ∈ u_ws q.2.1 q.2.2.1 q.2.2.2, w ∈ lw_all := by
  intro q hq
  simp only [xclL, List.mem_cons, List.not_mem_nil, or_false] at hq
  rcases hq with rfl | rfl | rfl | rfl | rfl | rfl | rfl | rfl | rfl | rfl | rfl | rfl | rfl | rfl | rfl | rfl | rfl | rfl | rfl | rfl | rfl | rfl | rfl | rfl | rfl | rfl | rfl | rfl | rfl | rfl | rfl
  · exact in_X0
  · exact in_X1
  · exact in_X2
  · exact in_X3
  · exact in_X4
  · exact in_X5
  · exact in_X6
  · exact in_X7
  · exact in_X8
  · exact in_X9
  · exact in_X10
  · exact in_X11
  · exact in_X13
  · exact in_X14
  · exact in_X15
  · exact in_X16
  · exact in_X18
  · exact in_X20
  · exact in_X21
  · exact in_X22
  · exact in_X23
  · exact in_X24
  · exact in_X25
  · exact in_X26
  · exact in_X27
  · exact in_X28
  · exact in_X29
  · exact in_X30
  · exact in_X31
  · exact in_X32
  · exact in_X33
theorem xcl_nm : ∀ q ∈ xclL, ∀ a, a < q.2.2.2 → ∀ b, b < q.2.2.2 → a ≠ b → (q.2.2.1 a).2.1 ≠ (q.2.2.1 b).2.1 := by
  intro q hq
  simp only [xclL, List.mem_cons, List.not_mem_nil, or_false] at hq
  rcases hq with rfl | rfl | rfl | rfl | rfl | rfl | rfl | rfl | rfl | rfl | rfl | rfl | rfl | rfl | rfl | rfl | rfl | rfl | rfl | rfl | rfl | rfl | rfl | rfl | rfl | rfl | rfl | rfl | rfl | rfl | rfl
  · exact nmX0
  · exact nmX1
  · exact nmX2
  · exact nmX3
  · exact nmX4
  · exact nmX5
  · exact nmX6
  · exact nmX7
  · exact nmX8
  · exact nmX9
  · exact nmX10
  · exact nmX11
  · exact nmX13
  · exact nmX14
  · exact nmX15
  · exact nmX16
  · exact nmX18
  · exact nmX20
  · exact nmX21
  · exact nmX22
  · exact nmX23
  · exact nmX24
  · exact nmX25
  · exact nmX26
  · exact nmX27
  · exact nmX28
  · exact nmX29
  · exact nmX30
  · exact nmX31
  · exact nmX32
  · exact nmX33
theorem xcl_len : ∀ q ∈ xclL, (xlk xgdL [] q.1).length = q.2.2.2 := by decide +kernel
theorem xg_X0 : ∀ k, k < 10 → TX0 k = ((xgF (xgid 0 k)).1, (xgF (xgid 0 k)).2.1, (xgF (xgid 0 k)).2.2, xgN (xgid 0 k)) ∧ tyX0 k = xgT (xgid 0 k) := by decide +kernel
theorem xg_X1 : ∀ k, k < 7 → TX1 k = ((xgF (xgid 1 k)).1, (xgF (xgid 1 k)).2.1, (xgF (xgid 1 k)).2.2, xgN (xgid 1 k)) ∧ tyX1 k = xgT (xgid 1 k) := by decide +kernel
theorem xg_X2 : ∀ k, k < 13 → TX2 k = ((xgF (xgid 2 k)).1, (xgF (xgid 2 k)).2.1, (xgF (xgid 2 k)).2.2, xgN (xgid 2 k)) ∧ tyX2 k = xgT (xgid 2 k) := by decide +kernel
theorem xg_X3 : ∀ k, k < 10 → TX3 k = ((xgF (xgid 3 k)).1, (xgF (xgid 3 k)).2.1, (xgF (xgid 3 k)).2.2, xgN (xgid 3 k)) ∧ tyX3 k = xgT (xgid 3 k) := by decide +kernel
theorem xg_X4 : ∀ k, k < 4 → TX4 k = ((xgF (xgid 4 k)).1, (xgF (xgid 4 k)).2.1, (xgF (xgid 4 k)).2.2, xgN (xgid 4 k)) ∧ tyX4 k = xgT (xgid 4 k) := by decide +kernel
theorem xg_X5 : ∀ k, k < 34 → TX5 k = ((xgF (xgid 5 k)).1, (xgF (xgid 5 k)).2.1, (xgF (xgid 5 k)).2.2, xgN (xgid 5 k)) ∧ tyX5 k = xgT (xgid 5 k) := by decide +kernel
theorem xg_X6 : ∀ k, k < 7 → TX6 k = ((xgF (xgid 6 k)).1, (xgF (xgid 6 k)).2.1, (xgF (xgid 6 k)).2.2, xgN (xgid 6 k)) ∧ tyX6 k = xgT (xgid 6 k) := by decide +kernel
theorem xg_X7 : ∀ k, k < 6 → TX7 k = ((xgF (xgid 7 k)).1, (xgF (xgid 7 k)).2.1, (xgF (xgid 7 k)).2.2, xgN (xgid 7 k)) ∧ tyX7 k = xgT (xgid 7 k) := by decide +kernel
theorem xg_X8 : ∀ k, k < 8 → TX8 k = ((xgF (xgid 8 k)).1, (xgF (xgid 8 k)).2.1, (xgF (xgid 8 k)).2.2, xgN (xgid 8 k)) ∧ tyX8 k = xgT (xgid 8 k) := by decide +kernel
theorem xg_X9 : ∀ k, k < 96 → TX9 k = ((xgF (xgid 9 k)).1, (xgF (xgid 9 k)).2.1, (xgF (xgid 9 k)).2.2, xgN (xgid 9 k)) ∧ tyX9 k = xgT (xgid 9 k) := by decide +kernel
theorem xg_X10 : ∀ k, k < 8 → TX10 k = ((xgF (xgid 10 k)).1, (xgF (xgid 10 k)).2.1, (xgF (xgid 10 k)).2.2, xgN (xgid 10 k)) ∧ tyX10 k = xgT (xgid 10 k) := by decide +kernel
theorem xg_X11 : ∀ k, k < 3 → TX11 k = ((xgF (xgid 11 k)).1, (xgF (xgid 11 k)).2.1, (xgF (xgid 11 k)).2.2, xgN (xgid 11 k)) ∧ tyX11 k = xgT (xgid 11 k) := by decide +kernel
theorem xg_X13 : ∀ k, k < 3 → TX13 k = ((xgF (xgid 13 k)).1, (xgF (xgid 13 k)).2.1, (xgF (xgid 13 k)).2.2, xgN (xgid 13 k)) ∧ tyX13 k = xgT (xgid 13 k) := by decide +kernel
theorem xg_X14 : ∀ k, k < 1 → TX14 k = ((xgF (xgid 14 k)).1, (xgF (xgid 14 k)).2.1, (xgF (xgid 14 k)).2.2, xgN (xgid 14 k)) ∧ tyX14 k = xgT (xgid 14 k) := by decide +kernel
theorem xg_X15 : ∀ k, k < 1 → TX15 k = ((xgF (xgid 15 k)).1, (xgF (xgid 15 k)).2.1, (xgF (xgid 15 k)).2.2, xgN (xgid 15 k)) ∧ tyX15 k = xgT (xgid 15 k) := by decide +kernel
theorem xg_X16 : ∀ k, k < 2 → TX16 k = ((xgF (xgid 16 k)).1, (xgF (xgid 16 k)).2.1, (xgF (xgid 16 k)).2.2, xgN (xgid 16 k)) ∧ tyX16 k = xgT (xgid 16 k) := by decide +kernel
theorem xg_X18 : ∀ k, k < 5 → TX18 k = ((xgF (xgid 18 k)).1, (xgF (xgid 18 k)).2.1, (xgF (xgid 18 k)).2.2, xgN (xgid 18 k)) ∧ tyX18 k = xgT (xgid 18 k) := by decide +kernel
theorem xg_X20 : ∀ k, k < 3 → TX20 k = ((xgF (xgid 20 k)).1, (xgF (xgid 20 k)).2.1, (xgF (xgid 20 k)).2.2, xgN (xgid 20 k)) ∧ tyX20 k = xgT (xgid 20 k) := by decide +kernel
theorem xg_X21 : ∀ k, k < 3 → TX21 k = ((xgF (xgid 21 k)).1, (xgF (xgid 21 k)).2.1, (xgF (xgid 21 k)).2.2, xgN (xgid 21 k)) ∧ tyX21 k = xgT (xgid 21 k) := by decide +kernel
theorem xg_X22 : ∀ k, k < 3 → TX22 k = ((xgF (xgid 22 k)).1, (xgF (xgid 22 k)).2.1, (xgF (xgid 22 k)).2.2, xgN (xgid 22 k)) ∧ tyX22 k = xgT (xgid 22 k) := by decide +kernel
theorem xg_X23 : ∀ k, k < 3 → TX23 k = ((xgF (xgid 23 k)).1, (xgF (xgid 23 k)).2.1, (xgF (xgid 23 k)).2.2, xgN (xgid 23 k)) ∧ tyX23 k = xgT (xgid 23 k) := by decide +kernel
theorem xg_X24 : ∀ k, k < 2 → TX24 k = ((xgF (xgid 24 k)).1, (xgF (xgid 24 k)).2.1, (xgF (xgid 24 k)).2.2, xgN (xgid 24 k)) ∧ tyX24 k = xgT (xgid 24 k) := by decide +kernel
theorem xg_X25 : ∀ k, k < 2 → TX25 k = ((xgF (xgid 25 k)).1, (xgF (xgid 25 k)).2.1, (xgF (xgid 25 k)).2.2, xgN (xgid 25 k)) ∧ tyX25 k = xgT (xgid 25 k) := by decide +kernel
theorem xg_X26 : ∀ k, k < 6 → TX26 k = ((xgF (xgid 26 k)).1, (xgF (xgid 26 k)).2.1, (xgF (xgid 26 k)).2.2, xgN (xgid 26 k)) ∧ tyX26 k = xgT (xgid 26 k) := by decide +kernel
theorem xg_X27 : ∀ k, k < 3 → TX27 k = ((xgF (xgid 27 k)).1, (xgF (xgid 27 k)).2.1, (xgF (xgid 27 k)).2.2, xgN (xgid 27 k)) ∧ tyX27 k = xgT (xgid 27 k) := by decide +kernel
theorem xg_X28 : ∀ k, k < 2 → TX28 k = ((xgF (xgid 28 k)).1, (xgF (xgid 28 k)).2.1, (xgF (xgid 28 k)).2.2, xgN (xgid 28 k)) ∧ tyX28 k = xgT (xgid 28 k) := by decide +kernel
theorem xg_X29 : ∀ k, k < 2 → TX29 k = ((xgF (xgid 29 k)).1, (xgF (xgid 29 k)).2.1, (xgF (xgid 29 k)).2.2, xgN (xgid 29 k)) ∧ tyX29 k = xgT (xgid 29 k) := by decide +kernel
theorem xg_X30 : ∀ k, k < 3 → TX30 k = ((xgF (xgid 30 k)).1, (xgF (xgid 30 k)).2.1, (xgF (xgid 30 k)).2.2, xgN (xgid 30 k)) ∧ tyX30 k = xgT (xgid 30 k) := by decide +kernel
theorem xg_X31 : ∀ k, k < 7 → TX31 k = ((xgF (xgid 31 k)).1, (xgF (xgid 31 k)).2.1, (xgF (xgid 31 k)).2.2, xgN (xgid 31 k)) ∧ tyX31 k = xgT (xgid 31 k) := by decide +kernel
theorem xg_X32 : ∀ k, k < 8 → TX32 k = ((xgF (xgid 32 k)).1, (xgF (xgid 32 k)).2.1, (xgF (xgid 32 k)).2.2, xgN (xgid 32 k)) ∧ tyX32 k = xgT (xgid 32 k) := by decide +kernel
theorem xg_X33 : ∀ k, k < 6 → TX33 k = ((xgF (xgid 33 k)).1, (xgF (xgid 33 k)).2.1, (xgF (xgid 33 k)).2.2, xgN (xgid 33 k)) ∧ tyX33 k = xgT (xgid 33 k) := by decide +kernel
theorem xcl_g : ∀ q ∈ xclL, ∀ k, k < q.2.2.2 → q.2.2.1 k = ((xgF (xgid q.1 k)).1, (xgF (xgid q.1 k)).2.1, (xgF (xgid q.1 k)).2.2, xgN (xgid q.1 k)) ∧ parseFieldDescriptor (q.2.2.1 k).2.2.1 = some (xgT (xgid q.1 k)) := by
  intro q hq
  simp only [xclL, List.mem_cons, List.not_mem_nil, or_false] at hq
  rcases hq with rfl | rfl | rfl | rfl | rfl | rfl | rfl | rfl | rfl | rfl | rfl | rfl | rfl | rfl | rfl | rfl | rfl | rfl | rfl | rfl | rfl | rfl | rfl | rfl | rfl | rfl | rfl | rfl | rfl | rfl | rfl
  · exact fun k hk => ⟨(xg_X0 k hk).1, by rw [← (xg_X0 k hk).2]; exact tyX0_ok k hk⟩
  · exact fun k hk => ⟨(xg_X1 k hk).1, by rw [← (xg_X1 k hk).2]; exact tyX1_ok k hk⟩
  · exact fun k hk => ⟨(xg_X2 k hk).1, by rw [← (xg_X2 k hk).2]; exact tyX2_ok k hk⟩
  · exact fun k hk => ⟨(xg_X3 k hk).1, by rw [← (xg_X3 k hk).2]; exact tyX3_ok k hk⟩
  · exact fun k hk => ⟨(xg_X4 k hk).1, by rw [← (xg_X4 k hk).2]; exact tyX4_ok k hk⟩
  · exact fun k hk => ⟨(xg_X5 k hk).1, by rw [← (xg_X5 k hk).2]; exact tyX5_ok k hk⟩
  · exact fun k hk => ⟨(xg_X6 k hk).1, by rw [← (xg_X6 k hk).2]; exact tyX6_ok k hk⟩
  · exact fun k hk => ⟨(xg_X7 k hk).1, by rw [← (xg_X7 k hk).2]; exact tyX7_ok k hk⟩
  · exact fun k hk => ⟨(xg_X8 k hk).1, by rw [← (xg_X8 k hk).2]; exact tyX8_ok k hk⟩
  · exact fun k hk => ⟨(xg_X9 k hk).1, by rw [← (xg_X9 k hk).2]; exact tyX9_ok k hk⟩
  · exact fun k hk => ⟨(xg_X10 k hk).1, by rw [← (xg_X10 k hk).2]; exact tyX10_ok k hk⟩
  · exact fun k hk => ⟨(xg_X11 k hk).1, by rw [← (xg_X11 k hk).2]; exact tyX11_ok k hk⟩
  · exact fun k hk => ⟨(xg_X13 k hk).1, by rw [← (xg_X13 k hk).2]; exact tyX13_ok k hk⟩
  · exact fun k hk => ⟨(xg_X14 k hk).1, by rw [← (xg_X14 k hk).2]; exact tyX14_ok k hk⟩
  · exact fun k hk => ⟨(xg_X15 k hk).1, by rw [← (xg_X15 k hk).2]; exact tyX15_ok k hk⟩
  · exact fun k hk => ⟨(xg_X16 k hk).1, by rw [← (xg_X16 k hk).2]; exact tyX16_ok k hk⟩
  · exact fun k hk => ⟨(xg_X18 k hk).1, by rw [← (xg_X18 k hk).2]; exact tyX18_ok k hk⟩
  · exact fun k hk => ⟨(xg_X20 k hk).1, by rw [← (xg_X20 k hk).2]; exact tyX20_ok k hk⟩
  · exact fun k hk => ⟨(xg_X21 k hk).1, by rw [← (xg_X21 k hk).2]; exact tyX21_ok k hk⟩
  · exact fun k hk => ⟨(xg_X22 k hk).1, by rw [← (xg_X22 k hk).2]; exact tyX22_ok k hk⟩
  · exact fun k hk => ⟨(xg_X23 k hk).1, by rw [← (xg_X23 k hk).2]; exact tyX23_ok k hk⟩
  · exact fun k hk => ⟨(xg_X24 k hk).1, by rw [← (xg_X24 k hk).2]; exact tyX24_ok k hk⟩
  · exact fun k hk => ⟨(xg_X25 k hk).1, by rw [← (xg_X25 k hk).2]; exact tyX25_ok k hk⟩
  · exact fun k hk => ⟨(xg_X26 k hk).1, by rw [← (xg_X26 k hk).2]; exact tyX26_ok k hk⟩
  · exact fun k hk => ⟨(xg_X27 k hk).1, by rw [← (xg_X27 k hk).2]; exact tyX27_ok k hk⟩
  · exact fun k hk => ⟨(xg_X28 k hk).1, by rw [← (xg_X28 k hk).2]; exact tyX28_ok k hk⟩
  · exact fun k hk => ⟨(xg_X29 k hk).1, by rw [← (xg_X29 k hk).2]; exact tyX29_ok k hk⟩
  · exact fun k hk => ⟨(xg_X30 k hk).1, by rw [← (xg_X30 k hk).2]; exact tyX30_ok k hk⟩
  · exact fun k hk => ⟨(xg_X31 k hk).1, by rw [← (xg_X31 k hk).2]; exact tyX31_ok k hk⟩
  · exact fun k hk => ⟨(xg_X32 k hk).1, by rw [← (xg_X32 k hk).2]; exact tyX32_ok k hk⟩
  · exact fun k hk => ⟨(xg_X33 k hk).1, by rw [← (xg_X33 k hk).2]; exact tyX33_ok k hk⟩
theorem xcl_dd : ∀ q ∈ xgdL, ∀ g ∈ q.2, defaultValue (xgT g) = (if 1000 ≤ g then Value.null else Value.int 0) := by decide +kernel
theorem xlk_mem {α : Type} {l : List (Nat × α)} {d : α} {k : Nat} : xlk l d k = d ∨ (k, xlk l d k) ∈ l := by
  induction l with
  | nil => exact Or.inl rfl
  | cons b r ih =>
    unfold xlk
    by_cases h : b.1 = k
    · rw [if_pos h]
      exact Or.inr (List.mem_cons.mpr (Or.inl (by rw [← h])))
    · rw [if_neg h]
      exact ih.imp id (List.mem_cons_of_mem _)
theorem xcl_d : ∀ q ∈ xclL, ∀ k, k < q.2.2.2 → defaultValue (xgT (xgid q.1 k)) = (if 1000 ≤ xgid q.1 k then Value.null else Value.int 0) := by
  intro q hq k hk
  rw [← xcl_len q hq] at hk
  have hg : xgid q.1 k ∈ xlk xgdL [] q.1 := by
    unfold xgid
    rw [List.getD_eq_getElem?_getD, List.getElem?_eq_getElem hk]
    exact List.getElem_mem hk
  rcases xlk_mem (l := xgdL) (d := []) (k := q.1) with h | h
  · rw [h] at hk
    exact absurd hk (Nat.not_lt_zero _)
  · exact xcl_dd _ h _ hg
def xaty : Nat → FieldType := fun k => match k with
  | 0 => .int
  | 1 => .byte
  | 2 => .boolean
  | 3 => .long
  | 4 => .object "WaysAtlas$Statement"
  | 5 => .array (.object "WaysAtlas$Statement")
  | 6 => .object "WaysAtlas$Method"
  | 7 => .object "WaysAtlas$Guard"
  | 8 => .object "WaysAtlas$Frame"
  | _ => .object "java/lang/String"
def xnF : List (String × Nat × String × String × String × String) := [("WaysAtlas$Again", 19, "WaysAtlas$Frame", "slots", "[I", "WaysAtlas"), ("WaysAtlas$Again", 31, "WaysAtlas$Run", "thrown", "LWaysAtlas$Thrown;", "WaysAtlas"), ("WaysAtlas$Call", 31, "WaysAtlas$Run", "program", "LWaysAtlas$Program;", "WaysAtlas"), ("WaysAtlas$Call", 37, "WaysAtlas$Program", "methods", "[LWaysAtlas$Method;", "WaysAtlas"), ("WaysAtlas$Call", 53, "WaysAtlas$Frame", "vars", "[I", "WaysAtlas"), ("WaysAtlas$Frame", 32, "WaysAtlas$Method", "from", "I", "WaysAtlas"), ("WaysAtlas$Guard", 105, "WaysAtlas$Run", "kind", "[I", "WaysAtlas"), ("WaysAtlas$Guard", 115, "WaysAtlas$Frame", "result", "I", "WaysAtlas"), ("WaysAtlas$Guard", 118, "WaysAtlas$Run", "entered", "[I", "WaysAtlas"), ("WaysAtlas$Guard", 121, "WaysAtlas$Run", "lost", "I", "WaysAtlas"), ("WaysAtlas$Guard", 46, "WaysAtlas$Run", "program", "LWaysAtlas$Program;", "WaysAtlas"), ("WaysAtlas$Guard", 62, "WaysAtlas$Frame", "slots", "[I", "WaysAtlas"), ("WaysAtlas$Guard", 71, "WaysAtlas$Run", "failing", "I", "WaysAtlas"), ("WaysAtlas$Guard", 83, "WaysAtlas$Thrown", "failure", "I", "WaysAtlas"), ("WaysAtlas$Guard", 86, "WaysAtlas$Frame", "at", "I", "WaysAtlas"), ("WaysAtlas$Guard", 93, "WaysAtlas$Run", "thrown", "LWaysAtlas$Thrown;", "WaysAtlas"), ("WaysAtlas$If", 56, "WaysAtlas$Lower", "size", "I", "WaysAtlas"), ("WaysAtlas$Loop", 52, "WaysAtlas$Lower", "size", "I", "WaysAtlas"), ("WaysAtlas$Loop", 59, "WaysAtlas$Scope", "goal", "I", "WaysAtlas"), ("WaysAtlas$Lower", 105, "WaysAtlas$Guard", "finish", "[LWaysAtlas$Statement;", "WaysAtlas"), ("WaysAtlas$Lower", 117, "WaysAtlas$Guard", "block", "[LWaysAtlas$Statement;", "WaysAtlas"), ("WaysAtlas$Lower", 130, "WaysAtlas$Guard", "many", "I", "WaysAtlas"), ("WaysAtlas$Lower", 137, "WaysAtlas$Guard", "kinds", "[I", "WaysAtlas"), ("WaysAtlas$Lower", 140, "WaysAtlas$Guard", "catches", "[[LWaysAtlas$Statement;", "WaysAtlas"), ("WaysAtlas$Lower", 161, "WaysAtlas$Method", "from", "I", "WaysAtlas"), ("WaysAtlas$Lower", 166, "WaysAtlas$Method", "block", "[LWaysAtlas$Statement;", "WaysAtlas"), ("WaysAtlas$Lower", 39, "WaysAtlas$Scope", "outer", "LWaysAtlas$Scope;", "WaysAtlas"), ("WaysAtlas$Lower", 64, "WaysAtlas$Scope", "gapMany", "I", "WaysAtlas"), ("WaysAtlas$Lower", 67, "WaysAtlas$Scope", "gaps", "[I", "WaysAtlas"), ("WaysAtlas$Lower", 74, "WaysAtlas$Scope", "sort", "I", "WaysAtlas"), ("WaysAtlas$Lower", 81, "WaysAtlas$Scope", "goal", "I", "WaysAtlas"), ("WaysAtlas$Lower", 92, "WaysAtlas$Scope", "of", "LWaysAtlas$Statement;", "WaysAtlas"), ("WaysAtlas$NewRow", 35, "WaysAtlas$Run", "rowMany", "I", "WaysAtlas"), ("WaysAtlas$NewRow", 38, "WaysAtlas$Run", "rowSize", "[I", "WaysAtlas"), ("WaysAtlas$NewRow", 42, "WaysAtlas$Run", "cells", "[I", "WaysAtlas"), ("WaysAtlas$NewRow", 45, "WaysAtlas$Frame", "rows", "[I", "WaysAtlas"), ("WaysAtlas$Place", 19, "WaysAtlas$Frame", "rows", "[I", "WaysAtlas"), ("WaysAtlas$Place", 31, "WaysAtlas$Run", "rowSize", "[I", "WaysAtlas"), ("WaysAtlas$Place", 34, "WaysAtlas$Run", "cells", "[I", "WaysAtlas"), ("WaysAtlas$Program", 101, "WaysAtlas$Lower", "ops", "[I", "WaysAtlas"), ("WaysAtlas$Program", 114, "WaysAtlas$Run", "kind", "[I", "WaysAtlas"), ("WaysAtlas$Program", 117, "WaysAtlas$Lower", "rows", "I", "WaysAtlas"), ("WaysAtlas$Program", 120, "WaysAtlas$Lower", "table", "[I", "WaysAtlas"), ("WaysAtlas$Program", 127, "WaysAtlas$Frame", "slots", "[I", "WaysAtlas"), ("WaysAtlas$Program", 132, "WaysAtlas$Call", "into", "I", "WaysAtlas"), ("WaysAtlas$Program", 135, "WaysAtlas$Frame", "vars", "[I", "WaysAtlas"), ("WaysAtlas$Program", 141, "WaysAtlas$Frame", "at", "I", "WaysAtlas"), ("WaysAtlas$Program", 181, "WaysAtlas$Guard", "resources", "I", "WaysAtlas"), ("WaysAtlas$Program", 188, "WaysAtlas$Run", "failing", "I", "WaysAtlas"), ("WaysAtlas$Program", 191, "WaysAtlas$Run", "thrown", "LWaysAtlas$Thrown;", "WaysAtlas"), ("WaysAtlas$Program", 203, "WaysAtlas$Run", "entered", "[I", "WaysAtlas"), ("WaysAtlas$Program", 206, "WaysAtlas$Run", "lost", "I", "WaysAtlas"), ("WaysAtlas$Program", 40, "WaysAtlas$Frame", "method", "LWaysAtlas$Method;", "WaysAtlas"), ("WaysAtlas$Program", 46, "WaysAtlas$Method", "block", "[LWaysAtlas$Statement;", "WaysAtlas"), ("WaysAtlas$Program", 53, "WaysAtlas$Frame", "result", "I", "WaysAtlas"), ("WaysAtlas$Program", 56, "WaysAtlas$Run", "deep", "I", "WaysAtlas"), ("WaysAtlas$Program", 72, "WaysAtlas$Run", "given", "I", "WaysAtlas"), ("WaysAtlas$Program", 75, "WaysAtlas$Run", "ended", "I", "WaysAtlas"), ("WaysAtlas$Program", 80, "WaysAtlas$Thrown", "failure", "I", "WaysAtlas"), ("WaysAtlas$Program", 83, "WaysAtlas$Run", "failure", "I", "WaysAtlas"), ("WaysAtlas$Program", 94, "WaysAtlas$Frame", "pc", "I", "WaysAtlas"), ("WaysAtlas$PutRow", 17, "WaysAtlas$Place", "at", "LWaysAtlas$Node;", "WaysAtlas"), ("WaysAtlas$PutRow", 28, "WaysAtlas$Run", "cells", "[I", "WaysAtlas"), ("WaysAtlas$Reader", 112, "WaysAtlas$Program", "above", "[I", "WaysAtlas"), ("WaysAtlas$Reader", 124, "WaysAtlas$Program", "many", "I", "WaysAtlas"), ("WaysAtlas$Reader", 131, "WaysAtlas$Program", "methods", "[LWaysAtlas$Method;", "WaysAtlas"), ("WaysAtlas$Reader", 139, "WaysAtlas$Method", "block", "[LWaysAtlas$Statement;", "WaysAtlas"), ("WaysAtlas$Reader", 160, "WaysAtlas$Program", "size", "I", "WaysAtlas"), ("WaysAtlas$Reader", 173, "WaysAtlas$Program", "statements", "[LWaysAtlas$Statement;", "WaysAtlas"), ("WaysAtlas$Reader", 231, "WaysAtlas$Loop", "block", "[LWaysAtlas$Statement;", "WaysAtlas"), ("WaysAtlas$Reader", 251, "WaysAtlas$If", "then", "[LWaysAtlas$Statement;", "WaysAtlas"), ("WaysAtlas$Reader", 254, "WaysAtlas$If", "other", "[LWaysAtlas$Statement;", "WaysAtlas"), ("WaysAtlas$Reader", 260, "WaysAtlas$Guard", "block", "[LWaysAtlas$Statement;", "WaysAtlas"), ("WaysAtlas$Reader", 261, "WaysAtlas$Program", "handlerOf", "[LWaysAtlas$Guard;", "WaysAtlas"), ("WaysAtlas$Reader", 265, "WaysAtlas$Program", "handlers", "I", "WaysAtlas"), ("WaysAtlas$Reader", 268, "WaysAtlas$Program", "handler", "[I", "WaysAtlas"), ("WaysAtlas$Reader", 271, "WaysAtlas$Guard", "many", "I", "WaysAtlas"), ("WaysAtlas$Reader", 276, "WaysAtlas$Guard", "catches", "[[LWaysAtlas$Statement;", "WaysAtlas"), ("WaysAtlas$Reader", 28, "WaysAtlas$Scanner", "kinds", "[I", "WaysAtlas"), ("WaysAtlas$Reader", 280, "WaysAtlas$Guard", "finish", "[LWaysAtlas$Statement;", "WaysAtlas"), ("WaysAtlas$Reader", 37, "WaysAtlas$Scanner", "places", "[I", "WaysAtlas"), ("WaysAtlas$Reader", 44, "WaysAtlas$Scanner", "values", "[I", "WaysAtlas"), ("WaysAtlas$Reader", 77, "WaysAtlas$Program", "kinds", "I", "WaysAtlas"), ("WaysAtlas$Return", 21, "WaysAtlas$Frame", "result", "I", "WaysAtlas"), ("WaysAtlas$Run", 126, "WaysAtlas$Frame", "at", "I", "WaysAtlas"), ("WaysAtlas$Run", 129, "WaysAtlas$Frame", "method", "LWaysAtlas$Method;", "WaysAtlas"), ("WaysAtlas$Run", 133, "WaysAtlas$Method", "number", "I", "WaysAtlas"), ("WaysAtlas$SameRow", 18, "WaysAtlas$Frame", "rows", "[I", "WaysAtlas"), ("WaysAtlas$Scanner", 56, "WaysAtlas", "WORDS", "[Ljava/lang/String;", "WaysAtlas"), ("WaysAtlas$SetVar", 17, "WaysAtlas$Frame", "vars", "[I", "WaysAtlas"), ("WaysAtlas$Var", 13, "WaysAtlas$Frame", "vars", "[I", "WaysAtlas"), ("WaysAtlas", 102, "WaysAtlas$Program", "many", "I", "WaysAtlas"), ("WaysAtlas", 109, "WaysAtlas$Program", "methods", "[LWaysAtlas$Method;", "WaysAtlas"), ("WaysAtlas", 129, "WaysAtlas$Fault", "kind", "I", "WaysAtlas"), ("WaysAtlas", 132, "WaysAtlas$Fault", "place", "I", "WaysAtlas"), ("WaysAtlas", 139, "WaysAtlas$Program", "code", "LWaysAtlas$Lower;", "WaysAtlas"), ("WaysAtlas", 143, "WaysAtlas$Plan", "many", "I", "WaysAtlas"), ("WaysAtlas", 144, "WaysAtlas$Program", "size", "I", "WaysAtlas"), ("WaysAtlas", 145, "WaysAtlas$Program", "kinds", "I", "WaysAtlas"), ("WaysAtlas", 148, "WaysAtlas$Program", "handlers", "I", "WaysAtlas"), ("WaysAtlas", 15, "WaysAtlas$Frame", "at", "I", "WaysAtlas"), ("WaysAtlas", 155, "WaysAtlas$Program", "statements", "[LWaysAtlas$Statement;", "WaysAtlas"), ("WaysAtlas", 166, "WaysAtlas$Plan", "part", "[I", "WaysAtlas"), ("WaysAtlas", 170, "WaysAtlas$Plan", "time", "[I", "WaysAtlas"), ("WaysAtlas", 173, "WaysAtlas$Plan", "kind", "[I", "WaysAtlas"), ("WaysAtlas", 175, "WaysAtlas$Run", "program", "LWaysAtlas$Program;", "WaysAtlas"), ("WaysAtlas", 176, "WaysAtlas$Run", "plan", "LWaysAtlas$Plan;", "WaysAtlas"), ("WaysAtlas", 198, "WaysAtlas$Run", "given", "I", "WaysAtlas"), ("WaysAtlas", 201, "WaysAtlas$Run", "failure", "I", "WaysAtlas"), ("WaysAtlas", 204, "WaysAtlas$Run", "marks", "I", "WaysAtlas"), ("WaysAtlas", 207, "WaysAtlas$Run", "failures", "I", "WaysAtlas"), ("WaysAtlas", 210, "WaysAtlas$Run", "opened", "I", "WaysAtlas"), ("WaysAtlas", 213, "WaysAtlas$Run", "closes", "I", "WaysAtlas"), ("WaysAtlas", 216, "WaysAtlas$Run", "lost", "I", "WaysAtlas"), ("WaysAtlas", 219, "WaysAtlas$Run", "deepest", "I", "WaysAtlas"), ("WaysAtlas", 222, "WaysAtlas$Run", "steps", "I", "WaysAtlas"), ("WaysAtlas", 225, "WaysAtlas$Run", "tape", "[I", "WaysAtlas"), ("WaysAtlas", 232, "WaysAtlas$Run", "kind", "[I", "WaysAtlas"), ("WaysAtlas", 233, "WaysAtlas$Run", "cause", "[I", "WaysAtlas"), ("WaysAtlas", 236, "WaysAtlas$Run", "first", "[I", "WaysAtlas"), ("WaysAtlas", 239, "WaysAtlas$Run", "next", "[I", "WaysAtlas"), ("WaysAtlas", 242, "WaysAtlas$Run", "statement", "[I", "WaysAtlas"), ("WaysAtlas", 245, "WaysAtlas$Run", "under", "[I", "WaysAtlas"), ("WaysAtlas", 248, "WaysAtlas$Run", "trace", "[I", "WaysAtlas"), ("WaysAtlas", 251, "WaysAtlas$Run", "closed", "[I", "WaysAtlas"), ("WaysAtlas", 257, "WaysAtlas$Run", "entered", "[I", "WaysAtlas"), ("WaysAtlas", 260, "WaysAtlas$Program", "handlerOf", "[LWaysAtlas$Guard;", "WaysAtlas"), ("WaysAtlas", 264, "WaysAtlas$Program", "handler", "[I", "WaysAtlas"), ("WaysAtlas", 270, "WaysAtlas$Guard", "kinds", "[I", "WaysAtlas"), ("WaysAtlas", 291, "WaysAtlas$Run", "passingMany", "I", "WaysAtlas"), ("WaysAtlas", 294, "WaysAtlas$Run", "passings", "[I", "WaysAtlas"), ("WaysAtlas", 83, "WaysAtlas$Run", "ended", "I", "WaysAtlas"), ("WaysAtlas", 90, "WaysAtlas$Scanner", "size", "I", "WaysAtlas"), ("WaysAtlas", 93, "WaysAtlas$Scanner", "text", "[B", "WaysAtlas")]
def xnFw (q : String × Nat × String × String × String × String) : Cond := .fieldLinkNest q.1 q.2.1 q.2.2.1 q.2.2.2.1 q.2.2.2.2.1 q.2.2.2.2.2
def xnM : List (String × Nat × MethodName × String) := [("WaysAtlas$Guard", 31, ⟨"WaysAtlas$Scope", "wide", "([II)[I"⟩, "WaysAtlas"), ("WaysAtlas$Guard", 77, ⟨"WaysAtlas", "walks", "([LWaysAtlas$Statement;LWaysAtlas$Run;LWaysAtlas$Frame;)I"⟩, "WaysAtlas"), ("WaysAtlas$If", 39, ⟨"WaysAtlas", "walks", "([LWaysAtlas$Statement;LWaysAtlas$Run;LWaysAtlas$Frame;)I"⟩, "WaysAtlas"), ("WaysAtlas$Loop", 34, ⟨"WaysAtlas", "walks", "([LWaysAtlas$Statement;LWaysAtlas$Run;LWaysAtlas$Frame;)I"⟩, "WaysAtlas"), ("WaysAtlas$Lower", 26, ⟨"WaysAtlas$Scope", "wide", "([II)[I"⟩, "WaysAtlas"), ("WaysAtlas$NewRow", 25, ⟨"WaysAtlas", "isIn", "(III)Z"⟩, "WaysAtlas"), ("WaysAtlas$Number", 1, ⟨"WaysAtlas$Node", "<init>", "()V"⟩, "WaysAtlas"), ("WaysAtlas$Place", 3, ⟨"WaysAtlas$Node", "<init>", "()V"⟩, "WaysAtlas"), ("WaysAtlas$Place", 45, ⟨"WaysAtlas", "isIn", "(III)Z"⟩, "WaysAtlas"), ("WaysAtlas$Program", 49, ⟨"WaysAtlas", "walks", "([LWaysAtlas$Statement;LWaysAtlas$Run;LWaysAtlas$Frame;)I"⟩, "WaysAtlas"), ("WaysAtlas$Reader", 156, ⟨"WaysAtlas", "isIn", "(III)Z"⟩, "WaysAtlas"), ("WaysAtlas$Run", 82, ⟨"WaysAtlas$Frame", "<init>", "()V"⟩, "WaysAtlas"), ("WaysAtlas$Sign", 3, ⟨"WaysAtlas$Node", "<init>", "()V"⟩, "WaysAtlas"), ("WaysAtlas$Var", 1, ⟨"WaysAtlas$Node", "<init>", "()V"⟩, "WaysAtlas"), ("WaysAtlas", 33, ⟨"WaysAtlas$Scanner", "<init>", "()V"⟩, "WaysAtlas"), ("WaysAtlas", 56, ⟨"WaysAtlas$Plan", "<init>", "()V"⟩, "WaysAtlas")]
def xnMw (q : String × Nat × MethodName × String) : Cond := .methodLinkNest q.1 q.2.1 q.2.2.1 q.2.2.2
def xnC : List (String × String) := [("WaysAtlas$Again", "WaysAtlas$Statement"), ("WaysAtlas$Again", "WaysAtlas$Walked"), ("WaysAtlas$Call", "WaysAtlas$Statement"), ("WaysAtlas$Call", "WaysAtlas$Walked"), ("WaysAtlas$Fault", "WaysAtlas$Fault"), ("WaysAtlas$Guard", "WaysAtlas$Statement"), ("WaysAtlas$Guard", "WaysAtlas$Walked"), ("WaysAtlas$If", "WaysAtlas$Statement"), ("WaysAtlas$If", "WaysAtlas$Walked"), ("WaysAtlas$Leave", "WaysAtlas$Statement"), ("WaysAtlas$Leave", "WaysAtlas$Walked"), ("WaysAtlas$Loop", "WaysAtlas$Statement"), ("WaysAtlas$Loop", "WaysAtlas$Walked"), ("WaysAtlas$Mark", "WaysAtlas$Plain"), ("WaysAtlas$Mark", "WaysAtlas$Statement"), ("WaysAtlas$Mark", "WaysAtlas$Walked"), ("WaysAtlas$NewRow", "WaysAtlas$Plain"), ("WaysAtlas$NewRow", "WaysAtlas$Statement"), ("WaysAtlas$NewRow", "WaysAtlas$Walked"), ("WaysAtlas$PutRow", "WaysAtlas$Plain"), ("WaysAtlas$PutRow", "WaysAtlas$Statement"), ("WaysAtlas$PutRow", "WaysAtlas$Walked"), ("WaysAtlas$Return", "WaysAtlas$Statement"), ("WaysAtlas$Return", "WaysAtlas$Walked"), ("WaysAtlas$SameRow", "WaysAtlas$Plain"), ("WaysAtlas$SameRow", "WaysAtlas$Statement"), ("WaysAtlas$SameRow", "WaysAtlas$Walked"), ("WaysAtlas$SetVar", "WaysAtlas$Plain"), ("WaysAtlas$SetVar", "WaysAtlas$Statement"), ("WaysAtlas$SetVar", "WaysAtlas$Walked"), ("WaysAtlas$Spent", "WaysAtlas$Spent"), ("WaysAtlas$Throw", "WaysAtlas$Plain"), ("WaysAtlas$Throw", "WaysAtlas$Statement"), ("WaysAtlas$Throw", "WaysAtlas$Walked"), ("WaysAtlas$Thrown", "WaysAtlas$Thrown")]
def xnA : List FieldType := [(FieldType.array (FieldType.object "WaysAtlas$Statement")), (FieldType.object "WaysAtlas$Frame"), (FieldType.object "WaysAtlas$Guard"), (FieldType.object "WaysAtlas$Method"), (FieldType.object "WaysAtlas$Statement"), (FieldType.object "java/lang/String")]
def xnD : List MethodName := [⟨"WaysAtlas$Node", "value", "(LWaysAtlas$Run;LWaysAtlas$Frame;)I"⟩, ⟨"WaysAtlas$Plain", "does", "(LWaysAtlas$Run;LWaysAtlas$Frame;)V"⟩, ⟨"java/lang/Exception", "<init>", "()V"⟩, ⟨"java/lang/Exception", "<init>", "(Ljava/lang/String;)V"⟩, ⟨"java/lang/Throwable", "<init>", "()V"⟩, ⟨"java/lang/Throwable", "<init>", "(Ljava/lang/String;)V"⟩]
def xnI : List (String × MethodName × MethodName) := [("WaysAtlas$Again", ⟨"WaysAtlas$Walked", "tells", "(LWaysAtlas$Lower;)V"⟩, ⟨"WaysAtlas$Again", "tells", "(LWaysAtlas$Lower;)V"⟩), ("WaysAtlas$Again", ⟨"WaysAtlas$Walked", "walk", "(LWaysAtlas$Run;LWaysAtlas$Frame;)I"⟩, ⟨"WaysAtlas$Again", "walk", "(LWaysAtlas$Run;LWaysAtlas$Frame;)I"⟩), ("WaysAtlas$Call", ⟨"WaysAtlas$Walked", "tells", "(LWaysAtlas$Lower;)V"⟩, ⟨"WaysAtlas$Call", "tells", "(LWaysAtlas$Lower;)V"⟩), ("WaysAtlas$Call", ⟨"WaysAtlas$Walked", "walk", "(LWaysAtlas$Run;LWaysAtlas$Frame;)I"⟩, ⟨"WaysAtlas$Call", "walk", "(LWaysAtlas$Run;LWaysAtlas$Frame;)I"⟩), ("WaysAtlas$Guard", ⟨"WaysAtlas$Walked", "tells", "(LWaysAtlas$Lower;)V"⟩, ⟨"WaysAtlas$Guard", "tells", "(LWaysAtlas$Lower;)V"⟩), ("WaysAtlas$Guard", ⟨"WaysAtlas$Walked", "walk", "(LWaysAtlas$Run;LWaysAtlas$Frame;)I"⟩, ⟨"WaysAtlas$Guard", "walk", "(LWaysAtlas$Run;LWaysAtlas$Frame;)I"⟩), ("WaysAtlas$If", ⟨"WaysAtlas$Walked", "tells", "(LWaysAtlas$Lower;)V"⟩, ⟨"WaysAtlas$If", "tells", "(LWaysAtlas$Lower;)V"⟩), ("WaysAtlas$If", ⟨"WaysAtlas$Walked", "walk", "(LWaysAtlas$Run;LWaysAtlas$Frame;)I"⟩, ⟨"WaysAtlas$If", "walk", "(LWaysAtlas$Run;LWaysAtlas$Frame;)I"⟩), ("WaysAtlas$Leave", ⟨"WaysAtlas$Walked", "tells", "(LWaysAtlas$Lower;)V"⟩, ⟨"WaysAtlas$Leave", "tells", "(LWaysAtlas$Lower;)V"⟩), ("WaysAtlas$Leave", ⟨"WaysAtlas$Walked", "walk", "(LWaysAtlas$Run;LWaysAtlas$Frame;)I"⟩, ⟨"WaysAtlas$Leave", "walk", "(LWaysAtlas$Run;LWaysAtlas$Frame;)I"⟩), ("WaysAtlas$Loop", ⟨"WaysAtlas$Walked", "tells", "(LWaysAtlas$Lower;)V"⟩, ⟨"WaysAtlas$Loop", "tells", "(LWaysAtlas$Lower;)V"⟩), ("WaysAtlas$Loop", ⟨"WaysAtlas$Walked", "walk", "(LWaysAtlas$Run;LWaysAtlas$Frame;)I"⟩, ⟨"WaysAtlas$Loop", "walk", "(LWaysAtlas$Run;LWaysAtlas$Frame;)I"⟩), ("WaysAtlas$Mark", ⟨"WaysAtlas$Walked", "tells", "(LWaysAtlas$Lower;)V"⟩, ⟨"WaysAtlas$Plain", "tells", "(LWaysAtlas$Lower;)V"⟩), ("WaysAtlas$Mark", ⟨"WaysAtlas$Walked", "walk", "(LWaysAtlas$Run;LWaysAtlas$Frame;)I"⟩, ⟨"WaysAtlas$Plain", "walk", "(LWaysAtlas$Run;LWaysAtlas$Frame;)I"⟩), ("WaysAtlas$NewRow", ⟨"WaysAtlas$Walked", "tells", "(LWaysAtlas$Lower;)V"⟩, ⟨"WaysAtlas$Plain", "tells", "(LWaysAtlas$Lower;)V"⟩), ("WaysAtlas$NewRow", ⟨"WaysAtlas$Walked", "walk", "(LWaysAtlas$Run;LWaysAtlas$Frame;)I"⟩, ⟨"WaysAtlas$Plain", "walk", "(LWaysAtlas$Run;LWaysAtlas$Frame;)I"⟩), ("WaysAtlas$PutRow", ⟨"WaysAtlas$Walked", "tells", "(LWaysAtlas$Lower;)V"⟩, ⟨"WaysAtlas$Plain", "tells", "(LWaysAtlas$Lower;)V"⟩), ("WaysAtlas$PutRow", ⟨"WaysAtlas$Walked", "walk", "(LWaysAtlas$Run;LWaysAtlas$Frame;)I"⟩, ⟨"WaysAtlas$Plain", "walk", "(LWaysAtlas$Run;LWaysAtlas$Frame;)I"⟩), ("WaysAtlas$Return", ⟨"WaysAtlas$Walked", "tells", "(LWaysAtlas$Lower;)V"⟩, ⟨"WaysAtlas$Return", "tells", "(LWaysAtlas$Lower;)V"⟩), ("WaysAtlas$Return", ⟨"WaysAtlas$Walked", "walk", "(LWaysAtlas$Run;LWaysAtlas$Frame;)I"⟩, ⟨"WaysAtlas$Return", "walk", "(LWaysAtlas$Run;LWaysAtlas$Frame;)I"⟩), ("WaysAtlas$SameRow", ⟨"WaysAtlas$Walked", "tells", "(LWaysAtlas$Lower;)V"⟩, ⟨"WaysAtlas$Plain", "tells", "(LWaysAtlas$Lower;)V"⟩), ("WaysAtlas$SameRow", ⟨"WaysAtlas$Walked", "walk", "(LWaysAtlas$Run;LWaysAtlas$Frame;)I"⟩, ⟨"WaysAtlas$Plain", "walk", "(LWaysAtlas$Run;LWaysAtlas$Frame;)I"⟩), ("WaysAtlas$SetVar", ⟨"WaysAtlas$Walked", "tells", "(LWaysAtlas$Lower;)V"⟩, ⟨"WaysAtlas$Plain", "tells", "(LWaysAtlas$Lower;)V"⟩), ("WaysAtlas$SetVar", ⟨"WaysAtlas$Walked", "walk", "(LWaysAtlas$Run;LWaysAtlas$Frame;)I"⟩, ⟨"WaysAtlas$Plain", "walk", "(LWaysAtlas$Run;LWaysAtlas$Frame;)I"⟩), ("WaysAtlas$Throw", ⟨"WaysAtlas$Walked", "tells", "(LWaysAtlas$Lower;)V"⟩, ⟨"WaysAtlas$Plain", "tells", "(LWaysAtlas$Lower;)V"⟩), ("WaysAtlas$Throw", ⟨"WaysAtlas$Walked", "walk", "(LWaysAtlas$Run;LWaysAtlas$Frame;)I"⟩, ⟨"WaysAtlas$Plain", "walk", "(LWaysAtlas$Run;LWaysAtlas$Frame;)I"⟩)]
theorem xnI_ok : ∀ q ∈ xnI, q.2.1.cls ≠ "java/lang/invoke/MethodHandle" ∧ q.2.1.cls ≠ "java/lang/invoke/VarHandle" := by decide +kernel
def xnN : List (String × String) := [("WaysAtlas$Fault", "WaysAtlas$Thrown"), ("WaysAtlas$Fault", "WaysAtlas$Spent"), ("WaysAtlas$Thrown", "WaysAtlas$Fault"), ("WaysAtlas$Thrown", "WaysAtlas$Spent"), ("WaysAtlas$Spent", "WaysAtlas$Fault"), ("WaysAtlas$Spent", "WaysAtlas$Thrown")]
def xldL : List (Nat × String × Nat × String) := [(10, "WaysAtlas$Fault", 1, "no program"), (11, "WaysAtlas$Spent", 1, "no step is left"), (12, "WaysAtlas$Thrown", 1, "a failure is on its way")]
def xstL : List (Nat × String × String × String) := [(0, "WaysAtlas", "WORDS", "[Ljava/lang/String;"), (1, "java/lang/Throwable", "UNASSIGNED_STACK", "[Ljava/lang/StackTraceElement;"), (2, "java/lang/Throwable", "SUPPRESSED_SENTINEL", "Ljava/util/List;")]
def xsby (i : Nat) : List Int32 := ([[107, 105, 110, 100], [117, 110, 100, 101, 114], [109, 101, 116, 104, 111, 100], [109, 97, 114, 107], [99, 97, 108, 108], [114, 111, 119], [110, 111, 110, 101], [114, 101, 116, 117, 114, 110], [105, 102], [101, 108, 115, 101], [108, 111, 111, 112], [108, 101, 97, 118, 101], [110, 101, 120, 116], [116, 104, 114, 111, 119], [119, 114, 97, 112], [97, 103, 97, 105, 110], [103, 117, 97, 114, 100], [119, 105, 116, 104], [99, 97, 116, 99, 104], [102, 105, 110, 97, 108, 108, 121], [115, 105, 122, 101]] : List (List Int32)).getD i []
def xsln (i : Nat) : Nat := (xsby i).length
