/-! SwapPressModel -/
set_option maxRecDepth 100000
def RX3 : String := "SwapPressModel"
def TX3 : u_T := fun k => match k with
  | 0 => ("SwapPressModel", "s", "[I", true)
  | 1 => ("SwapPressModel", "saved", "[I", true)
  | 2 => ("SwapPressModel", "acts", "[I", true)
  | 3 => ("SwapPressModel", "names", "[J", true)
  | 4 => ("SwapPressModel", "savedNames", "[J", true)
  | 5 => ("SwapPressModel", "parties", "I", false)
  | 6 => ("SwapPressModel", "kinds", "I", false)
  | 7 => ("SwapPressModel", "actMany", "I", false)
  | 8 => ("SwapPressModel", "thrown", "I", false)
  | 9 => ("SwapPressModel", "tape", "[B", true)
  | 10 => ("SwapPressModel", "taped", "I", false)
  | 11 => ("SwapPressModel", "size", "I", false)
  | 12 => ("SwapPressModel", "spot", "I", false)
  | 13 => ("SwapPressModel", "wrong", "I", false)
  | 14 => ("SwapPressModel", "wrongAt", "I", false)
  | 15 => ("SwapPressModel", "seen", "I", false)
  | 16 => ("SwapPressModel", "readAt", "I", false)
  | 17 => ("SwapPressModel", "flows", "[I", true)
  | 18 => ("SwapPressModel", "way", "[I", true)
  | 19 => ("SwapPressModel", "ringMany", "I", false)
  | 20 => ("SwapPressModel", "rowFrom", "[I", true)
  | 21 => ("SwapPressModel", "bounds", "[I", true)
  | 22 => ("SwapPressModel", "its0", "[I", true)
  | 23 => ("SwapPressModel", "may", "[I", true)
  | 24 => ("SwapPressModel", "through", "[I", true)
  | 25 => ("SwapPressModel", "needs", "[I", true)
  | 26 => ("SwapPressModel", "isFixed", "[Z", true)
  | 27 => ("SwapPressModel", "dear", "[I", true)
  | 28 => ("SwapPressModel", "by", "[I", true)
  | 29 => ("SwapPressModel", "groups", "[I", true)
  | 30 => ("SwapPressModel", "bytes", "[I", true)
  | _ => ("SwapPressModel", "byteMany", "I", false)
def tyX3 : Nat → FieldType := fun k => match k with
  | 0 => .array .int
  | 1 => .array .int
  | 2 => .array .int
  | 3 => .array .long
  | 4 => .array .long
  | 5 => .int
  | 6 => .int
  | 7 => .int
  | 8 => .int
  | 9 => .array .byte
  | 10 => .int
  | 11 => .int
  | 12 => .int
  | 13 => .int
  | 14 => .int
  | 15 => .int
  | 16 => .int
  | 17 => .array .int
  | 18 => .array .int
  | 19 => .int
  | 20 => .array .int
  | 21 => .array .int
  | 22 => .array .int
  | 23 => .array .int
  | 24 => .array .int
  | 25 => .array .int
  | 26 => .array .boolean
  | 27 => .array .int
  | 28 => .array .int
  | 29 => .array .int
  | 30 => .array .int
  | _ => .int
abbrev wsX30 : List Cond := u_ws RX3 TX3 32
set_option maxRecDepth 100000 in
theorem nmX3 : ∀ a, a < 32 → ∀ b, b < 32 → a ≠ b → (TX3 a).2.1 ≠ (TX3 b).2.1 := by decide +kernel
set_option maxRecDepth 100000 in
theorem tyX3_ok : ∀ k, k < 32 → parseFieldDescriptor (TX3 k).2.2.1 = some (tyX3 k) := by decide +kernel
/-! SwapPress -/
set_option maxRecDepth 100000
def RX0 : String := "SwapPress"
def TX0 : u_T := fun k => match k with
  | 0 => ("SwapPress", "now", "LSwapPress$State;", false)
  | 1 => ("SwapPress", "past", "Ljava/util/ArrayList;", true)
  | 2 => ("SwapPress", "ways", "LSwapPress$Ways;", true)
  | 3 => ("SwapPress", "firstKind", "I", false)
  | 4 => ("SwapPress", "firstRow", "[I", false)
  | 5 => ("SwapPress", "tape", "[B", true)
  | 6 => ("SwapPress", "taped", "I", false)
  | 7 => ("SwapPress", "faultKind", "I", false)
  | _ => ("SwapPress", "faultPlace", "I", false)
def tyX0 : Nat → FieldType := fun k => match k with
  | 0 => .object "SwapPress$State"
  | 1 => .object "java/util/ArrayList"
  | 2 => .object "SwapPress$Ways"
  | 3 => .int
  | 4 => .array .int
  | 5 => .array .byte
  | 6 => .int
  | 7 => .int
  | _ => .int
abbrev wsX00 : List Cond := u_ws RX0 TX0 9
theorem nmX0 : ∀ a, a < 9 → ∀ b, b < 9 → a ≠ b → (TX0 a).2.1 ≠ (TX0 b).2.1 := by decide +kernel
theorem tyX0_ok : ∀ k, k < 9 → parseFieldDescriptor (TX0 k).2.2.1 = some (tyX0 k) := by decide +kernel
/-! SwapPress$State -/
set_option maxRecDepth 100000
def RX1 : String := "SwapPress$State"
def TX1 : u_T := fun k => match k with
  | 0 => ("SwapPress$State", "parties", "Ljava/util/ArrayList;", true)
  | 1 => ("SwapPress$State", "kinds", "Ljava/util/ArrayList;", true)
  | 2 => ("SwapPress$State", "trades", "Ljava/util/ArrayList;", true)
  | 3 => ("SwapPress$State", "cap", "[I", true)
  | _ => ("SwapPress$State", "mode", "I", false)
def tyX1 : Nat → FieldType := fun k => match k with
  | 0 => .object "java/util/ArrayList"
  | 1 => .object "java/util/ArrayList"
  | 2 => .object "java/util/ArrayList"
  | 3 => .array .int
  | _ => .int
abbrev wsX10 : List Cond := u_ws RX1 TX1 5
theorem nmX1 : ∀ a, a < 5 → ∀ b, b < 5 → a ≠ b → (TX1 a).2.1 ≠ (TX1 b).2.1 := by decide +kernel
theorem tyX1_ok : ∀ k, k < 5 → parseFieldDescriptor (TX1 k).2.2.1 = some (tyX1 k) := by decide +kernel
/-! SwapPress$Ways -/
set_option maxRecDepth 100000
def RX2 : String := "SwapPress$Ways"
def TX2 : u_T := fun k => match k with
  | 0 => ("SwapPress$Ways", "from", "[I", true)
  | 1 => ("SwapPress$Ways", "to", "[I", true)
  | 2 => ("SwapPress$Ways", "left", "[J", true)
  | 3 => ("SwapPress$Ways", "cost", "[J", true)
  | 4 => ("SwapPress$Ways", "far", "[J", true)
  | 5 => ("SwapPress$Ways", "by", "[I", true)
  | 6 => ("SwapPress$Ways", "edgeOf", "[I", true)
  | _ => ("SwapPress$Ways", "edges", "I", false)
def tyX2 : Nat → FieldType := fun k => match k with
  | 0 => .array .int
  | 1 => .array .int
  | 2 => .array .long
  | 3 => .array .long
  | 4 => .array .long
  | 5 => .array .int
  | 6 => .array .int
  | _ => .int
abbrev wsX20 : List Cond := u_ws RX2 TX2 8
theorem nmX2 : ∀ a, a < 8 → ∀ b, b < 8 → a ≠ b → (TX2 a).2.1 ≠ (TX2 b).2.1 := by decide +kernel
theorem tyX2_ok : ∀ k, k < 8 → parseFieldDescriptor (TX2 k).2.2.1 = some (tyX2 k) := by decide +kernel
/-! SwapPress$Reader -/
set_option maxRecDepth 100000
def RX4 : String := "SwapPress$Reader"
def TX4 : u_T := fun k => match k with
  | 0 => ("SwapPress$Reader", "size", "I", true)
  | 1 => ("SwapPress$Reader", "made", "LSwapPress$State;", true)
  | 2 => ("SwapPress$Reader", "at", "I", false)
  | 3 => ("SwapPress$Reader", "begin", "I", false)
  | 4 => ("SwapPress$Reader", "hasMode", "Z", false)
  | 5 => ("SwapPress$Reader", "word", "Ljava/lang/String;", false)
  | _ => ("SwapPress$Reader", "this$0", "LSwapPress;", true)
def tyX4 : Nat → FieldType := fun k => match k with
  | 0 => .int
  | 1 => .object "SwapPress$State"
  | 2 => .int
  | 3 => .int
  | 4 => .boolean
  | 5 => .object "java/lang/String"
  | _ => .object "SwapPress"
abbrev wsX40 : List Cond := u_ws RX4 TX4 7
theorem nmX4 : ∀ a, a < 7 → ∀ b, b < 7 → a ≠ b → (TX4 a).2.1 ≠ (TX4 b).2.1 := by decide +kernel
theorem tyX4_ok : ∀ k, k < 7 → parseFieldDescriptor (TX4 k).2.2.1 = some (tyX4 k) := by decide +kernel
/-! SwapPress$Wrong -/
set_option maxRecDepth 100000
def RX5 : String := "SwapPress$Wrong"
def TX5 : u_T := fun k => match k with
  | 0 => ("java/lang/Throwable", "cause", "Ljava/lang/Throwable;", false)
  | 1 => ("java/lang/Throwable", "stackTrace", "[Ljava/lang/StackTraceElement;", false)
  | 2 => ("java/lang/Throwable", "suppressedExceptions", "Ljava/util/List;", false)
  | 3 => ("java/lang/Throwable", "detailMessage", "Ljava/lang/String;", false)
  | 4 => ("java/lang/Throwable", "backtrace", "Ljava/lang/Object;", false)
  | 5 => ("java/lang/Throwable", "depth", "I", false)
  | 6 => ("SwapPress$Wrong", "kind", "I", true)
  | _ => ("SwapPress$Wrong", "place", "I", true)
def tyX5 : Nat → FieldType := fun k => match k with
  | 0 => .object "java/lang/Throwable"
  | 1 => .array (.object "java/lang/StackTraceElement")
  | 2 => .object "java/util/List"
  | 3 => .object "java/lang/String"
  | 4 => .object "java/lang/Object"
  | 5 => .int
  | 6 => .int
  | _ => .int
abbrev wsX50 : List Cond := u_ws RX5 TX5 8
theorem nmX5 : ∀ a, a < 8 → ∀ b, b < 8 → a ≠ b → (TX5 a).2.1 ≠ (TX5 b).2.1 := by decide +kernel
theorem tyX5_ok : ∀ k, k < 8 → parseFieldDescriptor (TX5 k).2.2.1 = some (tyX5 k) := by decide +kernel
/-! SwapPress$Trade -/
set_option maxRecDepth 100000
def RX6 : String := "SwapPress$Trade"
def TX6 : u_T := fun k => match k with
  | 0 => ("SwapPress$Trade", "from", "I", true)
  | 1 => ("SwapPress$Trade", "to", "I", true)
  | 2 => ("SwapPress$Trade", "amount", "I", true)
  | 3 => ("SwapPress$Trade", "kind", "I", true)
  | _ => ("SwapPress$Trade", "isKept", "Z", true)
def tyX6 : Nat → FieldType := fun k => match k with
  | 0 => .int
  | 1 => .int
  | 2 => .int
  | 3 => .int
  | _ => .boolean
abbrev wsX60 : List Cond := u_ws RX6 TX6 5
theorem nmX6 : ∀ a, a < 5 → ∀ b, b < 5 → a ≠ b → (TX6 a).2.1 ≠ (TX6 b).2.1 := by decide +kernel
theorem tyX6_ok : ∀ k, k < 5 → parseFieldDescriptor (TX6 k).2.2.1 = some (tyX6 k) := by decide +kernel
/-! SwapPress$Rings -/
set_option maxRecDepth 100000
def RX7 : String := "SwapPress$Rings"
def TX7 : u_T := fun k => match k with
  | 0 => ("SwapPress$Rings", "n", "I", true)
  | 1 => ("SwapPress$Rings", "e", "[I", true)
  | 2 => ("SwapPress$Rings", "row", "[I", true)
  | _ => ("SwapPress$Rings", "many", "I", false)
def tyX7 : Nat → FieldType := fun k => match k with
  | 0 => .int
  | 1 => .array .int
  | 2 => .array .int
  | _ => .int
abbrev wsX70 : List Cond := u_ws RX7 TX7 4
theorem nmX7 : ∀ a, a < 4 → ∀ b, b < 4 → a ≠ b → (TX7 a).2.1 ≠ (TX7 b).2.1 := by decide +kernel
theorem tyX7_ok : ∀ k, k < 4 → parseFieldDescriptor (TX7 k).2.2.1 = some (tyX7 k) := by decide +kernel
/-! SwapPress$Press -/
set_option maxRecDepth 100000
def RX8 : String := "SwapPress$Press"
def TX8 : u_T := fun k => match k with
  | 0 => ("SwapPress$Press", "n", "I", true)
  | 1 => ("SwapPress$Press", "nets", "[I", true)
  | 2 => ("SwapPress$Press", "bound", "[J", true)
  | 3 => ("SwapPress$Press", "costs", "[J", true)
  | 4 => ("SwapPress$Press", "through", "[J", true)
  | _ => ("SwapPress$Press", "this$0", "LSwapPress;", true)
def tyX8 : Nat → FieldType := fun k => match k with
  | 0 => .int
  | 1 => .array .int
  | 2 => .array .long
  | 3 => .array .long
  | 4 => .array .long
  | _ => .object "SwapPress"
abbrev wsX80 : List Cond := u_ws RX8 TX8 6
theorem nmX8 : ∀ a, a < 6 → ∀ b, b < 6 → a ≠ b → (TX8 a).2.1 ≠ (TX8 b).2.1 := by decide +kernel
theorem tyX8_ok : ∀ k, k < 6 → parseFieldDescriptor (TX8 k).2.2.1 = some (tyX8 k) := by decide +kernel
/-! SwapPress$Bounds -/
set_option maxRecDepth 100000
def RX9 : String := "SwapPress$Bounds"
/-! SwapPress$Had -/
set_option maxRecDepth 100000
def RX10 : String := "SwapPress$Had"
def TX10 : u_T := fun k => match k with
  | _ => ("SwapPress$Had", "flows", "[I", true)
def tyX10 : Nat → FieldType := fun k => match k with
  | _ => .array .int
abbrev wsX100 : List Cond := u_ws RX10 TX10 1
theorem nmX10 : ∀ a, a < 1 → ∀ b, b < 1 → a ≠ b → (TX10 a).2.1 ≠ (TX10 b).2.1 := by decide +kernel
theorem tyX10_ok : ∀ k, k < 1 → parseFieldDescriptor (TX10 k).2.2.1 = some (tyX10 k) := by decide +kernel
/-! SwapPress$Caps -/
set_option maxRecDepth 100000
def RX11 : String := "SwapPress$Caps"
def TX11 : u_T := fun k => match k with
  | _ => ("SwapPress$Caps", "caps", "[I", true)
def tyX11 : Nat → FieldType := fun k => match k with
  | _ => .array .int
abbrev wsX110 : List Cond := u_ws RX11 TX11 1
theorem nmX11 : ∀ a, a < 1 → ∀ b, b < 1 → a ≠ b → (TX11 a).2.1 ≠ (TX11 b).2.1 := by decide +kernel
theorem tyX11_ok : ∀ k, k < 1 → parseFieldDescriptor (TX11 k).2.2.1 = some (tyX11 k) := by decide +kernel
/-! SwapPress$Both -/
set_option maxRecDepth 100000
def RX12 : String := "SwapPress$Both"
def TX12 : u_T := fun k => match k with
  | _ => ("SwapPress$Both", "flows", "[I", true)
def tyX12 : Nat → FieldType := fun k => match k with
  | _ => .array .int
abbrev wsX120 : List Cond := u_ws RX12 TX12 1
theorem nmX12 : ∀ a, a < 1 → ∀ b, b < 1 → a ≠ b → (TX12 a).2.1 ≠ (TX12 b).2.1 := by decide +kernel
theorem tyX12_ok : ∀ k, k < 1 → parseFieldDescriptor (TX12 k).2.2.1 = some (tyX12 k) := by decide +kernel
/-! SwapPress$But -/
set_option maxRecDepth 100000
def RX13 : String := "SwapPress$But"
def TX13 : u_T := fun k => match k with
  | 0 => ("SwapPress$But", "of", "LSwapPress$Bounds;", true)
  | 1 => ("SwapPress$But", "a", "I", true)
  | 2 => ("SwapPress$But", "b", "I", true)
  | _ => ("SwapPress$But", "much", "I", true)
def tyX13 : Nat → FieldType := fun k => match k with
  | 0 => .object "SwapPress$Bounds"
  | 1 => .int
  | 2 => .int
  | _ => .int
abbrev wsX130 : List Cond := u_ws RX13 TX13 4
theorem nmX13 : ∀ a, a < 4 → ∀ b, b < 4 → a ≠ b → (TX13 a).2.1 ≠ (TX13 b).2.1 := by decide +kernel
theorem tyX13_ok : ∀ k, k < 4 → parseFieldDescriptor (TX13 k).2.2.1 = some (tyX13 k) := by decide +kernel
/-! java/util/ArrayList -/
set_option maxRecDepth 100000
def RJ2 : String := "java/util/ArrayList"
def TJ2 : u_T := fun k => match k with
  | 0 => ("java/util/AbstractList", "modCount", "I", false)
  | 1 => ("java/util/ArrayList", "elementData", "[Ljava/lang/Object;", false)
  | _ => ("java/util/ArrayList", "size", "I", false)
def tyJ2 : Nat → FieldType := fun k => match k with
  | 0 => .int
  | 1 => .array (.object "java/lang/Object")
  | _ => .int
abbrev wsJ20 : List Cond := u_ws RJ2 TJ2 3
theorem nmJ2 : ∀ a, a < 3 → ∀ b, b < 3 → a ≠ b → (TJ2 a).2.1 ≠ (TJ2 b).2.1 := by decide +kernel
theorem tyJ2_ok : ∀ k, k < 3 → parseFieldDescriptor (TJ2 k).2.2.1 = some (tyJ2 k) := by decide +kernel
/-! java/lang/AbstractStringBuilder -/
set_option maxRecDepth 100000
def RJ3 : String := "java/lang/AbstractStringBuilder"
/-! java/lang/StringBuilder -/
set_option maxRecDepth 100000
def RJ4 : String := "java/lang/StringBuilder"
def TJ4 : u_T := fun k => match k with
  | 0 => ("java/lang/AbstractStringBuilder", "value", "[B", false)
  | 1 => ("java/lang/AbstractStringBuilder", "coder", "B", false)
  | 2 => ("java/lang/AbstractStringBuilder", "maybeLatin1", "Z", false)
  | _ => ("java/lang/AbstractStringBuilder", "count", "I", false)
def tyJ4 : Nat → FieldType := fun k => match k with
  | 0 => .array .byte
  | 1 => .byte
  | 2 => .boolean
  | _ => .int
abbrev wsJ40 : List Cond := u_ws RJ4 TJ4 4
theorem nmJ4 : ∀ a, a < 4 → ∀ b, b < 4 → a ≠ b → (TJ4 a).2.1 ≠ (TJ4 b).2.1 := by decide +kernel
theorem tyJ4_ok : ∀ k, k < 4 → parseFieldDescriptor (TJ4 k).2.2.1 = some (tyJ4 k) := by decide +kernel
/-! java/lang/String -/
set_option maxRecDepth 100000
def RJ5 : String := "java/lang/String"
def TJ5 : u_T := fun k => match k with
  | 0 => ("java/lang/String", "value", "[B", true)
  | 1 => ("java/lang/String", "coder", "B", true)
  | 2 => ("java/lang/String", "hash", "I", false)
  | _ => ("java/lang/String", "hashIsZero", "Z", false)
def tyJ5 : Nat → FieldType := fun k => match k with
  | 0 => .array .byte
  | 1 => .byte
  | 2 => .int
  | _ => .boolean
abbrev wsJ50 : List Cond := u_ws RJ5 TJ5 4
theorem nmJ5 : ∀ a, a < 4 → ∀ b, b < 4 → a ≠ b → (TJ5 a).2.1 ≠ (TJ5 b).2.1 := by decide +kernel
theorem tyJ5_ok : ∀ k, k < 4 → parseFieldDescriptor (TJ5 k).2.2.1 = some (tyJ5 k) := by decide +kernel
/-! java/lang/Integer -/
set_option maxRecDepth 100000
def RJ15 : String := "java/lang/Integer"
/-! java/lang/StringLatin1 -/
set_option maxRecDepth 100000
def RJ10 : String := "java/lang/StringLatin1"
/-! jdk/internal/util/Preconditions -/
set_option maxRecDepth 100000
def RJ11 : String := "jdk/internal/util/Preconditions"
/-! java/lang/Object -/
set_option maxRecDepth 100000
def RJ16 : String := "java/lang/Object"
/-! java/lang/Math -/
set_option maxRecDepth 100000
def RJ8 : String := "java/lang/Math"
/-- all classes whose objects are pictured, in one order -/
abbrev gCl : List vw_C := [(RX3, TX3, 32), (RX0, TX0, 9), (RX1, TX1, 5), (RX2, TX2, 8), (RX4, TX4, 7), (RX5, TX5, 8), (RX6, TX6, 5), (RX7, TX7, 4), (RX8, TX8, 6), (RX10, TX10, 1), (RX11, TX11, 1), (RX12, TX12, 1), (RX13, TX13, 4), (RJ2, TJ2, 3), (RJ4, TJ4, 4), (RJ5, TJ5, 4)]
