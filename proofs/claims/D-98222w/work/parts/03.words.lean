/-! the classes, their fields, the words of the tables (out of claim/names) -/
set_option maxRecDepth 100000
def RJ0 : String := "java/util/Arrays"
def RJ1 : String := "java/util/Objects"
def RJ10 : String := "java/lang/Throwable"
def TJ10 : u_T := fun k => match k with
  | 0 => ("java/lang/Throwable", "cause", "Ljava/lang/Throwable;", false)
  | 1 => ("java/lang/Throwable", "stackTrace", "[Ljava/lang/StackTraceElement;", false)
  | 2 => ("java/lang/Throwable", "suppressedExceptions", "Ljava/util/List;", false)
  | 3 => ("java/lang/Throwable", "detailMessage", "Ljava/lang/String;", false)
  | _ => ("java/lang/Throwable", "backtrace", "Ljava/lang/Object;", false)
def tyJ10 : Nat → FieldType := fun k => match k with
  | 0 => .object "java/lang/Throwable"
  | 1 => .array (.object "java/lang/StackTraceElement")
  | 2 => .object "java/util/List"
  | 3 => .object "java/lang/String"
  | _ => .object "java/lang/Object"
abbrev wsJ100 : List Cond := u_ws RJ10 TJ10 5
theorem nmJ10 : ∀ a, a < 5 → ∀ b, b < 5 → a ≠ b → (TJ10 a).2.1 ≠ (TJ10 b).2.1 := by decide +kernel
theorem tyJ10_ok : ∀ k, k < 5 → parseFieldDescriptor (TJ10 k).2.2.1 = some (tyJ10 k) := by decide +kernel
def RJ11 : String := "java/lang/Exception"
def RJ12 : String := "java/lang/Record"
def RJ13 : String := "java/lang/Number"
def RJ14 : String := "java/lang/Integer"
def TJ14 : u_T := fun k => match k with
  | _ => ("java/lang/Integer", "value", "I", true)
def tyJ14 : Nat → FieldType := fun k => match k with
  | _ => .int
abbrev wsJ140 : List Cond := u_ws RJ14 TJ14 1
theorem nmJ14 : ∀ a, a < 1 → ∀ b, b < 1 → a ≠ b → (TJ14 a).2.1 ≠ (TJ14 b).2.1 := by decide +kernel
theorem tyJ14_ok : ∀ k, k < 1 → parseFieldDescriptor (TJ14 k).2.2.1 = some (tyJ14 k) := by decide +kernel
def RJ15 : String := "jdk/internal/util/ArraysSupport"
def RJ16 : String := "java/lang/Object"
def RJ2 : String := "jdk/internal/util/Preconditions"
def RJ3 : String := "java/lang/Math"
def RJ4 : String := "java/util/AbstractCollection"
def RJ5 : String := "java/util/AbstractList"
def RJ6 : String := "java/util/ArrayList"
def TJ6 : u_T := fun k => match k with
  | 0 => ("java/util/AbstractList", "modCount", "I", false)
  | 1 => ("java/util/ArrayList", "elementData", "[Ljava/lang/Object;", false)
  | _ => ("java/util/ArrayList", "size", "I", false)
def tyJ6 : Nat → FieldType := fun k => match k with
  | 0 => .int
  | 1 => .array (.object "java/lang/Object")
  | _ => .int
abbrev wsJ60 : List Cond := u_ws RJ6 TJ6 3
theorem nmJ6 : ∀ a, a < 3 → ∀ b, b < 3 → a ≠ b → (TJ6 a).2.1 ≠ (TJ6 b).2.1 := by decide +kernel
theorem tyJ6_ok : ∀ k, k < 3 → parseFieldDescriptor (TJ6 k).2.2.1 = some (tyJ6 k) := by decide +kernel
def RJ7 : String := "java/lang/String"
def RJ8 : String := "java/lang/StringLatin1"
def RJ9 : String := "java/lang/StringUTF16"
def RX0 : String := "SelfSorting"
def TX0 : u_T := fun k => match k with
  | 0 => ("SelfSorting", "now", "LSelfSorting$State;", true)
  | 1 => ("SelfSorting", "image", "LSelfSorting$State;", true)
  | 2 => ("SelfSorting", "tape", "[B", true)
  | 3 => ("SelfSorting", "taped", "I", false)
  | 4 => ("SelfSorting", "fault", "I", false)
  | 5 => ("SelfSorting", "faultAt", "I", false)
  | 6 => ("SelfSorting", "names", "[I", true)
  | 7 => ("SelfSorting", "change", "[I", true)
  | 8 => ("SelfSorting", "row", "[I", true)
  | 9 => ("SelfSorting", "stood", "[J", true)
  | 10 => ("SelfSorting", "many", "I", false)
  | 11 => ("SelfSorting", "chosen", "[I", true)
  | 12 => ("SelfSorting", "order", "[I", true)
  | 13 => ("SelfSorting", "size", "I", false)
  | 14 => ("SelfSorting", "calms", "I", false)
  | 15 => ("SelfSorting", "found", "[I", true)
  | 16 => ("SelfSorting", "far", "[I", true)
  | 17 => ("SelfSorting", "moved", "[[I", true)
  | 18 => ("SelfSorting", "times", "[I", true)
  | _ => ("SelfSorting", "others", "[I", true)
def tyX0 : Nat → FieldType := fun k => match k with
  | 0 => .object "SelfSorting$State"
  | 1 => .object "SelfSorting$State"
  | 2 => .array .byte
  | 3 => .int
  | 4 => .int
  | 5 => .int
  | 6 => .array .int
  | 7 => .array .int
  | 8 => .array .int
  | 9 => .array .long
  | 10 => .int
  | 11 => .array .int
  | 12 => .array .int
  | 13 => .int
  | 14 => .int
  | 15 => .array .int
  | 16 => .array .int
  | 17 => .array (.array .int)
  | 18 => .array .int
  | _ => .array .int
abbrev wsX00 : List Cond := u_ws RX0 TX0 20
theorem nmX0 : ∀ a, a < 20 → ∀ b, b < 20 → a ≠ b → (TX0 a).2.1 ≠ (TX0 b).2.1 := by decide +kernel
theorem tyX0_ok : ∀ k, k < 20 → parseFieldDescriptor (TX0 k).2.2.1 = some (tyX0 k) := by decide +kernel
def RX1 : String := "SelfSorting$State"
def TX1 : u_T := fun k => match k with
  | 0 => ("SelfSorting$State", "n", "[I", true)
  | 1 => ("SelfSorting$State", "width", "[I", true)
  | 2 => ("SelfSorting$State", "row", "[I", true)
  | 3 => ("SelfSorting$State", "book", "[[I", true)
  | 4 => ("SelfSorting$State", "dust", "[[I", true)
  | 5 => ("SelfSorting$State", "step", "[[I", true)
  | _ => ("SelfSorting$State", "text", "[LSelfSorting$Text;", true)
def tyX1 : Nat → FieldType := fun k => match k with
  | 0 => .array .int
  | 1 => .array .int
  | 2 => .array .int
  | 3 => .array (.array .int)
  | 4 => .array (.array .int)
  | 5 => .array (.array .int)
  | _ => .array (.object "SelfSorting$Text")
abbrev wsX10 : List Cond := u_ws RX1 TX1 7
theorem nmX1 : ∀ a, a < 7 → ∀ b, b < 7 → a ≠ b → (TX1 a).2.1 ≠ (TX1 b).2.1 := by decide +kernel
theorem tyX1_ok : ∀ k, k < 7 → parseFieldDescriptor (TX1 k).2.2.1 = some (tyX1 k) := by decide +kernel
def RX10 : String := "SelfSorting$Minus"
def TX10 : u_T := fun k => match k with
  | _ => ("SelfSorting$Minus", "x", "LSelfSorting$Sum;", true)
def tyX10 : Nat → FieldType := fun k => match k with
  | _ => .object "SelfSorting$Sum"
abbrev wsX100 : List Cond := u_ws RX10 TX10 1
theorem nmX10 : ∀ a, a < 1 → ∀ b, b < 1 → a ≠ b → (TX10 a).2.1 ≠ (TX10 b).2.1 := by decide +kernel
theorem tyX10_ok : ∀ k, k < 1 → parseFieldDescriptor (TX10 k).2.2.1 = some (tyX10 k) := by decide +kernel
def RX11 : String := "SelfSorting$Compared"
def TX11 : u_T := fun k => match k with
  | 0 => ("SelfSorting$Compared", "sign", "I", true)
  | 1 => ("SelfSorting$Compared", "a", "LSelfSorting$Sum;", true)
  | _ => ("SelfSorting$Compared", "b", "LSelfSorting$Sum;", true)
def tyX11 : Nat → FieldType := fun k => match k with
  | 0 => .int
  | 1 => .object "SelfSorting$Sum"
  | _ => .object "SelfSorting$Sum"
abbrev wsX110 : List Cond := u_ws RX11 TX11 3
theorem nmX11 : ∀ a, a < 3 → ∀ b, b < 3 → a ≠ b → (TX11 a).2.1 ≠ (TX11 b).2.1 := by decide +kernel
theorem tyX11_ok : ∀ k, k < 3 → parseFieldDescriptor (TX11 k).2.2.1 = some (tyX11 k) := by decide +kernel
def RX12 : String := "SelfSorting$All"
def TX12 : u_T := fun k => match k with
  | 0 => ("SelfSorting$All", "and", "Z", true)
  | _ => ("SelfSorting$All", "of", "Ljava/util/ArrayList;", true)
def tyX12 : Nat → FieldType := fun k => match k with
  | 0 => .boolean
  | _ => .object "java/util/ArrayList"
abbrev wsX120 : List Cond := u_ws RX12 TX12 2
theorem nmX12 : ∀ a, a < 2 → ∀ b, b < 2 → a ≠ b → (TX12 a).2.1 ≠ (TX12 b).2.1 := by decide +kernel
theorem tyX12_ok : ∀ k, k < 2 → parseFieldDescriptor (TX12 k).2.2.1 = some (tyX12 k) := by decide +kernel
def RX13 : String := "SelfSorting$Doing"
def TX13 : u_T := fun k => match k with
  | 0 => ("SelfSorting$Doing", "sort", "I", true)
  | 1 => ("SelfSorting$Doing", "a", "I", true)
  | 2 => ("SelfSorting$Doing", "b", "I", true)
  | 3 => ("SelfSorting$Doing", "c", "I", true)
  | _ => ("SelfSorting$Doing", "number", "I", true)
def tyX13 : Nat → FieldType := fun k => match k with
  | 0 => .int
  | 1 => .int
  | 2 => .int
  | 3 => .int
  | _ => .int
abbrev wsX130 : List Cond := u_ws RX13 TX13 5
theorem nmX13 : ∀ a, a < 5 → ∀ b, b < 5 → a ≠ b → (TX13 a).2.1 ≠ (TX13 b).2.1 := by decide +kernel
theorem tyX13_ok : ∀ k, k < 5 → parseFieldDescriptor (TX13 k).2.2.1 = some (tyX13 k) := by decide +kernel
def RX2 : String := "SelfSortingModel"
def TX2 : u_T := fun k => match k with
  | 0 => ("SelfSortingModel", "a", "[I", true)
  | 1 => ("SelfSortingModel", "image", "[I", true)
  | 2 => ("SelfSortingModel", "texts", "[I", true)
  | 3 => ("SelfSortingModel", "tape", "[I", true)
  | 4 => ("SelfSortingModel", "taped", "I", false)
  | 5 => ("SelfSortingModel", "fault", "I", false)
  | 6 => ("SelfSortingModel", "faultPlace", "I", false)
  | 7 => ("SelfSortingModel", "at", "I", false)
  | 8 => ("SelfSortingModel", "place", "I", false)
  | 9 => ("SelfSortingModel", "token", "I", false)
  | 10 => ("SelfSortingModel", "number", "I", false)
  | 11 => ("SelfSortingModel", "word", "J", false)
  | 12 => ("SelfSortingModel", "text0", "I", false)
  | 13 => ("SelfSortingModel", "clauses", "I", false)
  | 14 => ("SelfSortingModel", "written", "I", false)
  | 15 => ("SelfSortingModel", "came", "I", false)
  | 16 => ("SelfSortingModel", "pile", "[I", true)
  | 17 => ("SelfSortingModel", "piled", "I", false)
  | 18 => ("SelfSortingModel", "opens", "I", false)
  | 19 => ("SelfSortingModel", "isWhole", "Z", false)
  | 20 => ("SelfSortingModel", "sort0", "I", false)
  | 21 => ("SelfSortingModel", "once", "I", false)
  | 22 => ("SelfSortingModel", "named", "[I", true)
  | 23 => ("SelfSortingModel", "values", "[J", true)
  | 24 => ("SelfSortingModel", "truth", "[Z", true)
  | 25 => ("SelfSortingModel", "fell", "I", false)
  | 26 => ("SelfSortingModel", "change", "[Z", true)
  | 27 => ("SelfSortingModel", "row", "[I", true)
  | 28 => ("SelfSortingModel", "rowMany", "I", false)
  | 29 => ("SelfSortingModel", "stands", "[J", true)
  | 30 => ("SelfSortingModel", "orders", "[I", true)
  | 31 => ("SelfSortingModel", "leads", "[I", true)
  | 32 => ("SelfSortingModel", "calm", "[Z", true)
  | 33 => ("SelfSortingModel", "element", "[I", true)
  | 34 => ("SelfSortingModel", "elements", "I", false)
  | 35 => ("SelfSortingModel", "all", "I", false)
  | 36 => ("SelfSortingModel", "work6", "[I", true)
  | 37 => ("SelfSortingModel", "queue", "[I", true)
  | 38 => ("SelfSortingModel", "took", "[I", true)
  | 39 => ("SelfSortingModel", "worth", "[I", true)
  | 40 => ("SelfSortingModel", "worthThen", "[I", true)
  | 41 => ("SelfSortingModel", "there", "[I", true)
  | _ => ("SelfSortingModel", "rests", "[I", true)
def tyX2 : Nat → FieldType := fun k => match k with
  | 0 => .array .int
  | 1 => .array .int
  | 2 => .array .int
  | 3 => .array .int
  | 4 => .int
  | 5 => .int
  | 6 => .int
  | 7 => .int
  | 8 => .int
  | 9 => .int
  | 10 => .int
  | 11 => .long
  | 12 => .int
  | 13 => .int
  | 14 => .int
  | 15 => .int
  | 16 => .array .int
  | 17 => .int
  | 18 => .int
  | 19 => .boolean
  | 20 => .int
  | 21 => .int
  | 22 => .array .int
  | 23 => .array .long
  | 24 => .array .boolean
  | 25 => .int
  | 26 => .array .boolean
  | 27 => .array .int
  | 28 => .int
  | 29 => .array .long
  | 30 => .array .int
  | 31 => .array .int
  | 32 => .array .boolean
  | 33 => .array .int
  | 34 => .int
  | 35 => .int
  | 36 => .array .int
  | 37 => .array .int
  | 38 => .array .int
  | 39 => .array .int
  | 40 => .array .int
  | 41 => .array .int
  | _ => .array .int
abbrev wsX20 : List Cond := u_ws RX2 TX2 43
theorem nmX2 : ∀ a, a < 43 → ∀ b, b < 43 → a ≠ b → (TX2 a).2.1 ≠ (TX2 b).2.1 := by decide +kernel
theorem tyX2_ok : ∀ k, k < 43 → parseFieldDescriptor (TX2 k).2.2.1 = some (tyX2 k) := by decide +kernel
def RX3 : String := "SelfSorting$Tokens"
def TX3 : u_T := fun k => match k with
  | 0 => ("SelfSorting$Tokens", "text", "[B", true)
  | 1 => ("SelfSorting$Tokens", "size", "I", true)
  | 2 => ("SelfSorting$Tokens", "at", "I", false)
  | 3 => ("SelfSorting$Tokens", "token", "I", false)
  | 4 => ("SelfSorting$Tokens", "sort", "I", false)
  | 5 => ("SelfSorting$Tokens", "number", "I", false)
  | 6 => ("SelfSorting$Tokens", "open", "I", false)
  | _ => ("SelfSorting$Tokens", "kind", "I", false)
def tyX3 : Nat → FieldType := fun k => match k with
  | 0 => .array .byte
  | 1 => .int
  | 2 => .int
  | 3 => .int
  | 4 => .int
  | 5 => .int
  | 6 => .int
  | _ => .int
abbrev wsX30 : List Cond := u_ws RX3 TX3 8
theorem nmX3 : ∀ a, a < 8 → ∀ b, b < 8 → a ≠ b → (TX3 a).2.1 ≠ (TX3 b).2.1 := by decide +kernel
theorem tyX3_ok : ∀ k, k < 8 → parseFieldDescriptor (TX3 k).2.2.1 = some (tyX3 k) := by decide +kernel
def RX4 : String := "SelfSorting$Text"
def TX4 : u_T := fun k => match k with
  | 0 => ("SelfSorting$Text", "law", "[LSelfSorting$Asked;", true)
  | 1 => ("SelfSorting$Text", "falls", "LSelfSorting$Asked;", false)
  | 2 => ("SelfSorting$Text", "swell", "LSelfSorting$Sum;", false)
  | 3 => ("SelfSorting$Text", "need", "I", false)
  | 4 => ("SelfSorting$Text", "clauses", "I", false)
  | _ => ("SelfSorting$Text", "doings", "Ljava/util/ArrayList;", true)
def tyX4 : Nat → FieldType := fun k => match k with
  | 0 => .array (.object "SelfSorting$Asked")
  | 1 => .object "SelfSorting$Asked"
  | 2 => .object "SelfSorting$Sum"
  | 3 => .int
  | 4 => .int
  | _ => .object "java/util/ArrayList"
abbrev wsX40 : List Cond := u_ws RX4 TX4 6
theorem nmX4 : ∀ a, a < 6 → ∀ b, b < 6 → a ≠ b → (TX4 a).2.1 ≠ (TX4 b).2.1 := by decide +kernel
theorem tyX4_ok : ∀ k, k < 6 → parseFieldDescriptor (TX4 k).2.2.1 = some (tyX4 k) := by decide +kernel
def RX5 : String := "SelfSorting$Wrong"
def TX5 : u_T := fun k => match k with
  | 0 => ("java/lang/Throwable", "cause", "Ljava/lang/Throwable;", false)
  | 1 => ("java/lang/Throwable", "stackTrace", "[Ljava/lang/StackTraceElement;", false)
  | 2 => ("java/lang/Throwable", "suppressedExceptions", "Ljava/util/List;", false)
  | 3 => ("java/lang/Throwable", "detailMessage", "Ljava/lang/String;", false)
  | 4 => ("java/lang/Throwable", "backtrace", "Ljava/lang/Object;", false)
  | 5 => ("java/lang/Throwable", "depth", "I", false)
  | 6 => ("SelfSorting$Wrong", "fault", "I", true)
  | _ => ("SelfSorting$Wrong", "place", "I", true)
def tyX5 : Nat → FieldType := fun k => match k with
  | 0 => .object "java/lang/Throwable"
  | 1 => .array (.object "java/lang/StackTraceElement")
  | 2 => .object "java/util/List"
  | 3 => .object "java/lang/String"
  | 4 => .object "java/lang/Object"
  | 5 => .int
  | 6 => .int
  | _ => .int
abbrev wsX50 : List Cond := u_ws RX5 TX5 8
theorem nmX5 : ∀ a, a < 8 → ∀ b, b < 8 → a ≠ b → (TX5 a).2.1 ≠ (TX5 b).2.1 := by decide +kernel
theorem tyX5_ok : ∀ k, k < 8 → parseFieldDescriptor (TX5 k).2.2.1 = some (tyX5 k) := by decide +kernel
def RX6 : String := "SelfSorting$Not"
def TX6 : u_T := fun k => match k with
  | _ => ("SelfSorting$Not", "x", "LSelfSorting$Asked;", true)
def tyX6 : Nat → FieldType := fun k => match k with
  | _ => .object "SelfSorting$Asked"
abbrev wsX60 : List Cond := u_ws RX6 TX6 1
theorem nmX6 : ∀ a, a < 1 → ∀ b, b < 1 → a ≠ b → (TX6 a).2.1 ≠ (TX6 b).2.1 := by decide +kernel
theorem tyX6_ok : ∀ k, k < 1 → parseFieldDescriptor (TX6 k).2.2.1 = some (tyX6 k) := by decide +kernel
def RX7 : String := "SelfSorting$Chain"
def TX7 : u_T := fun k => match k with
  | 0 => ("SelfSorting$Chain", "first", "LSelfSorting$Sum;", true)
  | 1 => ("SelfSorting$Chain", "more", "Ljava/util/ArrayList;", true)
  | _ => ("SelfSorting$Chain", "signs", "Ljava/util/ArrayList;", true)
def tyX7 : Nat → FieldType := fun k => match k with
  | 0 => .object "SelfSorting$Sum"
  | 1 => .object "java/util/ArrayList"
  | _ => .object "java/util/ArrayList"
abbrev wsX70 : List Cond := u_ws RX7 TX7 3
theorem nmX7 : ∀ a, a < 3 → ∀ b, b < 3 → a ≠ b → (TX7 a).2.1 ≠ (TX7 b).2.1 := by decide +kernel
theorem tyX7_ok : ∀ k, k < 3 → parseFieldDescriptor (TX7 k).2.2.1 = some (tyX7 k) := by decide +kernel
def RX8 : String := "SelfSorting$Plain"
def TX8 : u_T := fun k => match k with
  | _ => ("SelfSorting$Plain", "n", "I", true)
def tyX8 : Nat → FieldType := fun k => match k with
  | _ => .int
abbrev wsX80 : List Cond := u_ws RX8 TX8 1
theorem nmX8 : ∀ a, a < 1 → ∀ b, b < 1 → a ≠ b → (TX8 a).2.1 ≠ (TX8 b).2.1 := by decide +kernel
theorem tyX8_ok : ∀ k, k < 1 → parseFieldDescriptor (TX8 k).2.2.1 = some (tyX8 k) := by decide +kernel
def RX9 : String := "SelfSorting$Name"
def TX9 : u_T := fun k => match k with
  | _ => ("SelfSorting$Name", "which", "I", true)
def tyX9 : Nat → FieldType := fun k => match k with
  | _ => .int
abbrev wsX90 : List Cond := u_ws RX9 TX9 1
theorem nmX9 : ∀ a, a < 1 → ∀ b, b < 1 → a ≠ b → (TX9 a).2.1 ≠ (TX9 b).2.1 := by decide +kernel
theorem tyX9_ok : ∀ k, k < 1 → parseFieldDescriptor (TX9 k).2.2.1 = some (tyX9 k) := by decide +kernel
theorem q151 : (Jvm.Cond.initialized "SelfSortingLaw") ∈ lw_all := lw_g (lw_at lw_m1 0 rfl) rfl
theorem q152 : (Jvm.Cond.initialized "SelfSorting") ∈ lw_all := lw_g (lw_at lw_m1 1 rfl) rfl
theorem q153 : (Jvm.Cond.initialized "SelfSorting$State") ∈ lw_all := lw_g (lw_at lw_m1 2 rfl) rfl
theorem q154 : (Jvm.Cond.initialized "java/util/Arrays") ∈ lw_all := lw_g (lw_at lw_m1 3 rfl) rfl
theorem q155 : (Jvm.Cond.initialized "java/lang/System") ∈ lw_all := lw_g (lw_at lw_m1 4 rfl) rfl
theorem q156 : (Jvm.Cond.initialized "SelfSortingModel") ∈ lw_all := lw_g (lw_at lw_m1 5 rfl) rfl
theorem q157 : (Jvm.Cond.initialized "java/util/Objects") ∈ lw_all := lw_g (lw_at lw_m1 6 rfl) rfl
theorem q158 : (Jvm.Cond.initialized "jdk/internal/util/Preconditions") ∈ lw_all := lw_g (lw_at lw_m1 7 rfl) rfl
theorem q159 : (Jvm.Cond.initialized "java/lang/Math") ∈ lw_all := lw_g (lw_at lw_m1 8 rfl) rfl
theorem q160 : (Jvm.Cond.initialized "SelfSorting$Tokens") ∈ lw_all := lw_g (lw_at lw_m1 9 rfl) rfl
theorem q161 : (Jvm.Cond.initialized "SelfSorting$Text") ∈ lw_all := lw_g (lw_at lw_m1 10 rfl) rfl
theorem q162 : (Jvm.Cond.initialized "java/util/AbstractCollection") ∈ lw_all := lw_g (lw_at lw_m1 11 rfl) rfl
theorem q163 : (Jvm.Cond.initialized "java/util/AbstractList") ∈ lw_all := lw_g (lw_at lw_m1 12 rfl) rfl
theorem q164 : (Jvm.Cond.initialized "java/util/ArrayList") ∈ lw_all := lw_g (lw_at lw_m1 13 rfl) rfl
theorem q165 : (Jvm.Cond.initialized "java/lang/String") ∈ lw_all := lw_g (lw_at lw_m1 14 rfl) rfl
theorem q166 : (Jvm.Cond.initialized "java/lang/StringLatin1") ∈ lw_all := lw_g (lw_at lw_m1 15 rfl) rfl
theorem q167 : (Jvm.Cond.initialized "java/lang/StringUTF16") ∈ lw_all := lw_g (lw_at lw_m1 16 rfl) rfl
theorem q168 : (Jvm.Cond.initialized "java/lang/Throwable") ∈ lw_all := lw_g (lw_at lw_m1 17 rfl) rfl
theorem q169 : (Jvm.Cond.initialized "java/lang/Exception") ∈ lw_all := lw_g (lw_at lw_m1 18 rfl) rfl
theorem q170 : (Jvm.Cond.initialized "SelfSorting$Wrong") ∈ lw_all := lw_g (lw_at lw_m1 19 rfl) rfl
theorem q171 : (Jvm.Cond.initialized "java/lang/Record") ∈ lw_all := lw_g (lw_at lw_m1 20 rfl) rfl
theorem q172 : (Jvm.Cond.initialized "SelfSorting$Not") ∈ lw_all := lw_g (lw_at lw_m1 21 rfl) rfl
theorem q173 : (Jvm.Cond.initialized "SelfSorting$Chain") ∈ lw_all := lw_g (lw_at lw_m1 22 rfl) rfl
theorem q174 : (Jvm.Cond.initialized "SelfSorting$Plain") ∈ lw_all := lw_g (lw_at lw_m1 23 rfl) rfl
theorem q175 : (Jvm.Cond.initialized "SelfSorting$Name") ∈ lw_all := lw_g (lw_at lw_m1 24 rfl) rfl
theorem q176 : (Jvm.Cond.initialized "SelfSorting$Minus") ∈ lw_all := lw_g (lw_at lw_m1 25 rfl) rfl
theorem q177 : (Jvm.Cond.initialized "java/lang/Number") ∈ lw_all := lw_g (lw_at lw_m1 26 rfl) rfl
theorem q178 : (Jvm.Cond.initialized "java/lang/Integer") ∈ lw_all := lw_g (lw_at lw_m1 27 rfl) rfl
theorem q179 : (Jvm.Cond.initialized "java/lang/Integer$IntegerCache") ∈ lw_all := lw_g (lw_at lw_m1 28 rfl) rfl
theorem q180 : (Jvm.Cond.initialized "jdk/internal/util/ArraysSupport") ∈ lw_all := lw_g (lw_at lw_m1 29 rfl) rfl
theorem q181 : (Jvm.Cond.initialized "SelfSorting$Compared") ∈ lw_all := lw_g (lw_at lw_m1 30 rfl) rfl
theorem q182 : (Jvm.Cond.initialized "SelfSorting$All") ∈ lw_all := lw_g (lw_at lw_m1 31 rfl) rfl
theorem q183 : (Jvm.Cond.initialized "SelfSorting$Doing") ∈ lw_all := lw_g (lw_at lw_m1 32 rfl) rfl
theorem q184 : (Jvm.Cond.classLink "SelfSortingLaw" (7 : Nat) "SelfSorting") ∈ lw_all := lw_g (lw_at lw_m1 33 rfl) rfl
theorem q185 : (Jvm.Cond.instantiable "SelfSorting" (20 : Nat)) ∈ lw_all := lw_g (lw_at lw_m1 34 rfl) rfl
theorem q186 : (Jvm.Cond.methodLink "SelfSortingLaw" (9 : Nat) ({ cls := "SelfSorting", name := "<init>", desc := "()V" } : Jvm.MethodName)) ∈ lw_all := lw_g (lw_at lw_m1 35 rfl) rfl
theorem q187 : (Jvm.Cond.instanceMethod ({ cls := "SelfSorting", name := "<init>", desc := "()V" } : Jvm.MethodName)) ∈ lw_all := lw_g (lw_at lw_m1 36 rfl) rfl
theorem q188 : (Jvm.Cond.code ({ cls := "SelfSorting", name := "<init>", desc := "()V" } : Jvm.MethodName) prog_1_method_2_code (1 : Nat) (Option.none : Option Jvm.ClassFile.FieldType)) ∈ lw_all := lw_g (lw_at lw_m1 37 rfl) rfl
theorem q189 : (Jvm.Cond.methodLink "SelfSorting" (3 : Nat) ({ cls := "java/lang/Object", name := "<init>", desc := "()V" } : Jvm.MethodName)) ∈ lw_all := lw_g (lw_at lw_m1 38 rfl) rfl
theorem q190 : (Jvm.Cond.instanceMethod ({ cls := "java/lang/Object", name := "<init>", desc := "()V" } : Jvm.MethodName)) ∈ lw_all := lw_g (lw_at lw_m1 39 rfl) rfl
theorem q191 : (Jvm.Cond.code ({ cls := "java/lang/Object", name := "<init>", desc := "()V" } : Jvm.MethodName) object_method_1_code (1 : Nat) (Option.none : Option Jvm.ClassFile.FieldType)) ∈ lw_all := lw_g (lw_at lw_m1 40 rfl) rfl
theorem q192 : (Jvm.Cond.classLink "SelfSorting" (9 : Nat) "SelfSorting$State") ∈ lw_all := lw_g (lw_at lw_m1 41 rfl) rfl
theorem q193 : (Jvm.Cond.instantiable "SelfSorting$State" (7 : Nat)) ∈ lw_all := lw_g (lw_at lw_m1 42 rfl) rfl
theorem q194 : (Jvm.Cond.methodLink "SelfSorting" (11 : Nat) ({ cls := "SelfSorting$State", name := "<init>", desc := "()V" } : Jvm.MethodName)) ∈ lw_all := lw_g (lw_at lw_m1 43 rfl) rfl
theorem q195 : (Jvm.Cond.instanceMethod ({ cls := "SelfSorting$State", name := "<init>", desc := "()V" } : Jvm.MethodName)) ∈ lw_all := lw_g (lw_at lw_m1 44 rfl) rfl
theorem q196 : (Jvm.Cond.code ({ cls := "SelfSorting$State", name := "<init>", desc := "()V" } : Jvm.MethodName) prog_11_method_1_code (1 : Nat) (Option.none : Option Jvm.ClassFile.FieldType)) ∈ lw_all := lw_g (lw_at lw_m1 45 rfl) rfl
theorem q197 : (Jvm.Cond.methodLink "SelfSorting$State" (3 : Nat) ({ cls := "java/lang/Object", name := "<init>", desc := "()V" } : Jvm.MethodName)) ∈ lw_all := lw_g (lw_at lw_m1 46 rfl) rfl
theorem q198 : (Jvm.Cond.classLink "SelfSorting$State" (21 : Nat) "[[I") ∈ lw_all := lw_g (lw_at lw_m1 47 rfl) rfl
theorem q199 : (Jvm.Cond.arrayOver (Jvm.ClassFile.FieldType.array Jvm.ClassFile.FieldType.int)) ∈ lw_tbl := lw_at lw_m1 48 rfl
theorem q200 : (Jvm.Cond.classLink "SelfSorting$State" (32 : Nat) "SelfSorting$Text") ∈ lw_all := lw_g (lw_at lw_m1 49 rfl) rfl
theorem q201 : (Jvm.Cond.arrayOver (Jvm.ClassFile.FieldType.object "SelfSorting$Text")) ∈ lw_tbl := lw_at lw_m1 50 rfl
theorem q202 : (Jvm.Cond.methodLink "SelfSorting$State" (38 : Nat) ({ cls := "java/util/Arrays", name := "fill", desc := "([II)V" } : Jvm.MethodName)) ∈ lw_all := lw_g (lw_at lw_m1 51 rfl) rfl
theorem q203 : (Jvm.Cond.static ({ cls := "java/util/Arrays", name := "fill", desc := "([II)V" } : Jvm.MethodName)) ∈ lw_all := lw_g (lw_at lw_m1 52 rfl) rfl
theorem q204 : (Jvm.Cond.code ({ cls := "java/util/Arrays", name := "fill", desc := "([II)V" } : Jvm.MethodName) prog_39_method_103_code (4 : Nat) (Option.none : Option Jvm.ClassFile.FieldType)) ∈ lw_all := lw_g (lw_at lw_m1 53 rfl) rfl
theorem q205 : (Jvm.Cond.methodLink "SelfSorting$State" (44 : Nat) ({ cls := "java/util/Arrays", name := "fill", desc := "([IIII)V" } : Jvm.MethodName)) ∈ lw_all := lw_g (lw_at lw_m1 54 rfl) rfl
theorem q206 : (Jvm.Cond.static ({ cls := "java/util/Arrays", name := "fill", desc := "([IIII)V" } : Jvm.MethodName)) ∈ lw_all := lw_g (lw_at lw_m1 55 rfl) rfl
theorem q207 : (Jvm.Cond.code ({ cls := "java/util/Arrays", name := "fill", desc := "([IIII)V" } : Jvm.MethodName) prog_39_method_104_code (5 : Nat) (Option.none : Option Jvm.ClassFile.FieldType)) ∈ lw_all := lw_g (lw_at lw_m1 56 rfl) rfl
theorem q208 : (Jvm.Cond.methodLink "java/util/Arrays" (13 : Nat) ({ cls := "java/util/Arrays", name := "rangeCheck", desc := "(III)V" } : Jvm.MethodName)) ∈ lw_all := lw_g (lw_at lw_m1 57 rfl) rfl
theorem q209 : (Jvm.Cond.static ({ cls := "java/util/Arrays", name := "rangeCheck", desc := "(III)V" } : Jvm.MethodName)) ∈ lw_all := lw_g (lw_at lw_m1 58 rfl) rfl
theorem q210 : (Jvm.Cond.code ({ cls := "java/util/Arrays", name := "rangeCheck", desc := "(III)V" } : Jvm.MethodName) prog_39_method_30_code (3 : Nat) (Option.none : Option Jvm.ClassFile.FieldType)) ∈ lw_all := lw_g (lw_at lw_m1 59 rfl) rfl
theorem q211 : (Jvm.Cond.fieldLink "SelfSorting$State" (9 : Nat) "SelfSorting$State" "n" "[I") ∈ lw_all := lw_g (lw_at lw_m1 60 rfl) rfl
theorem q212 : (Jvm.Cond.fieldLinkNest "SelfSorting" (71 : Nat) "SelfSorting$State" "n" "[I" "SelfSorting") ∈ lw_tbl := lw_at lw_m1 61 rfl
theorem q213 : (Jvm.Cond.fieldLink "SelfSorting$State" (15 : Nat) "SelfSorting$State" "width" "[I") ∈ lw_all := lw_g (lw_at lw_m1 62 rfl) rfl
theorem q214 : (Jvm.Cond.fieldLinkNest "SelfSorting" (93 : Nat) "SelfSorting$State" "width" "[I" "SelfSorting") ∈ lw_tbl := lw_at lw_m1 63 rfl
theorem q215 : (Jvm.Cond.fieldLink "SelfSorting$State" (18 : Nat) "SelfSorting$State" "row" "[I") ∈ lw_all := lw_g (lw_at lw_m1 64 rfl) rfl
theorem q216 : (Jvm.Cond.fieldLinkNest "SelfSorting" (78 : Nat) "SelfSorting$State" "row" "[I" "SelfSorting") ∈ lw_tbl := lw_at lw_m1 65 rfl
theorem q217 : (Jvm.Cond.fieldLink "SelfSorting$State" (23 : Nat) "SelfSorting$State" "book" "[[I") ∈ lw_all := lw_g (lw_at lw_m1 66 rfl) rfl
theorem q218 : (Jvm.Cond.fieldLinkNest "SelfSorting" (96 : Nat) "SelfSorting$State" "book" "[[I" "SelfSorting") ∈ lw_tbl := lw_at lw_m1 67 rfl
theorem q219 : (Jvm.Cond.fieldLink "SelfSorting$State" (26 : Nat) "SelfSorting$State" "dust" "[[I") ∈ lw_all := lw_g (lw_at lw_m1 68 rfl) rfl
theorem q220 : (Jvm.Cond.fieldLinkNest "SelfSorting" (398 : Nat) "SelfSorting$State" "dust" "[[I" "SelfSorting") ∈ lw_tbl := lw_at lw_m1 69 rfl
theorem q221 : (Jvm.Cond.fieldLink "SelfSorting$State" (29 : Nat) "SelfSorting$State" "step" "[[I") ∈ lw_all := lw_g (lw_at lw_m1 70 rfl) rfl
theorem q222 : (Jvm.Cond.fieldLinkNest "SelfSorting" (299 : Nat) "SelfSorting$State" "step" "[[I" "SelfSorting") ∈ lw_tbl := lw_at lw_m1 71 rfl
theorem q223 : (Jvm.Cond.fieldLink "SelfSorting$State" (34 : Nat) "SelfSorting$State" "text" "[LSelfSorting$Text;") ∈ lw_all := lw_g (lw_at lw_m1 72 rfl) rfl
theorem q224 : (Jvm.Cond.fieldLinkNest "SelfSorting" (110 : Nat) "SelfSorting$State" "text" "[LSelfSorting$Text;" "SelfSorting") ∈ lw_tbl := lw_at lw_m1 73 rfl
theorem q225 : (Jvm.Cond.laysFinal "SelfSorting$State" "SelfSorting$State" "n" "[I") ∈ lw_all := lw_g (lw_at lw_m1 74 rfl) rfl
theorem q226 : (Jvm.Cond.soleField "SelfSorting$State" "n") ∈ lw_all := lw_g (lw_at lw_m1 75 rfl) rfl
theorem q227 : (Jvm.Cond.laysFinal "SelfSorting$State" "SelfSorting$State" "width" "[I") ∈ lw_all := lw_g (lw_at lw_m1 76 rfl) rfl
theorem q228 : (Jvm.Cond.soleField "SelfSorting$State" "width") ∈ lw_all := lw_g (lw_at lw_m1 77 rfl) rfl
theorem q229 : (Jvm.Cond.laysFinal "SelfSorting$State" "SelfSorting$State" "row" "[I") ∈ lw_all := lw_g (lw_at lw_m1 78 rfl) rfl
theorem q230 : (Jvm.Cond.soleField "SelfSorting$State" "row") ∈ lw_all := lw_g (lw_at lw_m1 79 rfl) rfl
theorem q231 : (Jvm.Cond.laysFinal "SelfSorting$State" "SelfSorting$State" "book" "[[I") ∈ lw_all := lw_g (lw_at lw_m1 80 rfl) rfl
theorem q232 : (Jvm.Cond.soleField "SelfSorting$State" "book") ∈ lw_all := lw_g (lw_at lw_m1 81 rfl) rfl
theorem q233 : (Jvm.Cond.laysFinal "SelfSorting$State" "SelfSorting$State" "dust" "[[I") ∈ lw_all := lw_g (lw_at lw_m1 82 rfl) rfl
theorem q234 : (Jvm.Cond.soleField "SelfSorting$State" "dust") ∈ lw_all := lw_g (lw_at lw_m1 83 rfl) rfl
theorem q235 : (Jvm.Cond.laysFinal "SelfSorting$State" "SelfSorting$State" "step" "[[I") ∈ lw_all := lw_g (lw_at lw_m1 84 rfl) rfl
theorem q236 : (Jvm.Cond.soleField "SelfSorting$State" "step") ∈ lw_all := lw_g (lw_at lw_m1 85 rfl) rfl
theorem q237 : (Jvm.Cond.laysFinal "SelfSorting$State" "SelfSorting$State" "text" "[LSelfSorting$Text;") ∈ lw_all := lw_g (lw_at lw_m1 86 rfl) rfl
theorem q238 : (Jvm.Cond.soleField "SelfSorting$State" "text") ∈ lw_all := lw_g (lw_at lw_m1 87 rfl) rfl
theorem q239 : (Jvm.Cond.superclass "SelfSorting$State" "java/lang/Object") ∈ lw_all := lw_g (lw_at lw_m1 88 rfl) rfl
theorem q240 : (Jvm.Cond.arrayClass Jvm.ClassFile.FieldType.int) ∈ lw_all := lw_g (lw_at lw_m1 89 rfl) rfl
theorem q241 : (Jvm.Cond.classLink "SelfSorting" (56 : Nat) "[[I") ∈ lw_all := lw_g (lw_at lw_m1 90 rfl) rfl
theorem q242 : (Jvm.Cond.methodLink "SelfSorting" (67 : Nat) ({ cls := "SelfSorting$State", name := "be", desc := "(LSelfSorting$State;)V" } : Jvm.MethodName)) ∈ lw_all := lw_g (lw_at lw_m1 91 rfl) rfl
theorem q243 : (Jvm.Cond.instanceMethod ({ cls := "SelfSorting$State", name := "be", desc := "(LSelfSorting$State;)V" } : Jvm.MethodName)) ∈ lw_all := lw_g (lw_at lw_m1 92 rfl) rfl
theorem q244 : (Jvm.Cond.selects "SelfSorting$State" ({ cls := "SelfSorting$State", name := "be", desc := "(LSelfSorting$State;)V" } : Jvm.MethodName) ({ cls := "SelfSorting$State", name := "be", desc := "(LSelfSorting$State;)V" } : Jvm.MethodName)) ∈ lw_all := lw_g (lw_at lw_m1 93 rfl) rfl
theorem q245 : (Jvm.Cond.code ({ cls := "SelfSorting$State", name := "be", desc := "(LSelfSorting$State;)V" } : Jvm.MethodName) prog_11_method_4_code (2 : Nat) (Option.none : Option Jvm.ClassFile.FieldType)) ∈ lw_all := lw_g (lw_at lw_m1 94 rfl) rfl
theorem q246 : (Jvm.Cond.methodLink "SelfSorting$State" (53 : Nat) ({ cls := "SelfSorting$State", name := "copy", desc := "([I[I)V" } : Jvm.MethodName)) ∈ lw_all := lw_g (lw_at lw_m1 95 rfl) rfl
theorem q247 : (Jvm.Cond.static ({ cls := "SelfSorting$State", name := "copy", desc := "([I[I)V" } : Jvm.MethodName)) ∈ lw_all := lw_g (lw_at lw_m1 96 rfl) rfl
theorem q248 : (Jvm.Cond.code ({ cls := "SelfSorting$State", name := "copy", desc := "([I[I)V" } : Jvm.MethodName) prog_11_method_2_code (2 : Nat) (Option.none : Option Jvm.ClassFile.FieldType)) ∈ lw_all := lw_g (lw_at lw_m1 97 rfl) rfl
theorem q249 : (Jvm.Cond.methodLink "SelfSorting$State" (47 : Nat) ({ cls := "java/lang/System", name := "arraycopy", desc := "(Ljava/lang/Object;ILjava/lang/Object;II)V" } : Jvm.MethodName)) ∈ lw_all := lw_g (lw_at lw_m1 98 rfl) rfl
theorem q250 : (Jvm.Cond.static ({ cls := "java/lang/System", name := "arraycopy", desc := "(Ljava/lang/Object;ILjava/lang/Object;II)V" } : Jvm.MethodName)) ∈ lw_all := lw_g (lw_at lw_m1 99 rfl) rfl
theorem q251 : (Jvm.Cond.native ({ cls := "java/lang/System", name := "arraycopy", desc := "(Ljava/lang/Object;ILjava/lang/Object;II)V" } : Jvm.MethodName)) ∈ lw_all := lw_g (lw_at lw_m1 100 rfl) rfl
theorem q252 : (Jvm.Cond.methodLink "SelfSorting$State" (57 : Nat) ({ cls := "SelfSorting$State", name := "copy", desc := "([[I[[I)V" } : Jvm.MethodName)) ∈ lw_all := lw_g (lw_at lw_m1 101 rfl) rfl
theorem q253 : (Jvm.Cond.static ({ cls := "SelfSorting$State", name := "copy", desc := "([[I[[I)V" } : Jvm.MethodName)) ∈ lw_all := lw_g (lw_at lw_m1 102 rfl) rfl
theorem q254 : (Jvm.Cond.code ({ cls := "SelfSorting$State", name := "copy", desc := "([[I[[I)V" } : Jvm.MethodName) prog_11_method_3_code (3 : Nat) (Option.none : Option Jvm.ClassFile.FieldType)) ∈ lw_all := lw_g (lw_at lw_m1 103 rfl) rfl
theorem q255 : (Jvm.Cond.fieldLink "SelfSorting" (12 : Nat) "SelfSorting" "now" "LSelfSorting$State;") ∈ lw_all := lw_g (lw_at lw_m1 104 rfl) rfl
theorem q256 : (Jvm.Cond.fieldLink "SelfSorting" (16 : Nat) "SelfSorting" "image" "LSelfSorting$State;") ∈ lw_all := lw_g (lw_at lw_m1 105 rfl) rfl
theorem q257 : (Jvm.Cond.fieldLink "SelfSorting" (19 : Nat) "SelfSorting" "tape" "[B") ∈ lw_all := lw_g (lw_at lw_m1 106 rfl) rfl
theorem q258 : (Jvm.Cond.fieldLink "SelfSorting" (103 : Nat) "SelfSorting" "taped" "I") ∈ lw_all := lw_g (lw_at lw_m1 107 rfl) rfl
theorem q259 : (Jvm.Cond.fieldLink "SelfSorting" (23 : Nat) "SelfSorting" "fault" "I") ∈ lw_all := lw_g (lw_at lw_m1 108 rfl) rfl
theorem q260 : (Jvm.Cond.fieldLink "SelfSorting" (27 : Nat) "SelfSorting" "faultAt" "I") ∈ lw_all := lw_g (lw_at lw_m1 109 rfl) rfl
theorem q261 : (Jvm.Cond.fieldLink "SelfSorting" (30 : Nat) "SelfSorting" "names" "[I") ∈ lw_all := lw_g (lw_at lw_m1 110 rfl) rfl
theorem q262 : (Jvm.Cond.fieldLink "SelfSorting" (34 : Nat) "SelfSorting" "change" "[I") ∈ lw_all := lw_g (lw_at lw_m1 111 rfl) rfl
theorem q263 : (Jvm.Cond.fieldLink "SelfSorting" (37 : Nat) "SelfSorting" "row" "[I") ∈ lw_all := lw_g (lw_at lw_m1 112 rfl) rfl
theorem q264 : (Jvm.Cond.fieldLink "SelfSorting" (40 : Nat) "SelfSorting" "stood" "[J") ∈ lw_all := lw_g (lw_at lw_m1 113 rfl) rfl
theorem q265 : (Jvm.Cond.fieldLink "SelfSorting" (305 : Nat) "SelfSorting" "many" "I") ∈ lw_all := lw_g (lw_at lw_m1 114 rfl) rfl
theorem q266 : (Jvm.Cond.fieldLink "SelfSorting" (44 : Nat) "SelfSorting" "chosen" "[I") ∈ lw_all := lw_g (lw_at lw_m1 115 rfl) rfl
theorem q267 : (Jvm.Cond.fieldLink "SelfSorting" (47 : Nat) "SelfSorting" "order" "[I") ∈ lw_all := lw_g (lw_at lw_m1 116 rfl) rfl
theorem q268 : (Jvm.Cond.fieldLink "SelfSorting" (329 : Nat) "SelfSorting" "size" "I") ∈ lw_all := lw_g (lw_at lw_m1 117 rfl) rfl
theorem q269 : (Jvm.Cond.fieldLink "SelfSorting" (336 : Nat) "SelfSorting" "calms" "I") ∈ lw_all := lw_g (lw_at lw_m1 118 rfl) rfl
theorem q270 : (Jvm.Cond.fieldLink "SelfSorting" (50 : Nat) "SelfSorting" "found" "[I") ∈ lw_all := lw_g (lw_at lw_m1 119 rfl) rfl
theorem q271 : (Jvm.Cond.fieldLink "SelfSorting" (53 : Nat) "SelfSorting" "far" "[I") ∈ lw_all := lw_g (lw_at lw_m1 120 rfl) rfl
theorem q272 : (Jvm.Cond.fieldLink "SelfSorting" (58 : Nat) "SelfSorting" "moved" "[[I") ∈ lw_all := lw_g (lw_at lw_m1 121 rfl) rfl
theorem q273 : (Jvm.Cond.fieldLink "SelfSorting" (61 : Nat) "SelfSorting" "times" "[I") ∈ lw_all := lw_g (lw_at lw_m1 122 rfl) rfl
theorem q274 : (Jvm.Cond.fieldLink "SelfSorting" (64 : Nat) "SelfSorting" "others" "[I") ∈ lw_all := lw_g (lw_at lw_m1 123 rfl) rfl
theorem q275 : (Jvm.Cond.laysFinal "SelfSorting" "SelfSorting" "now" "LSelfSorting$State;") ∈ lw_all := lw_g (lw_at lw_m1 124 rfl) rfl
theorem q276 : (Jvm.Cond.soleField "SelfSorting" "now") ∈ lw_all := lw_g (lw_at lw_m1 125 rfl) rfl
theorem q277 : (Jvm.Cond.laysFinal "SelfSorting" "SelfSorting" "image" "LSelfSorting$State;") ∈ lw_all := lw_g (lw_at lw_m1 126 rfl) rfl
theorem q278 : (Jvm.Cond.soleField "SelfSorting" "image") ∈ lw_all := lw_g (lw_at lw_m1 127 rfl) rfl
theorem q279 : (Jvm.Cond.laysFinal "SelfSorting" "SelfSorting" "tape" "[B") ∈ lw_all := lw_g (lw_at lw_m1 128 rfl) rfl
theorem q280 : (Jvm.Cond.soleField "SelfSorting" "tape") ∈ lw_all := lw_g (lw_at lw_m1 129 rfl) rfl
theorem q281 : (Jvm.Cond.lays "SelfSorting" "SelfSorting" "taped" "I") ∈ lw_all := lw_g (lw_at lw_m1 130 rfl) rfl
theorem q282 : (Jvm.Cond.soleField "SelfSorting" "taped") ∈ lw_all := lw_g (lw_at lw_m1 131 rfl) rfl
theorem q283 : (Jvm.Cond.lays "SelfSorting" "SelfSorting" "fault" "I") ∈ lw_all := lw_g (lw_at lw_m1 132 rfl) rfl
theorem q284 : (Jvm.Cond.soleField "SelfSorting" "fault") ∈ lw_all := lw_g (lw_at lw_m1 133 rfl) rfl
theorem q285 : (Jvm.Cond.lays "SelfSorting" "SelfSorting" "faultAt" "I") ∈ lw_all := lw_g (lw_at lw_m1 134 rfl) rfl
theorem q286 : (Jvm.Cond.soleField "SelfSorting" "faultAt") ∈ lw_all := lw_g (lw_at lw_m1 135 rfl) rfl
theorem q287 : (Jvm.Cond.laysFinal "SelfSorting" "SelfSorting" "names" "[I") ∈ lw_all := lw_g (lw_at lw_m1 136 rfl) rfl
theorem q288 : (Jvm.Cond.soleField "SelfSorting" "names") ∈ lw_all := lw_g (lw_at lw_m1 137 rfl) rfl
theorem q289 : (Jvm.Cond.laysFinal "SelfSorting" "SelfSorting" "change" "[I") ∈ lw_all := lw_g (lw_at lw_m1 138 rfl) rfl
theorem q290 : (Jvm.Cond.soleField "SelfSorting" "change") ∈ lw_all := lw_g (lw_at lw_m1 139 rfl) rfl
theorem q291 : (Jvm.Cond.laysFinal "SelfSorting" "SelfSorting" "row" "[I") ∈ lw_all := lw_g (lw_at lw_m1 140 rfl) rfl
theorem q292 : (Jvm.Cond.soleField "SelfSorting" "row") ∈ lw_all := lw_g (lw_at lw_m1 141 rfl) rfl
theorem q293 : (Jvm.Cond.laysFinal "SelfSorting" "SelfSorting" "stood" "[J") ∈ lw_all := lw_g (lw_at lw_m1 142 rfl) rfl
theorem q294 : (Jvm.Cond.soleField "SelfSorting" "stood") ∈ lw_all := lw_g (lw_at lw_m1 143 rfl) rfl
theorem q295 : (Jvm.Cond.lays "SelfSorting" "SelfSorting" "many" "I") ∈ lw_all := lw_g (lw_at lw_m1 144 rfl) rfl
theorem q296 : (Jvm.Cond.soleField "SelfSorting" "many") ∈ lw_all := lw_g (lw_at lw_m1 145 rfl) rfl
theorem q297 : (Jvm.Cond.laysFinal "SelfSorting" "SelfSorting" "chosen" "[I") ∈ lw_all := lw_g (lw_at lw_m1 146 rfl) rfl
theorem q298 : (Jvm.Cond.soleField "SelfSorting" "chosen") ∈ lw_all := lw_g (lw_at lw_m1 147 rfl) rfl
theorem q299 : (Jvm.Cond.laysFinal "SelfSorting" "SelfSorting" "order" "[I") ∈ lw_all := lw_g (lw_at lw_m1 148 rfl) rfl
theorem q300 : (Jvm.Cond.soleField "SelfSorting" "order") ∈ lw_all := lw_g (lw_at lw_m1 149 rfl) rfl
theorem q301 : (Jvm.Cond.lays "SelfSorting" "SelfSorting" "size" "I") ∈ lw_all := lw_g (lw_at lw_m1 150 rfl) rfl
theorem q302 : (Jvm.Cond.soleField "SelfSorting" "size") ∈ lw_all := lw_g (lw_at lw_m1 151 rfl) rfl
theorem q303 : (Jvm.Cond.lays "SelfSorting" "SelfSorting" "calms" "I") ∈ lw_all := lw_g (lw_at lw_m1 152 rfl) rfl
theorem q304 : (Jvm.Cond.soleField "SelfSorting" "calms") ∈ lw_all := lw_g (lw_at lw_m1 153 rfl) rfl
theorem q305 : (Jvm.Cond.laysFinal "SelfSorting" "SelfSorting" "found" "[I") ∈ lw_all := lw_g (lw_at lw_m1 154 rfl) rfl
theorem q306 : (Jvm.Cond.soleField "SelfSorting" "found") ∈ lw_all := lw_g (lw_at lw_m1 155 rfl) rfl
theorem q307 : (Jvm.Cond.laysFinal "SelfSorting" "SelfSorting" "far" "[I") ∈ lw_all := lw_g (lw_at lw_m1 156 rfl) rfl
theorem q308 : (Jvm.Cond.soleField "SelfSorting" "far") ∈ lw_all := lw_g (lw_at lw_m1 157 rfl) rfl
theorem q309 : (Jvm.Cond.laysFinal "SelfSorting" "SelfSorting" "moved" "[[I") ∈ lw_all := lw_g (lw_at lw_m1 158 rfl) rfl
theorem q310 : (Jvm.Cond.soleField "SelfSorting" "moved") ∈ lw_all := lw_g (lw_at lw_m1 159 rfl) rfl
theorem q311 : (Jvm.Cond.laysFinal "SelfSorting" "SelfSorting" "times" "[I") ∈ lw_all := lw_g (lw_at lw_m1 160 rfl) rfl
theorem q312 : (Jvm.Cond.soleField "SelfSorting" "times") ∈ lw_all := lw_g (lw_at lw_m1 161 rfl) rfl
theorem q313 : (Jvm.Cond.laysFinal "SelfSorting" "SelfSorting" "others" "[I") ∈ lw_all := lw_g (lw_at lw_m1 162 rfl) rfl
theorem q314 : (Jvm.Cond.soleField "SelfSorting" "others") ∈ lw_all := lw_g (lw_at lw_m1 163 rfl) rfl
theorem q315 : (Jvm.Cond.superclass "SelfSorting" "java/lang/Object") ∈ lw_all := lw_g (lw_at lw_m1 164 rfl) rfl
theorem q316 : (Jvm.Cond.arrayClass Jvm.ClassFile.FieldType.byte) ∈ lw_all := lw_g (lw_at lw_m1 165 rfl) rfl
theorem q317 : (Jvm.Cond.arrayClass Jvm.ClassFile.FieldType.long) ∈ lw_all := lw_g (lw_at lw_m1 166 rfl) rfl
theorem q318 : (Jvm.Cond.methodLink "SelfSortingLaw" (13 : Nat) ({ cls := "SelfSorting", name := "wide", desc := "(II)Z" } : Jvm.MethodName)) ∈ lw_all := lw_g (lw_at lw_m1 167 rfl) rfl
theorem q319 : (Jvm.Cond.instanceMethod ({ cls := "SelfSorting", name := "wide", desc := "(II)Z" } : Jvm.MethodName)) ∈ lw_all := lw_g (lw_at lw_m1 168 rfl) rfl
theorem q320 : (Jvm.Cond.selects "SelfSorting" ({ cls := "SelfSorting", name := "wide", desc := "(II)Z" } : Jvm.MethodName) ({ cls := "SelfSorting", name := "wide", desc := "(II)Z" } : Jvm.MethodName)) ∈ lw_all := lw_g (lw_at lw_m1 169 rfl) rfl
theorem q321 : (Jvm.Cond.code ({ cls := "SelfSorting", name := "wide", desc := "(II)Z" } : Jvm.MethodName) prog_1_method_7_code (3 : Nat) (Option.some Jvm.ClassFile.FieldType.boolean)) ∈ lw_all := lw_g (lw_at lw_m1 170 rfl) rfl
theorem q322 : (Jvm.Cond.methodLink "SelfSorting" (87 : Nat) ({ cls := "SelfSorting", name := "isShelf", desc := "(I)Z" } : Jvm.MethodName)) ∈ lw_all := lw_g (lw_at lw_m1 171 rfl) rfl
theorem q323 : (Jvm.Cond.static ({ cls := "SelfSorting", name := "isShelf", desc := "(I)Z" } : Jvm.MethodName)) ∈ lw_all := lw_g (lw_at lw_m1 172 rfl) rfl
theorem q324 : (Jvm.Cond.code ({ cls := "SelfSorting", name := "isShelf", desc := "(I)Z" } : Jvm.MethodName) prog_1_method_4_code (1 : Nat) (Option.some Jvm.ClassFile.FieldType.boolean)) ∈ lw_all := lw_g (lw_at lw_m1 173 rfl) rfl
theorem q325 : (Jvm.Cond.methodLink "SelfSorting" (74 : Nat) ({ cls := "SelfSorting", name := "in", desc := "(III)Z" } : Jvm.MethodName)) ∈ lw_all := lw_g (lw_at lw_m1 174 rfl) rfl
theorem q326 : (Jvm.Cond.static ({ cls := "SelfSorting", name := "in", desc := "(III)Z" } : Jvm.MethodName)) ∈ lw_all := lw_g (lw_at lw_m1 175 rfl) rfl
theorem q327 : (Jvm.Cond.code ({ cls := "SelfSorting", name := "in", desc := "(III)Z" } : Jvm.MethodName) prog_1_method_1_code (3 : Nat) (Option.some Jvm.ClassFile.FieldType.boolean)) ∈ lw_all := lw_g (lw_at lw_m1 176 rfl) rfl
theorem q328 : (Jvm.Cond.methodLink "SelfSorting" (90 : Nat) ({ cls := "SelfSorting", name := "fullOf", desc := "(I)I" } : Jvm.MethodName)) ∈ lw_all := lw_g (lw_at lw_m1 177 rfl) rfl
theorem q329 : (Jvm.Cond.privateMethod ({ cls := "SelfSorting", name := "fullOf", desc := "(I)I" } : Jvm.MethodName)) ∈ lw_tbl := lw_at lw_m1 178 rfl
theorem q330 : (Jvm.Cond.instanceMethod ({ cls := "SelfSorting", name := "fullOf", desc := "(I)I" } : Jvm.MethodName)) ∈ lw_all := lw_g (lw_at lw_m1 179 rfl) rfl
theorem q331 : (Jvm.Cond.code ({ cls := "SelfSorting", name := "fullOf", desc := "(I)I" } : Jvm.MethodName) prog_1_method_23_code (4 : Nat) (Option.some Jvm.ClassFile.FieldType.int)) ∈ lw_all := lw_g (lw_at lw_m1 180 rfl) rfl
theorem q332 : (Jvm.Cond.methodLink "SelfSorting" (189 : Nat) ({ cls := "SelfSorting$State", name := "many", desc := "(I)I" } : Jvm.MethodName)) ∈ lw_all := lw_g (lw_at lw_m1 181 rfl) rfl
theorem q333 : (Jvm.Cond.instanceMethod ({ cls := "SelfSorting$State", name := "many", desc := "(I)I" } : Jvm.MethodName)) ∈ lw_all := lw_g (lw_at lw_m1 182 rfl) rfl
theorem q334 : (Jvm.Cond.selects "SelfSorting$State" ({ cls := "SelfSorting$State", name := "many", desc := "(I)I" } : Jvm.MethodName) ({ cls := "SelfSorting$State", name := "many", desc := "(I)I" } : Jvm.MethodName)) ∈ lw_all := lw_g (lw_at lw_m1 183 rfl) rfl
theorem q335 : (Jvm.Cond.code ({ cls := "SelfSorting$State", name := "many", desc := "(I)I" } : Jvm.MethodName) prog_11_method_6_code (2 : Nat) (Option.some Jvm.ClassFile.FieldType.int)) ∈ lw_all := lw_g (lw_at lw_m1 184 rfl) rfl
theorem q336 : (Jvm.Cond.methodLink "SelfSorting" (192 : Nat) ({ cls := "SelfSorting$State", name := "bookAt", desc := "(II)I" } : Jvm.MethodName)) ∈ lw_all := lw_g (lw_at lw_m1 185 rfl) rfl
theorem q337 : (Jvm.Cond.instanceMethod ({ cls := "SelfSorting$State", name := "bookAt", desc := "(II)I" } : Jvm.MethodName)) ∈ lw_all := lw_g (lw_at lw_m1 186 rfl) rfl
theorem q338 : (Jvm.Cond.selects "SelfSorting$State" ({ cls := "SelfSorting$State", name := "bookAt", desc := "(II)I" } : Jvm.MethodName) ({ cls := "SelfSorting$State", name := "bookAt", desc := "(II)I" } : Jvm.MethodName)) ∈ lw_all := lw_g (lw_at lw_m1 187 rfl) rfl
theorem q339 : (Jvm.Cond.code ({ cls := "SelfSorting$State", name := "bookAt", desc := "(II)I" } : Jvm.MethodName) prog_11_method_7_code (3 : Nat) (Option.some Jvm.ClassFile.FieldType.int)) ∈ lw_all := lw_g (lw_at lw_m1 188 rfl) rfl
theorem q340 : (Jvm.Cond.methodLink "SelfSorting" (196 : Nat) ({ cls := "SelfSorting", name := "thickNow", desc := "(I)I" } : Jvm.MethodName)) ∈ lw_all := lw_g (lw_at lw_m1 189 rfl) rfl
theorem q341 : (Jvm.Cond.privateMethod ({ cls := "SelfSorting", name := "thickNow", desc := "(I)I" } : Jvm.MethodName)) ∈ lw_tbl := lw_at lw_m1 190 rfl
theorem q342 : (Jvm.Cond.instanceMethod ({ cls := "SelfSorting", name := "thickNow", desc := "(I)I" } : Jvm.MethodName)) ∈ lw_all := lw_g (lw_at lw_m1 191 rfl) rfl
theorem q343 : (Jvm.Cond.code ({ cls := "SelfSorting", name := "thickNow", desc := "(I)I" } : Jvm.MethodName) prog_1_method_22_code (3 : Nat) (Option.some Jvm.ClassFile.FieldType.int)) ∈ lw_all := lw_g (lw_at lw_m1 192 rfl) rfl
theorem q344 : (Jvm.Cond.methodLink "SelfSorting" (142 : Nat) ({ cls := "SelfSorting", name := "rules", desc := "()LSelfSorting$Text;" } : Jvm.MethodName)) ∈ lw_all := lw_g (lw_at lw_m1 193 rfl) rfl
theorem q345 : (Jvm.Cond.privateMethod ({ cls := "SelfSorting", name := "rules", desc := "()LSelfSorting$Text;" } : Jvm.MethodName)) ∈ lw_tbl := lw_at lw_m1 194 rfl
theorem q346 : (Jvm.Cond.instanceMethod ({ cls := "SelfSorting", name := "rules", desc := "()LSelfSorting$Text;" } : Jvm.MethodName)) ∈ lw_all := lw_g (lw_at lw_m1 195 rfl) rfl
theorem q347 : (Jvm.Cond.code ({ cls := "SelfSorting", name := "rules", desc := "()LSelfSorting$Text;" } : Jvm.MethodName) prog_1_method_17_code (1 : Nat) (Option.some (Jvm.ClassFile.FieldType.object "SelfSorting$Text"))) ∈ lw_all := lw_g (lw_at lw_m1 196 rfl) rfl
theorem q348 : (Jvm.Cond.fieldLink "SelfSorting" (132 : Nat) "SelfSorting" "NOTHING" "LSelfSorting$Text;") ∈ lw_all := lw_g (lw_at lw_m1 197 rfl) rfl
theorem q349 : (Jvm.Cond.laysStatic "SelfSorting" "NOTHING" "LSelfSorting$Text;") ∈ lw_tbl := lw_at lw_m1 198 rfl
theorem q350 : (Jvm.Cond.methodLink "SelfSorting" (151 : Nat) ({ cls := "SelfSorting", name := "namesOwn", desc := "(I)V" } : Jvm.MethodName)) ∈ lw_all := lw_g (lw_at lw_m1 199 rfl) rfl
theorem q351 : (Jvm.Cond.privateMethod ({ cls := "SelfSorting", name := "namesOwn", desc := "(I)V" } : Jvm.MethodName)) ∈ lw_tbl := lw_at lw_m1 200 rfl
theorem q352 : (Jvm.Cond.instanceMethod ({ cls := "SelfSorting", name := "namesOwn", desc := "(I)V" } : Jvm.MethodName)) ∈ lw_all := lw_g (lw_at lw_m1 201 rfl) rfl
theorem q353 : (Jvm.Cond.code ({ cls := "SelfSorting", name := "namesOwn", desc := "(I)V" } : Jvm.MethodName) prog_1_method_18_code (2 : Nat) (Option.none : Option Jvm.ClassFile.FieldType)) ∈ lw_all := lw_g (lw_at lw_m1 202 rfl) rfl
theorem q354 : (Jvm.Cond.methodLink "SelfSorting" (136 : Nat) ({ cls := "java/lang/System", name := "arraycopy", desc := "(Ljava/lang/Object;ILjava/lang/Object;II)V" } : Jvm.MethodName)) ∈ lw_all := lw_g (lw_at lw_m1 203 rfl) rfl
theorem q355 : (Jvm.Cond.constantLong "SelfSorting" (172 : Nat) (9 : Int64)) ∈ lw_all := lw_g (lw_at lw_m1 204 rfl) rfl
theorem q356 : (Jvm.Cond.interfaceEntry "SelfSorting" (174 : Nat)) ∈ lw_tbl := lw_at lw_m1 205 rfl
theorem q357 : (Jvm.Cond.methodLink "SelfSorting" (174 : Nat) ({ cls := "SelfSorting$Sum", name := "of", desc := "([I)J" } : Jvm.MethodName)) ∈ lw_all := lw_g (lw_at lw_m1 206 rfl) rfl
theorem q358 : (Jvm.Cond.interfaceMethod "SelfSorting$Sum" "SelfSorting$Sum" "of" "([I)J") ∈ lw_tbl := lw_at lw_m1 207 rfl
theorem q359 : (Jvm.Cond.declares ({ cls := "SelfSorting$Sum", name := "of", desc := "([I)J" } : Jvm.MethodName)) ∈ lw_tbl := lw_at lw_m1 208 rfl
theorem q360 : (Jvm.Cond.castable "SelfSorting$Chain" "SelfSorting$Sum") ∈ lw_tbl := lw_at lw_m1 209 rfl
theorem q361 : (Jvm.Cond.selects "SelfSorting$Chain" ({ cls := "SelfSorting$Sum", name := "of", desc := "([I)J" } : Jvm.MethodName) ({ cls := "SelfSorting$Chain", name := "of", desc := "([I)J" } : Jvm.MethodName)) ∈ lw_all := lw_g (lw_at lw_m1 210 rfl) rfl
theorem q362 : (Jvm.Cond.unhidden "SelfSorting$Chain" "of" "([I)J") ∈ lw_tbl := lw_at lw_m1 211 rfl
theorem q363 : (Jvm.Cond.instanceMethod ({ cls := "SelfSorting$Chain", name := "of", desc := "([I)J" } : Jvm.MethodName)) ∈ lw_all := lw_g (lw_at lw_m1 212 rfl) rfl
theorem q364 : (Jvm.Cond.publicMethod ({ cls := "SelfSorting$Chain", name := "of", desc := "([I)J" } : Jvm.MethodName)) ∈ lw_tbl := lw_at lw_m1 213 rfl
theorem q365 : (Jvm.Cond.code ({ cls := "SelfSorting$Chain", name := "of", desc := "([I)J" } : Jvm.MethodName) prog_4_method_4_code (10 : Nat) (Option.some Jvm.ClassFile.FieldType.long)) ∈ lw_all := lw_g (lw_at lw_m1 214 rfl) rfl
theorem q366 : (Jvm.Cond.interfaceEntry "SelfSorting$Chain" (39 : Nat)) ∈ lw_tbl := lw_at lw_m1 215 rfl
theorem q367 : (Jvm.Cond.methodLink "SelfSorting$Chain" (39 : Nat) ({ cls := "SelfSorting$Sum", name := "of", desc := "([I)J" } : Jvm.MethodName)) ∈ lw_all := lw_g (lw_at lw_m1 216 rfl) rfl
theorem q368 : (Jvm.Cond.castable "SelfSorting$Minus" "SelfSorting$Sum") ∈ lw_tbl := lw_at lw_m1 217 rfl
theorem q369 : (Jvm.Cond.selects "SelfSorting$Minus" ({ cls := "SelfSorting$Sum", name := "of", desc := "([I)J" } : Jvm.MethodName) ({ cls := "SelfSorting$Minus", name := "of", desc := "([I)J" } : Jvm.MethodName)) ∈ lw_all := lw_g (lw_at lw_m1 218 rfl) rfl
theorem q370 : (Jvm.Cond.unhidden "SelfSorting$Minus" "of" "([I)J") ∈ lw_tbl := lw_at lw_m1 219 rfl
theorem q371 : (Jvm.Cond.instanceMethod ({ cls := "SelfSorting$Minus", name := "of", desc := "([I)J" } : Jvm.MethodName)) ∈ lw_all := lw_g (lw_at lw_m1 220 rfl) rfl
theorem q372 : (Jvm.Cond.publicMethod ({ cls := "SelfSorting$Minus", name := "of", desc := "([I)J" } : Jvm.MethodName)) ∈ lw_tbl := lw_at lw_m1 221 rfl
theorem q373 : (Jvm.Cond.code ({ cls := "SelfSorting$Minus", name := "of", desc := "([I)J" } : Jvm.MethodName) prog_7_method_2_code (2 : Nat) (Option.some Jvm.ClassFile.FieldType.long)) ∈ lw_all := lw_g (lw_at lw_m1 222 rfl) rfl
theorem q374 : (Jvm.Cond.interfaceEntry "SelfSorting$Minus" (13 : Nat)) ∈ lw_tbl := lw_at lw_m1 223 rfl
theorem q375 : (Jvm.Cond.methodLink "SelfSorting$Minus" (13 : Nat) ({ cls := "SelfSorting$Sum", name := "of", desc := "([I)J" } : Jvm.MethodName)) ∈ lw_all := lw_g (lw_at lw_m1 224 rfl) rfl
theorem q376 : (Jvm.Cond.castable "SelfSorting$Name" "SelfSorting$Sum") ∈ lw_tbl := lw_at lw_m1 225 rfl
theorem q377 : (Jvm.Cond.selects "SelfSorting$Name" ({ cls := "SelfSorting$Sum", name := "of", desc := "([I)J" } : Jvm.MethodName) ({ cls := "SelfSorting$Name", name := "of", desc := "([I)J" } : Jvm.MethodName)) ∈ lw_all := lw_g (lw_at lw_m1 226 rfl) rfl
theorem q378 : (Jvm.Cond.unhidden "SelfSorting$Name" "of" "([I)J") ∈ lw_tbl := lw_at lw_m1 227 rfl
theorem q379 : (Jvm.Cond.instanceMethod ({ cls := "SelfSorting$Name", name := "of", desc := "([I)J" } : Jvm.MethodName)) ∈ lw_all := lw_g (lw_at lw_m1 228 rfl) rfl
theorem q380 : (Jvm.Cond.publicMethod ({ cls := "SelfSorting$Name", name := "of", desc := "([I)J" } : Jvm.MethodName)) ∈ lw_tbl := lw_at lw_m1 229 rfl
theorem q381 : (Jvm.Cond.code ({ cls := "SelfSorting$Name", name := "of", desc := "([I)J" } : Jvm.MethodName) prog_8_method_2_code (2 : Nat) (Option.some Jvm.ClassFile.FieldType.long)) ∈ lw_all := lw_g (lw_at lw_m1 230 rfl) rfl
theorem q382 : (Jvm.Cond.castable "SelfSorting$Plain" "SelfSorting$Sum") ∈ lw_tbl := lw_at lw_m1 231 rfl
theorem q383 : (Jvm.Cond.selects "SelfSorting$Plain" ({ cls := "SelfSorting$Sum", name := "of", desc := "([I)J" } : Jvm.MethodName) ({ cls := "SelfSorting$Plain", name := "of", desc := "([I)J" } : Jvm.MethodName)) ∈ lw_all := lw_g (lw_at lw_m1 232 rfl) rfl
theorem q384 : (Jvm.Cond.unhidden "SelfSorting$Plain" "of" "([I)J") ∈ lw_tbl := lw_at lw_m1 233 rfl
theorem q385 : (Jvm.Cond.instanceMethod ({ cls := "SelfSorting$Plain", name := "of", desc := "([I)J" } : Jvm.MethodName)) ∈ lw_all := lw_g (lw_at lw_m1 234 rfl) rfl
theorem q386 : (Jvm.Cond.publicMethod ({ cls := "SelfSorting$Plain", name := "of", desc := "([I)J" } : Jvm.MethodName)) ∈ lw_tbl := lw_at lw_m1 235 rfl
theorem q387 : (Jvm.Cond.code ({ cls := "SelfSorting$Plain", name := "of", desc := "([I)J" } : Jvm.MethodName) prog_10_method_2_code (2 : Nat) (Option.some Jvm.ClassFile.FieldType.long)) ∈ lw_all := lw_g (lw_at lw_m1 236 rfl) rfl
theorem q388 : (Jvm.Cond.methodLink "SelfSorting$Chain" (45 : Nat) ({ cls := "java/util/ArrayList", name := "size", desc := "()I" } : Jvm.MethodName)) ∈ lw_all := lw_g (lw_at lw_m1 237 rfl) rfl
theorem q389 : (Jvm.Cond.instanceMethod ({ cls := "java/util/ArrayList", name := "size", desc := "()I" } : Jvm.MethodName)) ∈ lw_all := lw_g (lw_at lw_m1 238 rfl) rfl
theorem q390 : (Jvm.Cond.selects "java/util/ArrayList" ({ cls := "java/util/ArrayList", name := "size", desc := "()I" } : Jvm.MethodName) ({ cls := "java/util/ArrayList", name := "size", desc := "()I" } : Jvm.MethodName)) ∈ lw_all := lw_g (lw_at lw_m1 239 rfl) rfl
theorem q391 : (Jvm.Cond.code ({ cls := "java/util/ArrayList", name := "size", desc := "()I" } : Jvm.MethodName) prog_38_method_8_code (1 : Nat) (Option.some Jvm.ClassFile.FieldType.int)) ∈ lw_all := lw_g (lw_at lw_m2 0 rfl) rfl
theorem q392 : (Jvm.Cond.methodLink "SelfSorting$Chain" (49 : Nat) ({ cls := "java/util/ArrayList", name := "get", desc := "(I)Ljava/lang/Object;" } : Jvm.MethodName)) ∈ lw_all := lw_g (lw_at lw_m2 1 rfl) rfl
theorem q393 : (Jvm.Cond.instanceMethod ({ cls := "java/util/ArrayList", name := "get", desc := "(I)Ljava/lang/Object;" } : Jvm.MethodName)) ∈ lw_all := lw_g (lw_at lw_m2 2 rfl) rfl
theorem q394 : (Jvm.Cond.selects "java/util/ArrayList" ({ cls := "java/util/ArrayList", name := "get", desc := "(I)Ljava/lang/Object;" } : Jvm.MethodName) ({ cls := "java/util/ArrayList", name := "get", desc := "(I)Ljava/lang/Object;" } : Jvm.MethodName)) ∈ lw_all := lw_g (lw_at lw_m2 3 rfl) rfl
theorem q395 : (Jvm.Cond.code ({ cls := "java/util/ArrayList", name := "get", desc := "(I)Ljava/lang/Object;" } : Jvm.MethodName) prog_38_method_20_code (2 : Nat) (Option.some (Jvm.ClassFile.FieldType.object "java/lang/Object"))) ∈ lw_all := lw_g (lw_at lw_m2 4 rfl) rfl
theorem q396 : (Jvm.Cond.methodLink "java/util/ArrayList" (118 : Nat) ({ cls := "java/util/Objects", name := "checkIndex", desc := "(II)I" } : Jvm.MethodName)) ∈ lw_all := lw_g (lw_at lw_m2 5 rfl) rfl
theorem q397 : (Jvm.Cond.static ({ cls := "java/util/Objects", name := "checkIndex", desc := "(II)I" } : Jvm.MethodName)) ∈ lw_all := lw_g (lw_at lw_m2 6 rfl) rfl
theorem q398 : (Jvm.Cond.code ({ cls := "java/util/Objects", name := "checkIndex", desc := "(II)I" } : Jvm.MethodName) prog_42_method_17_code (2 : Nat) (Option.some Jvm.ClassFile.FieldType.int)) ∈ lw_all := lw_g (lw_at lw_m2 7 rfl) rfl
theorem q399 : (Jvm.Cond.methodLink "java/util/Objects" (105 : Nat) ({ cls := "jdk/internal/util/Preconditions", name := "checkIndex", desc := "(IILjava/util/function/BiFunction;)I" } : Jvm.MethodName)) ∈ lw_all := lw_g (lw_at lw_m2 8 rfl) rfl
theorem q400 : (Jvm.Cond.static ({ cls := "jdk/internal/util/Preconditions", name := "checkIndex", desc := "(IILjava/util/function/BiFunction;)I" } : Jvm.MethodName)) ∈ lw_all := lw_g (lw_at lw_m2 9 rfl) rfl
theorem q401 : (Jvm.Cond.code ({ cls := "jdk/internal/util/Preconditions", name := "checkIndex", desc := "(IILjava/util/function/BiFunction;)I" } : Jvm.MethodName) prog_46_method_11_code (3 : Nat) (Option.some Jvm.ClassFile.FieldType.int)) ∈ lw_all := lw_g (lw_at lw_m2 10 rfl) rfl
theorem q402 : (Jvm.Cond.methodLink "java/util/ArrayList" (123 : Nat) ({ cls := "java/util/ArrayList", name := "elementData", desc := "(I)Ljava/lang/Object;" } : Jvm.MethodName)) ∈ lw_all := lw_g (lw_at lw_m2 11 rfl) rfl
theorem q403 : (Jvm.Cond.instanceMethod ({ cls := "java/util/ArrayList", name := "elementData", desc := "(I)Ljava/lang/Object;" } : Jvm.MethodName)) ∈ lw_all := lw_g (lw_at lw_m2 12 rfl) rfl
theorem q404 : (Jvm.Cond.selects "java/util/ArrayList" ({ cls := "java/util/ArrayList", name := "elementData", desc := "(I)Ljava/lang/Object;" } : Jvm.MethodName) ({ cls := "java/util/ArrayList", name := "elementData", desc := "(I)Ljava/lang/Object;" } : Jvm.MethodName)) ∈ lw_all := lw_g (lw_at lw_m2 13 rfl) rfl
theorem q405 : (Jvm.Cond.code ({ cls := "java/util/ArrayList", name := "elementData", desc := "(I)Ljava/lang/Object;" } : Jvm.MethodName) prog_38_method_18_code (2 : Nat) (Option.some (Jvm.ClassFile.FieldType.object "java/lang/Object"))) ∈ lw_all := lw_g (lw_at lw_m2 14 rfl) rfl
theorem q406 : (Jvm.Cond.classLink "SelfSorting$Chain" (40 : Nat) "SelfSorting$Sum") ∈ lw_all := lw_g (lw_at lw_m2 15 rfl) rfl
theorem q407 : (Jvm.Cond.classLink "SelfSorting$Chain" (26 : Nat) "java/lang/Integer") ∈ lw_all := lw_g (lw_at lw_m2 16 rfl) rfl
theorem q408 : (Jvm.Cond.methodLink "SelfSorting$Chain" (53 : Nat) ({ cls := "java/lang/Integer", name := "intValue", desc := "()I" } : Jvm.MethodName)) ∈ lw_all := lw_g (lw_at lw_m2 17 rfl) rfl
theorem q409 : (Jvm.Cond.instanceMethod ({ cls := "java/lang/Integer", name := "intValue", desc := "()I" } : Jvm.MethodName)) ∈ lw_all := lw_g (lw_at lw_m2 18 rfl) rfl
theorem q410 : (Jvm.Cond.selects "java/lang/Integer" ({ cls := "java/lang/Integer", name := "intValue", desc := "()I" } : Jvm.MethodName) ({ cls := "java/lang/Integer", name := "intValue", desc := "()I" } : Jvm.MethodName)) ∈ lw_all := lw_g (lw_at lw_m2 19 rfl) rfl
theorem q411 : (Jvm.Cond.code ({ cls := "java/lang/Integer", name := "intValue", desc := "()I" } : Jvm.MethodName) prog_23_method_27_code (1 : Nat) (Option.some Jvm.ClassFile.FieldType.int)) ∈ lw_all := lw_g (lw_at lw_m2 20 rfl) rfl
theorem q412 : (Jvm.Cond.constantLong "SelfSorting$Chain" (56 : Nat) (-1000000 : Int64)) ∈ lw_all := lw_g (lw_at lw_m2 21 rfl) rfl
theorem q413 : (Jvm.Cond.constantLong "SelfSorting$Chain" (58 : Nat) (1000000 : Int64)) ∈ lw_all := lw_g (lw_at lw_m2 22 rfl) rfl
theorem q414 : (Jvm.Cond.methodLink "SelfSorting$Chain" (60 : Nat) ({ cls := "java/lang/Math", name := "min", desc := "(JJ)J" } : Jvm.MethodName)) ∈ lw_all := lw_g (lw_at lw_m2 23 rfl) rfl
theorem q415 : (Jvm.Cond.static ({ cls := "java/lang/Math", name := "min", desc := "(JJ)J" } : Jvm.MethodName)) ∈ lw_all := lw_g (lw_at lw_m2 24 rfl) rfl
theorem q416 : (Jvm.Cond.code ({ cls := "java/lang/Math", name := "min", desc := "(JJ)J" } : Jvm.MethodName) prog_26_method_70_code (4 : Nat) (Option.some Jvm.ClassFile.FieldType.long)) ∈ lw_all := lw_g (lw_at lw_m2 25 rfl) rfl
theorem q417 : (Jvm.Cond.methodLink "SelfSorting$Chain" (66 : Nat) ({ cls := "java/lang/Math", name := "max", desc := "(JJ)J" } : Jvm.MethodName)) ∈ lw_all := lw_g (lw_at lw_m2 26 rfl) rfl
theorem q418 : (Jvm.Cond.static ({ cls := "java/lang/Math", name := "max", desc := "(JJ)J" } : Jvm.MethodName)) ∈ lw_all := lw_g (lw_at lw_m2 27 rfl) rfl
theorem q419 : (Jvm.Cond.code ({ cls := "java/lang/Math", name := "max", desc := "(JJ)J" } : Jvm.MethodName) prog_26_method_66_code (4 : Nat) (Option.some Jvm.ClassFile.FieldType.long)) ∈ lw_all := lw_g (lw_at lw_m2 28 rfl) rfl
theorem q420 : (Jvm.Cond.methodLink "SelfSorting" (180 : Nat) ({ cls := "java/lang/Math", name := "min", desc := "(JJ)J" } : Jvm.MethodName)) ∈ lw_all := lw_g (lw_at lw_m2 29 rfl) rfl
theorem q421 : (Jvm.Cond.methodLink "SelfSorting" (186 : Nat) ({ cls := "java/lang/Math", name := "max", desc := "(JJ)J" } : Jvm.MethodName)) ∈ lw_all := lw_g (lw_at lw_m2 30 rfl) rfl
theorem q422 : (Jvm.Cond.methodLink "SelfSortingLaw" (18 : Nat) ({ cls := "SelfSorting", name := "book", desc := "(IIIII)I" } : Jvm.MethodName)) ∈ lw_all := lw_g (lw_at lw_m2 31 rfl) rfl
theorem q423 : (Jvm.Cond.instanceMethod ({ cls := "SelfSorting", name := "book", desc := "(IIIII)I" } : Jvm.MethodName)) ∈ lw_all := lw_g (lw_at lw_m2 32 rfl) rfl
theorem q424 : (Jvm.Cond.selects "SelfSorting" ({ cls := "SelfSorting", name := "book", desc := "(IIIII)I" } : Jvm.MethodName) ({ cls := "SelfSorting", name := "book", desc := "(IIIII)I" } : Jvm.MethodName)) ∈ lw_all := lw_g (lw_at lw_m2 33 rfl) rfl
theorem q425 : (Jvm.Cond.code ({ cls := "SelfSorting", name := "book", desc := "(IIIII)I" } : Jvm.MethodName) prog_1_method_8_code (8 : Nat) (Option.some Jvm.ClassFile.FieldType.int)) ∈ lw_all := lw_g (lw_at lw_m2 34 rfl) rfl
theorem q426 : (Jvm.Cond.methodLinkNest "SelfSorting" (99 : Nat) ({ cls := "SelfSorting$State", name := "copy", desc := "([I[I)V" } : Jvm.MethodName) "SelfSorting") ∈ lw_tbl := lw_at lw_m2 35 rfl
theorem q427 : (Jvm.Cond.methodLink "SelfSortingLaw" (23 : Nat) ({ cls := "SelfSorting", name := "need", desc := "(I)Z" } : Jvm.MethodName)) ∈ lw_all := lw_g (lw_at lw_m2 36 rfl) rfl
theorem q428 : (Jvm.Cond.instanceMethod ({ cls := "SelfSorting", name := "need", desc := "(I)Z" } : Jvm.MethodName)) ∈ lw_all := lw_g (lw_at lw_m2 37 rfl) rfl
theorem q429 : (Jvm.Cond.selects "SelfSorting" ({ cls := "SelfSorting", name := "need", desc := "(I)Z" } : Jvm.MethodName) ({ cls := "SelfSorting", name := "need", desc := "(I)Z" } : Jvm.MethodName)) ∈ lw_all := lw_g (lw_at lw_m2 38 rfl) rfl
theorem q430 : (Jvm.Cond.code ({ cls := "SelfSorting", name := "need", desc := "(I)Z" } : Jvm.MethodName) prog_1_method_9_code (2 : Nat) (Option.some Jvm.ClassFile.FieldType.boolean)) ∈ lw_all := lw_g (lw_at lw_m2 39 rfl) rfl
theorem q431 : (Jvm.Cond.methodLink "SelfSortingLaw" (28 : Nat) ({ cls := "SelfSorting", name := "feed", desc := "(IIIII)I" } : Jvm.MethodName)) ∈ lw_all := lw_g (lw_at lw_m2 40 rfl) rfl
theorem q432 : (Jvm.Cond.instanceMethod ({ cls := "SelfSorting", name := "feed", desc := "(IIIII)I" } : Jvm.MethodName)) ∈ lw_all := lw_g (lw_at lw_m2 41 rfl) rfl
theorem q433 : (Jvm.Cond.selects "SelfSorting" ({ cls := "SelfSorting", name := "feed", desc := "(IIIII)I" } : Jvm.MethodName) ({ cls := "SelfSorting", name := "feed", desc := "(IIIII)I" } : Jvm.MethodName)) ∈ lw_all := lw_g (lw_at lw_m2 42 rfl) rfl
theorem q434 : (Jvm.Cond.code ({ cls := "SelfSorting", name := "feed", desc := "(IIIII)I" } : Jvm.MethodName) prog_1_method_11_code (6 : Nat) (Option.some Jvm.ClassFile.FieldType.int)) ∈ lw_all := lw_g (lw_at lw_m2 43 rfl) rfl
theorem q435 : (Jvm.Cond.methodLink "SelfSorting" (106 : Nat) ({ cls := "SelfSorting", name := "put", desc := "(I)V" } : Jvm.MethodName)) ∈ lw_all := lw_g (lw_at lw_m2 44 rfl) rfl
theorem q436 : (Jvm.Cond.privateMethod ({ cls := "SelfSorting", name := "put", desc := "(I)V" } : Jvm.MethodName)) ∈ lw_tbl := lw_at lw_m2 45 rfl
theorem q437 : (Jvm.Cond.instanceMethod ({ cls := "SelfSorting", name := "put", desc := "(I)V" } : Jvm.MethodName)) ∈ lw_all := lw_g (lw_at lw_m2 46 rfl) rfl
theorem q438 : (Jvm.Cond.code ({ cls := "SelfSorting", name := "put", desc := "(I)V" } : Jvm.MethodName) prog_1_method_10_code (3 : Nat) (Option.none : Option Jvm.ClassFile.FieldType)) ∈ lw_all := lw_g (lw_at lw_m2 47 rfl) rfl
theorem q439 : (Jvm.Cond.methodLink "SelfSortingLaw" (32 : Nat) ({ cls := "SelfSorting", name := "end", desc := "(I)I" } : Jvm.MethodName)) ∈ lw_all := lw_g (lw_at lw_m2 48 rfl) rfl
theorem q440 : (Jvm.Cond.instanceMethod ({ cls := "SelfSorting", name := "end", desc := "(I)I" } : Jvm.MethodName)) ∈ lw_all := lw_g (lw_at lw_m2 49 rfl) rfl
theorem q441 : (Jvm.Cond.selects "SelfSorting" ({ cls := "SelfSorting", name := "end", desc := "(I)I" } : Jvm.MethodName) ({ cls := "SelfSorting", name := "end", desc := "(I)I" } : Jvm.MethodName)) ∈ lw_all := lw_g (lw_at lw_m2 50 rfl) rfl
theorem q442 : (Jvm.Cond.code ({ cls := "SelfSorting", name := "end", desc := "(I)I" } : Jvm.MethodName) prog_1_method_12_code (2 : Nat) (Option.some Jvm.ClassFile.FieldType.int)) ∈ lw_all := lw_g (lw_at lw_m2 51 rfl) rfl
theorem q443 : (Jvm.Cond.methodLink "SelfSortingLaw" (37 : Nat) ({ cls := "SelfSorting", name := "text", desc := "()I" } : Jvm.MethodName)) ∈ lw_all := lw_g (lw_at lw_m2 52 rfl) rfl
theorem q444 : (Jvm.Cond.instanceMethod ({ cls := "SelfSorting", name := "text", desc := "()I" } : Jvm.MethodName)) ∈ lw_all := lw_g (lw_at lw_m2 53 rfl) rfl
theorem q445 : (Jvm.Cond.selects "SelfSorting" ({ cls := "SelfSorting", name := "text", desc := "()I" } : Jvm.MethodName) ({ cls := "SelfSorting", name := "text", desc := "()I" } : Jvm.MethodName)) ∈ lw_all := lw_g (lw_at lw_m2 54 rfl) rfl
theorem q446 : (Jvm.Cond.codeWith ({ cls := "SelfSorting", name := "text", desc := "()I" } : Jvm.MethodName) prog_1_method_13_code (5 : Nat) (Option.some Jvm.ClassFile.FieldType.int) [((30 : Nat), (62 : Nat), (70 : Nat), (123 : Nat)), ((30 : Nat), (62 : Nat), (96 : Nat), (0 : Nat)), ((70 : Nat), (89 : Nat), (96 : Nat), (0 : Nat)), ((96 : Nat), (98 : Nat), (96 : Nat), (0 : Nat))]) ∈ lw_all := lw_g (lw_at lw_m2 55 rfl) rfl
theorem q447 : (Jvm.Cond.classLink "SelfSorting" (123 : Nat) "SelfSorting$Wrong") ∈ lw_all := lw_g (lw_at lw_m2 56 rfl) rfl
theorem q448 : (Jvm.Cond.classLink "SelfSorting" (114 : Nat) "SelfSorting$Tokens") ∈ lw_all := lw_g (lw_at lw_m2 57 rfl) rfl
theorem q449 : (Jvm.Cond.instantiable "SelfSorting$Tokens" (8 : Nat)) ∈ lw_all := lw_g (lw_at lw_m2 58 rfl) rfl
theorem q450 : (Jvm.Cond.methodLink "SelfSorting" (116 : Nat) ({ cls := "SelfSorting$Tokens", name := "<init>", desc := "([BI)V" } : Jvm.MethodName)) ∈ lw_all := lw_g (lw_at lw_m2 59 rfl) rfl
theorem q451 : (Jvm.Cond.instanceMethod ({ cls := "SelfSorting$Tokens", name := "<init>", desc := "([BI)V" } : Jvm.MethodName)) ∈ lw_all := lw_g (lw_at lw_m2 60 rfl) rfl
theorem q452 : (Jvm.Cond.code ({ cls := "SelfSorting$Tokens", name := "<init>", desc := "([BI)V" } : Jvm.MethodName) prog_14_method_1_code (3 : Nat) (Option.none : Option Jvm.ClassFile.FieldType)) ∈ lw_all := lw_g (lw_at lw_m2 61 rfl) rfl
theorem q453 : (Jvm.Cond.methodLink "SelfSorting$Tokens" (3 : Nat) ({ cls := "java/lang/Object", name := "<init>", desc := "()V" } : Jvm.MethodName)) ∈ lw_all := lw_g (lw_at lw_m2 62 rfl) rfl
theorem q454 : (Jvm.Cond.fieldLink "SelfSorting$Tokens" (9 : Nat) "SelfSorting$Tokens" "text" "[B") ∈ lw_all := lw_g (lw_at lw_m2 63 rfl) rfl
theorem q455 : (Jvm.Cond.fieldLink "SelfSorting$Tokens" (15 : Nat) "SelfSorting$Tokens" "size" "I") ∈ lw_all := lw_g (lw_at lw_m2 64 rfl) rfl
theorem q456 : (Jvm.Cond.fieldLink "SelfSorting$Tokens" (19 : Nat) "SelfSorting$Tokens" "at" "I") ∈ lw_all := lw_g (lw_at lw_m2 65 rfl) rfl
theorem q457 : (Jvm.Cond.fieldLink "SelfSorting$Tokens" (22 : Nat) "SelfSorting$Tokens" "token" "I") ∈ lw_all := lw_g (lw_at lw_m2 66 rfl) rfl
theorem q458 : (Jvm.Cond.fieldLink "SelfSorting$Tokens" (25 : Nat) "SelfSorting$Tokens" "sort" "I") ∈ lw_all := lw_g (lw_at lw_m2 67 rfl) rfl
theorem q459 : (Jvm.Cond.fieldLink "SelfSorting$Tokens" (43 : Nat) "SelfSorting$Tokens" "number" "I") ∈ lw_all := lw_g (lw_at lw_m2 68 rfl) rfl
theorem q460 : (Jvm.Cond.fieldLink "SelfSorting$Tokens" (77 : Nat) "SelfSorting$Tokens" "open" "I") ∈ lw_all := lw_g (lw_at lw_m2 69 rfl) rfl
theorem q461 : (Jvm.Cond.fieldLink "SelfSorting$Tokens" (83 : Nat) "SelfSorting$Tokens" "kind" "I") ∈ lw_all := lw_g (lw_at lw_m2 70 rfl) rfl
theorem q462 : (Jvm.Cond.laysFinal "SelfSorting$Tokens" "SelfSorting$Tokens" "text" "[B") ∈ lw_all := lw_g (lw_at lw_m2 71 rfl) rfl
theorem q463 : (Jvm.Cond.soleField "SelfSorting$Tokens" "text") ∈ lw_all := lw_g (lw_at lw_m2 72 rfl) rfl
theorem q464 : (Jvm.Cond.laysFinal "SelfSorting$Tokens" "SelfSorting$Tokens" "size" "I") ∈ lw_all := lw_g (lw_at lw_m2 73 rfl) rfl
theorem q465 : (Jvm.Cond.soleField "SelfSorting$Tokens" "size") ∈ lw_all := lw_g (lw_at lw_m2 74 rfl) rfl
theorem q466 : (Jvm.Cond.lays "SelfSorting$Tokens" "SelfSorting$Tokens" "at" "I") ∈ lw_all := lw_g (lw_at lw_m2 75 rfl) rfl
theorem q467 : (Jvm.Cond.soleField "SelfSorting$Tokens" "at") ∈ lw_all := lw_g (lw_at lw_m2 76 rfl) rfl
theorem q468 : (Jvm.Cond.lays "SelfSorting$Tokens" "SelfSorting$Tokens" "token" "I") ∈ lw_all := lw_g (lw_at lw_m2 77 rfl) rfl
theorem q469 : (Jvm.Cond.soleField "SelfSorting$Tokens" "token") ∈ lw_all := lw_g (lw_at lw_m2 78 rfl) rfl
theorem q470 : (Jvm.Cond.lays "SelfSorting$Tokens" "SelfSorting$Tokens" "sort" "I") ∈ lw_all := lw_g (lw_at lw_m2 79 rfl) rfl
theorem q471 : (Jvm.Cond.soleField "SelfSorting$Tokens" "sort") ∈ lw_all := lw_g (lw_at lw_m2 80 rfl) rfl
theorem q472 : (Jvm.Cond.lays "SelfSorting$Tokens" "SelfSorting$Tokens" "number" "I") ∈ lw_all := lw_g (lw_at lw_m2 81 rfl) rfl
theorem q473 : (Jvm.Cond.soleField "SelfSorting$Tokens" "number") ∈ lw_all := lw_g (lw_at lw_m2 82 rfl) rfl
theorem q474 : (Jvm.Cond.lays "SelfSorting$Tokens" "SelfSorting$Tokens" "open" "I") ∈ lw_all := lw_g (lw_at lw_m2 83 rfl) rfl
theorem q475 : (Jvm.Cond.soleField "SelfSorting$Tokens" "open") ∈ lw_all := lw_g (lw_at lw_m2 84 rfl) rfl
theorem q476 : (Jvm.Cond.lays "SelfSorting$Tokens" "SelfSorting$Tokens" "kind" "I") ∈ lw_all := lw_g (lw_at lw_m2 85 rfl) rfl
theorem q477 : (Jvm.Cond.soleField "SelfSorting$Tokens" "kind") ∈ lw_all := lw_g (lw_at lw_m2 86 rfl) rfl
theorem q478 : (Jvm.Cond.superclass "SelfSorting$Tokens" "java/lang/Object") ∈ lw_all := lw_g (lw_at lw_m2 87 rfl) rfl
theorem q479 : (Jvm.Cond.methodLink "SelfSorting" (119 : Nat) ({ cls := "SelfSorting$Tokens", name := "read", desc := "()LSelfSorting$Text;" } : Jvm.MethodName)) ∈ lw_all := lw_g (lw_at lw_m2 88 rfl) rfl
theorem q480 : (Jvm.Cond.instanceMethod ({ cls := "SelfSorting$Tokens", name := "read", desc := "()LSelfSorting$Text;" } : Jvm.MethodName)) ∈ lw_all := lw_g (lw_at lw_m2 89 rfl) rfl
theorem q481 : (Jvm.Cond.selects "SelfSorting$Tokens" ({ cls := "SelfSorting$Tokens", name := "read", desc := "()LSelfSorting$Text;" } : Jvm.MethodName) ({ cls := "SelfSorting$Tokens", name := "read", desc := "()LSelfSorting$Text;" } : Jvm.MethodName)) ∈ lw_all := lw_g (lw_at lw_m2 90 rfl) rfl
theorem q482 : (Jvm.Cond.code ({ cls := "SelfSorting$Tokens", name := "read", desc := "()LSelfSorting$Text;" } : Jvm.MethodName) prog_14_method_10_code (2 : Nat) (Option.some (Jvm.ClassFile.FieldType.object "SelfSorting$Text"))) ∈ lw_all := lw_g (lw_at lw_m2 91 rfl) rfl
theorem q483 : (Jvm.Cond.classLink "SelfSorting$Tokens" (80 : Nat) "SelfSorting$Text") ∈ lw_all := lw_g (lw_at lw_m2 92 rfl) rfl
theorem q484 : (Jvm.Cond.instantiable "SelfSorting$Text" (6 : Nat)) ∈ lw_all := lw_g (lw_at lw_m2 93 rfl) rfl
theorem q485 : (Jvm.Cond.methodLinkNest "SelfSorting$Tokens" (82 : Nat) ({ cls := "SelfSorting$Text", name := "<init>", desc := "()V" } : Jvm.MethodName) "SelfSorting") ∈ lw_tbl := lw_at lw_m2 94 rfl
theorem q486 : (Jvm.Cond.instanceMethod ({ cls := "SelfSorting$Text", name := "<init>", desc := "()V" } : Jvm.MethodName)) ∈ lw_all := lw_g (lw_at lw_m2 95 rfl) rfl
theorem q487 : (Jvm.Cond.code ({ cls := "SelfSorting$Text", name := "<init>", desc := "()V" } : Jvm.MethodName) prog_13_method_1_code (1 : Nat) (Option.none : Option Jvm.ClassFile.FieldType)) ∈ lw_all := lw_g (lw_at lw_m2 96 rfl) rfl
theorem q488 : (Jvm.Cond.methodLink "SelfSorting$Text" (3 : Nat) ({ cls := "java/lang/Object", name := "<init>", desc := "()V" } : Jvm.MethodName)) ∈ lw_all := lw_g (lw_at lw_m2 97 rfl) rfl
theorem q489 : (Jvm.Cond.classLink "SelfSorting$Text" (9 : Nat) "SelfSorting$Asked") ∈ lw_all := lw_g (lw_at lw_m2 98 rfl) rfl
theorem q490 : (Jvm.Cond.arrayOver (Jvm.ClassFile.FieldType.object "SelfSorting$Asked")) ∈ lw_tbl := lw_at lw_m2 99 rfl
theorem q491 : (Jvm.Cond.classLink "SelfSorting$Text" (17 : Nat) "java/util/ArrayList") ∈ lw_all := lw_g (lw_at lw_m2 100 rfl) rfl
theorem q492 : (Jvm.Cond.instantiable "java/util/ArrayList" (3 : Nat)) ∈ lw_all := lw_g (lw_at lw_m2 101 rfl) rfl
theorem q493 : (Jvm.Cond.methodLink "SelfSorting$Text" (19 : Nat) ({ cls := "java/util/ArrayList", name := "<init>", desc := "()V" } : Jvm.MethodName)) ∈ lw_all := lw_g (lw_at lw_m2 102 rfl) rfl
theorem q494 : (Jvm.Cond.instanceMethod ({ cls := "java/util/ArrayList", name := "<init>", desc := "()V" } : Jvm.MethodName)) ∈ lw_all := lw_g (lw_at lw_m2 103 rfl) rfl
theorem q495 : (Jvm.Cond.code ({ cls := "java/util/ArrayList", name := "<init>", desc := "()V" } : Jvm.MethodName) prog_38_method_2_code (1 : Nat) (Option.none : Option Jvm.ClassFile.FieldType)) ∈ lw_all := lw_g (lw_at lw_m2 104 rfl) rfl
theorem q496 : (Jvm.Cond.methodLink "java/util/ArrayList" (1 : Nat) ({ cls := "java/util/AbstractList", name := "<init>", desc := "()V" } : Jvm.MethodName)) ∈ lw_all := lw_g (lw_at lw_m2 105 rfl) rfl
theorem q497 : (Jvm.Cond.instanceMethod ({ cls := "java/util/AbstractList", name := "<init>", desc := "()V" } : Jvm.MethodName)) ∈ lw_all := lw_g (lw_at lw_m2 106 rfl) rfl
theorem q498 : (Jvm.Cond.code ({ cls := "java/util/AbstractList", name := "<init>", desc := "()V" } : Jvm.MethodName) prog_37_method_1_code (1 : Nat) (Option.none : Option Jvm.ClassFile.FieldType)) ∈ lw_all := lw_g (lw_at lw_m2 107 rfl) rfl
theorem q499 : (Jvm.Cond.methodLink "java/util/AbstractList" (1 : Nat) ({ cls := "java/util/AbstractCollection", name := "<init>", desc := "()V" } : Jvm.MethodName)) ∈ lw_all := lw_g (lw_at lw_m2 108 rfl) rfl
theorem q500 : (Jvm.Cond.instanceMethod ({ cls := "java/util/AbstractCollection", name := "<init>", desc := "()V" } : Jvm.MethodName)) ∈ lw_all := lw_g (lw_at lw_m2 109 rfl) rfl
theorem q501 : (Jvm.Cond.code ({ cls := "java/util/AbstractCollection", name := "<init>", desc := "()V" } : Jvm.MethodName) prog_36_method_1_code (1 : Nat) (Option.none : Option Jvm.ClassFile.FieldType)) ∈ lw_all := lw_g (lw_at lw_m2 110 rfl) rfl
theorem q502 : (Jvm.Cond.methodLink "java/util/AbstractCollection" (1 : Nat) ({ cls := "java/lang/Object", name := "<init>", desc := "()V" } : Jvm.MethodName)) ∈ lw_all := lw_g (lw_at lw_m2 111 rfl) rfl
theorem q503 : (Jvm.Cond.fieldLink "java/util/ArrayList" (39 : Nat) "java/util/ArrayList" "DEFAULTCAPACITY_EMPTY_ELEMENTDATA" "[Ljava/lang/Object;") ∈ lw_all := lw_g (lw_at lw_m2 112 rfl) rfl
theorem q504 : (Jvm.Cond.laysStatic "java/util/ArrayList" "DEFAULTCAPACITY_EMPTY_ELEMENTDATA" "[Ljava/lang/Object;") ∈ lw_tbl := lw_at lw_m2 113 rfl
theorem q505 : (Jvm.Cond.fieldLink "java/util/ArrayList" (9 : Nat) "java/util/ArrayList" "elementData" "[Ljava/lang/Object;") ∈ lw_all := lw_g (lw_at lw_m2 114 rfl) rfl
theorem q506 : (Jvm.Cond.fieldLink "java/util/ArrayList" (48 : Nat) "java/util/ArrayList" "size" "I") ∈ lw_all := lw_g (lw_at lw_m2 115 rfl) rfl
theorem q507 : (Jvm.Cond.fieldLink "java/util/AbstractList" (7 : Nat) "java/util/AbstractList" "modCount" "I") ∈ lw_all := lw_g (lw_at lw_m2 116 rfl) rfl
theorem q508 : (Jvm.Cond.fieldLink "java/util/ArrayList" (63 : Nat) "java/util/ArrayList" "modCount" "I") ∈ lw_all := lw_g (lw_at lw_m2 117 rfl) rfl
theorem q509 : (Jvm.Cond.sameField "java/util/ArrayList" "java/util/AbstractList" "modCount" "I") ∈ lw_all := lw_g (lw_at lw_m2 118 rfl) rfl
theorem q510 : (Jvm.Cond.lays "java/util/ArrayList" "java/util/ArrayList" "elementData" "[Ljava/lang/Object;") ∈ lw_all := lw_g (lw_at lw_m2 119 rfl) rfl
theorem q511 : (Jvm.Cond.soleField "java/util/ArrayList" "elementData") ∈ lw_all := lw_g (lw_at lw_m2 120 rfl) rfl
theorem q512 : (Jvm.Cond.lays "java/util/ArrayList" "java/util/ArrayList" "size" "I") ∈ lw_all := lw_g (lw_at lw_m2 121 rfl) rfl
theorem q513 : (Jvm.Cond.soleField "java/util/ArrayList" "size") ∈ lw_all := lw_g (lw_at lw_m2 122 rfl) rfl
theorem q514 : (Jvm.Cond.lays "java/util/ArrayList" "java/util/AbstractList" "modCount" "I") ∈ lw_all := lw_g (lw_at lw_m2 123 rfl) rfl
theorem q515 : (Jvm.Cond.soleField "java/util/AbstractList" "modCount") ∈ lw_all := lw_g (lw_at lw_m2 124 rfl) rfl
theorem q516 : (Jvm.Cond.superclass "java/util/ArrayList" "java/util/AbstractList") ∈ lw_all := lw_g (lw_at lw_m2 125 rfl) rfl
theorem q517 : (Jvm.Cond.fieldLink "SelfSorting$Text" (11 : Nat) "SelfSorting$Text" "law" "[LSelfSorting$Asked;") ∈ lw_all := lw_g (lw_at lw_m2 126 rfl) rfl
theorem q518 : (Jvm.Cond.fieldLinkNest "SelfSorting$Tokens" (135 : Nat) "SelfSorting$Text" "law" "[LSelfSorting$Asked;" "SelfSorting") ∈ lw_tbl := lw_at lw_m2 127 rfl
theorem q519 : (Jvm.Cond.fieldLinkNest "SelfSorting" (145 : Nat) "SelfSorting$Text" "law" "[LSelfSorting$Asked;" "SelfSorting") ∈ lw_tbl := lw_at lw_m2 128 rfl
theorem q520 : (Jvm.Cond.fieldLinkNest "SelfSorting$Tokens" (86 : Nat) "SelfSorting$Text" "falls" "LSelfSorting$Asked;" "SelfSorting") ∈ lw_tbl := lw_at lw_m2 129 rfl
theorem q521 : (Jvm.Cond.fieldLinkNest "SelfSorting" (199 : Nat) "SelfSorting$Text" "falls" "LSelfSorting$Asked;" "SelfSorting") ∈ lw_tbl := lw_at lw_m2 130 rfl
theorem q522 : (Jvm.Cond.fieldLinkNest "SelfSorting$Tokens" (90 : Nat) "SelfSorting$Text" "swell" "LSelfSorting$Sum;" "SelfSorting") ∈ lw_tbl := lw_at lw_m2 131 rfl
theorem q523 : (Jvm.Cond.fieldLinkNest "SelfSorting" (168 : Nat) "SelfSorting$Text" "swell" "LSelfSorting$Sum;" "SelfSorting") ∈ lw_tbl := lw_at lw_m2 132 rfl
theorem q524 : (Jvm.Cond.fieldLinkNest "SelfSorting$Tokens" (94 : Nat) "SelfSorting$Text" "need" "I" "SelfSorting") ∈ lw_tbl := lw_at lw_m2 133 rfl
theorem q525 : (Jvm.Cond.fieldLinkNest "SelfSorting" (203 : Nat) "SelfSorting$Text" "need" "I" "SelfSorting") ∈ lw_tbl := lw_at lw_m2 134 rfl
theorem q526 : (Jvm.Cond.fieldLinkNest "SelfSorting$Tokens" (97 : Nat) "SelfSorting$Text" "clauses" "I" "SelfSorting") ∈ lw_tbl := lw_at lw_m2 135 rfl
theorem q527 : (Jvm.Cond.fieldLink "SelfSorting$Text" (20 : Nat) "SelfSorting$Text" "doings" "Ljava/util/ArrayList;") ∈ lw_all := lw_g (lw_at lw_m2 136 rfl) rfl
theorem q528 : (Jvm.Cond.fieldLinkNest "SelfSorting$Tokens" (121 : Nat) "SelfSorting$Text" "doings" "Ljava/util/ArrayList;" "SelfSorting") ∈ lw_tbl := lw_at lw_m2 137 rfl
theorem q529 : (Jvm.Cond.fieldLinkNest "SelfSorting" (250 : Nat) "SelfSorting$Text" "doings" "Ljava/util/ArrayList;" "SelfSorting") ∈ lw_tbl := lw_at lw_m2 138 rfl
theorem q530 : (Jvm.Cond.laysFinal "SelfSorting$Text" "SelfSorting$Text" "law" "[LSelfSorting$Asked;") ∈ lw_all := lw_g (lw_at lw_m2 139 rfl) rfl
theorem q531 : (Jvm.Cond.soleField "SelfSorting$Text" "law") ∈ lw_all := lw_g (lw_at lw_m2 140 rfl) rfl
theorem q532 : (Jvm.Cond.lays "SelfSorting$Text" "SelfSorting$Text" "falls" "LSelfSorting$Asked;") ∈ lw_all := lw_g (lw_at lw_m2 141 rfl) rfl
theorem q533 : (Jvm.Cond.soleField "SelfSorting$Text" "falls") ∈ lw_all := lw_g (lw_at lw_m2 142 rfl) rfl
theorem q534 : (Jvm.Cond.lays "SelfSorting$Text" "SelfSorting$Text" "swell" "LSelfSorting$Sum;") ∈ lw_all := lw_g (lw_at lw_m2 143 rfl) rfl
theorem q535 : (Jvm.Cond.soleField "SelfSorting$Text" "swell") ∈ lw_all := lw_g (lw_at lw_m2 144 rfl) rfl
theorem q536 : (Jvm.Cond.lays "SelfSorting$Text" "SelfSorting$Text" "need" "I") ∈ lw_all := lw_g (lw_at lw_m2 145 rfl) rfl
theorem q537 : (Jvm.Cond.soleField "SelfSorting$Text" "need") ∈ lw_all := lw_g (lw_at lw_m2 146 rfl) rfl
theorem q538 : (Jvm.Cond.lays "SelfSorting$Text" "SelfSorting$Text" "clauses" "I") ∈ lw_all := lw_g (lw_at lw_m2 147 rfl) rfl
theorem q539 : (Jvm.Cond.soleField "SelfSorting$Text" "clauses") ∈ lw_all := lw_g (lw_at lw_m2 148 rfl) rfl
theorem q540 : (Jvm.Cond.laysFinal "SelfSorting$Text" "SelfSorting$Text" "doings" "Ljava/util/ArrayList;") ∈ lw_all := lw_g (lw_at lw_m2 149 rfl) rfl
theorem q541 : (Jvm.Cond.soleField "SelfSorting$Text" "doings") ∈ lw_all := lw_g (lw_at lw_m2 150 rfl) rfl
theorem q542 : (Jvm.Cond.superclass "SelfSorting$Text" "java/lang/Object") ∈ lw_all := lw_g (lw_at lw_m2 151 rfl) rfl
theorem q543 : (Jvm.Cond.methodLink "SelfSorting$Tokens" (74 : Nat) ({ cls := "SelfSorting$Tokens", name := "next", desc := "()V" } : Jvm.MethodName)) ∈ lw_all := lw_g (lw_at lw_m2 152 rfl) rfl
theorem q544 : (Jvm.Cond.privateMethod ({ cls := "SelfSorting$Tokens", name := "next", desc := "()V" } : Jvm.MethodName)) ∈ lw_tbl := lw_at lw_m2 153 rfl
theorem q545 : (Jvm.Cond.instanceMethod ({ cls := "SelfSorting$Tokens", name := "next", desc := "()V" } : Jvm.MethodName)) ∈ lw_all := lw_g (lw_at lw_m2 154 rfl) rfl
theorem q546 : (Jvm.Cond.code ({ cls := "SelfSorting$Tokens", name := "next", desc := "()V" } : Jvm.MethodName) prog_14_method_4_code (3 : Nat) (Option.none : Option Jvm.ClassFile.FieldType)) ∈ lw_all := lw_g (lw_at lw_m2 155 rfl) rfl
theorem q547 : (Jvm.Cond.methodLink "SelfSorting$Tokens" (28 : Nat) ({ cls := "SelfSorting$Tokens", name := "isLetter", desc := "(I)Z" } : Jvm.MethodName)) ∈ lw_all := lw_g (lw_at lw_m2 156 rfl) rfl
theorem q548 : (Jvm.Cond.static ({ cls := "SelfSorting$Tokens", name := "isLetter", desc := "(I)Z" } : Jvm.MethodName)) ∈ lw_all := lw_g (lw_at lw_m2 157 rfl) rfl
theorem q549 : (Jvm.Cond.code ({ cls := "SelfSorting$Tokens", name := "isLetter", desc := "(I)Z" } : Jvm.MethodName) prog_14_method_2_code (1 : Nat) (Option.some Jvm.ClassFile.FieldType.boolean)) ∈ lw_all := lw_g (lw_at lw_m2 158 rfl) rfl
theorem q550 : (Jvm.Cond.fieldLink "SelfSorting$Tokens" (32 : Nat) "SelfSorting$Tokens" "WORDS" "[Ljava/lang/String;") ∈ lw_all := lw_g (lw_at lw_m2 159 rfl) rfl
theorem q551 : (Jvm.Cond.laysStatic "SelfSorting$Tokens" "WORDS" "[Ljava/lang/String;") ∈ lw_tbl := lw_at lw_m2 160 rfl
theorem q552 : (Jvm.Cond.methodLink "SelfSorting$Tokens" (36 : Nat) ({ cls := "SelfSorting$Tokens", name := "isWord", desc := "(Ljava/lang/String;)Z" } : Jvm.MethodName)) ∈ lw_all := lw_g (lw_at lw_m2 161 rfl) rfl
theorem q553 : (Jvm.Cond.privateMethod ({ cls := "SelfSorting$Tokens", name := "isWord", desc := "(Ljava/lang/String;)Z" } : Jvm.MethodName)) ∈ lw_tbl := lw_at lw_m2 162 rfl
theorem q554 : (Jvm.Cond.instanceMethod ({ cls := "SelfSorting$Tokens", name := "isWord", desc := "(Ljava/lang/String;)Z" } : Jvm.MethodName)) ∈ lw_all := lw_g (lw_at lw_m2 163 rfl) rfl
theorem q555 : (Jvm.Cond.code ({ cls := "SelfSorting$Tokens", name := "isWord", desc := "(Ljava/lang/String;)Z" } : Jvm.MethodName) prog_14_method_5_code (3 : Nat) (Option.some Jvm.ClassFile.FieldType.boolean)) ∈ lw_all := lw_g (lw_at lw_m2 164 rfl) rfl
theorem q556 : (Jvm.Cond.methodLink "SelfSorting$Tokens" (55 : Nat) ({ cls := "java/lang/String", name := "length", desc := "()I" } : Jvm.MethodName)) ∈ lw_all := lw_g (lw_at lw_m2 165 rfl) rfl
theorem q557 : (Jvm.Cond.instanceMethod ({ cls := "java/lang/String", name := "length", desc := "()I" } : Jvm.MethodName)) ∈ lw_all := lw_g (lw_at lw_m2 166 rfl) rfl
theorem q558 : (Jvm.Cond.selects "java/lang/String" ({ cls := "java/lang/String", name := "length", desc := "()I" } : Jvm.MethodName) ({ cls := "java/lang/String", name := "length", desc := "()I" } : Jvm.MethodName)) ∈ lw_all := lw_g (lw_at lw_m2 167 rfl) rfl
theorem q559 : (Jvm.Cond.code ({ cls := "java/lang/String", name := "length", desc := "()I" } : Jvm.MethodName) prog_29_method_54_code (1 : Nat) (Option.some Jvm.ClassFile.FieldType.int)) ∈ lw_all := lw_g (lw_at lw_m2 168 rfl) rfl
theorem q560 : (Jvm.Cond.methodLink "java/lang/String" (335 : Nat) ({ cls := "java/lang/String", name := "coder", desc := "()B" } : Jvm.MethodName)) ∈ lw_all := lw_g (lw_at lw_m2 169 rfl) rfl
theorem q561 : (Jvm.Cond.instanceMethod ({ cls := "java/lang/String", name := "coder", desc := "()B" } : Jvm.MethodName)) ∈ lw_all := lw_g (lw_at lw_m2 170 rfl) rfl
theorem q562 : (Jvm.Cond.selects "java/lang/String" ({ cls := "java/lang/String", name := "coder", desc := "()B" } : Jvm.MethodName) ({ cls := "java/lang/String", name := "coder", desc := "()B" } : Jvm.MethodName)) ∈ lw_all := lw_g (lw_at lw_m2 171 rfl) rfl
theorem q563 : (Jvm.Cond.code ({ cls := "java/lang/String", name := "coder", desc := "()B" } : Jvm.MethodName) prog_29_method_152_code (1 : Nat) (Option.some Jvm.ClassFile.FieldType.byte)) ∈ lw_all := lw_g (lw_at lw_m2 172 rfl) rfl
theorem q564 : (Jvm.Cond.fieldLink "java/lang/String" (38 : Nat) "java/lang/String" "COMPACT_STRINGS" "Z") ∈ lw_all := lw_g (lw_at lw_m2 173 rfl) rfl
theorem q565 : (Jvm.Cond.laysStatic "java/lang/String" "COMPACT_STRINGS" "Z") ∈ lw_tbl := lw_at lw_m2 174 rfl
theorem q566 : (Jvm.Cond.methodLink "SelfSorting$Tokens" (61 : Nat) ({ cls := "java/lang/String", name := "charAt", desc := "(I)C" } : Jvm.MethodName)) ∈ lw_all := lw_g (lw_at lw_m2 175 rfl) rfl
theorem q567 : (Jvm.Cond.instanceMethod ({ cls := "java/lang/String", name := "charAt", desc := "(I)C" } : Jvm.MethodName)) ∈ lw_all := lw_g (lw_at lw_m2 176 rfl) rfl
theorem q568 : (Jvm.Cond.selects "java/lang/String" ({ cls := "java/lang/String", name := "charAt", desc := "(I)C" } : Jvm.MethodName) ({ cls := "java/lang/String", name := "charAt", desc := "(I)C" } : Jvm.MethodName)) ∈ lw_all := lw_g (lw_at lw_m2 177 rfl) rfl
theorem q569 : (Jvm.Cond.code ({ cls := "java/lang/String", name := "charAt", desc := "(I)C" } : Jvm.MethodName) prog_29_method_56_code (2 : Nat) (Option.some Jvm.ClassFile.FieldType.char)) ∈ lw_all := lw_g (lw_at lw_m2 178 rfl) rfl
theorem q570 : (Jvm.Cond.methodLink "java/lang/String" (492 : Nat) ({ cls := "java/lang/String", name := "isLatin1", desc := "()Z" } : Jvm.MethodName)) ∈ lw_all := lw_g (lw_at lw_m2 179 rfl) rfl
theorem q571 : (Jvm.Cond.instanceMethod ({ cls := "java/lang/String", name := "isLatin1", desc := "()Z" } : Jvm.MethodName)) ∈ lw_all := lw_g (lw_at lw_m2 180 rfl) rfl
theorem q572 : (Jvm.Cond.selects "java/lang/String" ({ cls := "java/lang/String", name := "isLatin1", desc := "()Z" } : Jvm.MethodName) ({ cls := "java/lang/String", name := "isLatin1", desc := "()Z" } : Jvm.MethodName)) ∈ lw_all := lw_g (lw_at lw_m2 181 rfl) rfl
theorem q573 : (Jvm.Cond.code ({ cls := "java/lang/String", name := "isLatin1", desc := "()Z" } : Jvm.MethodName) prog_29_method_154_code (1 : Nat) (Option.some Jvm.ClassFile.FieldType.boolean)) ∈ lw_all := lw_g (lw_at lw_m2 182 rfl) rfl
theorem q574 : (Jvm.Cond.methodLink "java/lang/String" (495 : Nat) ({ cls := "java/lang/StringLatin1", name := "charAt", desc := "([BI)C" } : Jvm.MethodName)) ∈ lw_all := lw_g (lw_at lw_m2 183 rfl) rfl
theorem q575 : (Jvm.Cond.static ({ cls := "java/lang/StringLatin1", name := "charAt", desc := "([BI)C" } : Jvm.MethodName)) ∈ lw_all := lw_g (lw_at lw_m2 184 rfl) rfl
theorem q576 : (Jvm.Cond.code ({ cls := "java/lang/StringLatin1", name := "charAt", desc := "([BI)C" } : Jvm.MethodName) prog_30_method_2_code (2 : Nat) (Option.some Jvm.ClassFile.FieldType.char)) ∈ lw_all := lw_g (lw_at lw_m2 185 rfl) rfl
theorem q577 : (Jvm.Cond.methodLink "java/lang/StringLatin1" (9 : Nat) ({ cls := "java/lang/String", name := "checkIndex", desc := "(II)V" } : Jvm.MethodName)) ∈ lw_all := lw_g (lw_at lw_m2 186 rfl) rfl
theorem q578 : (Jvm.Cond.static ({ cls := "java/lang/String", name := "checkIndex", desc := "(II)V" } : Jvm.MethodName)) ∈ lw_all := lw_g (lw_at lw_m2 187 rfl) rfl
theorem q579 : (Jvm.Cond.code ({ cls := "java/lang/String", name := "checkIndex", desc := "(II)V" } : Jvm.MethodName) prog_29_method_155_code (2 : Nat) (Option.none : Option Jvm.ClassFile.FieldType)) ∈ lw_all := lw_g (lw_at lw_m2 188 rfl) rfl
theorem q580 : (Jvm.Cond.fieldLink "java/lang/String" (1053 : Nat) "jdk/internal/util/Preconditions" "SIOOBE_FORMATTER" "Ljava/util/function/BiFunction;") ∈ lw_all := lw_g (lw_at lw_m2 189 rfl) rfl
theorem q581 : (Jvm.Cond.laysStatic "jdk/internal/util/Preconditions" "SIOOBE_FORMATTER" "Ljava/util/function/BiFunction;") ∈ lw_tbl := lw_at lw_m2 190 rfl
theorem q582 : (Jvm.Cond.methodLink "java/lang/String" (1059 : Nat) ({ cls := "jdk/internal/util/Preconditions", name := "checkIndex", desc := "(IILjava/util/function/BiFunction;)I" } : Jvm.MethodName)) ∈ lw_all := lw_g (lw_at lw_m2 191 rfl) rfl
theorem q583 : (Jvm.Cond.methodLink "java/lang/String" (498 : Nat) ({ cls := "java/lang/StringUTF16", name := "charAt", desc := "([BI)C" } : Jvm.MethodName)) ∈ lw_all := lw_g (lw_at lw_m2 192 rfl) rfl
theorem q584 : (Jvm.Cond.static ({ cls := "java/lang/StringUTF16", name := "charAt", desc := "([BI)C" } : Jvm.MethodName)) ∈ lw_all := lw_g (lw_at lw_m2 193 rfl) rfl
theorem q585 : (Jvm.Cond.code ({ cls := "java/lang/StringUTF16", name := "charAt", desc := "([BI)C" } : Jvm.MethodName) prog_31_method_83_code (2 : Nat) (Option.some Jvm.ClassFile.FieldType.char)) ∈ lw_all := lw_g (lw_at lw_m2 194 rfl) rfl
theorem q586 : (Jvm.Cond.methodLink "java/lang/StringUTF16" (67 : Nat) ({ cls := "java/lang/StringUTF16", name := "checkIndex", desc := "(I[B)V" } : Jvm.MethodName)) ∈ lw_all := lw_g (lw_at lw_m2 195 rfl) rfl
theorem q587 : (Jvm.Cond.static ({ cls := "java/lang/StringUTF16", name := "checkIndex", desc := "(I[B)V" } : Jvm.MethodName)) ∈ lw_all := lw_g (lw_at lw_m2 196 rfl) rfl
theorem q588 : (Jvm.Cond.code ({ cls := "java/lang/StringUTF16", name := "checkIndex", desc := "(I[B)V" } : Jvm.MethodName) prog_31_method_91_code (2 : Nat) (Option.none : Option Jvm.ClassFile.FieldType)) ∈ lw_all := lw_g (lw_at lw_m2 197 rfl) rfl
theorem q589 : (Jvm.Cond.methodLink "java/lang/StringUTF16" (48 : Nat) ({ cls := "java/lang/StringUTF16", name := "length", desc := "([B)I" } : Jvm.MethodName)) ∈ lw_all := lw_g (lw_at lw_m2 198 rfl) rfl
theorem q590 : (Jvm.Cond.static ({ cls := "java/lang/StringUTF16", name := "length", desc := "([B)I" } : Jvm.MethodName)) ∈ lw_all := lw_g (lw_at lw_m2 199 rfl) rfl
theorem q591 : (Jvm.Cond.code ({ cls := "java/lang/StringUTF16", name := "length", desc := "([B)I" } : Jvm.MethodName) prog_31_method_6_code (1 : Nat) (Option.some Jvm.ClassFile.FieldType.int)) ∈ lw_all := lw_g (lw_at lw_m2 200 rfl) rfl
theorem q592 : (Jvm.Cond.methodLink "java/lang/StringUTF16" (414 : Nat) ({ cls := "java/lang/String", name := "checkIndex", desc := "(II)V" } : Jvm.MethodName)) ∈ lw_all := lw_g (lw_at lw_m2 201 rfl) rfl
theorem q593 : (Jvm.Cond.methodLink "java/lang/StringUTF16" (71 : Nat) ({ cls := "java/lang/StringUTF16", name := "getChar", desc := "([BI)C" } : Jvm.MethodName)) ∈ lw_all := lw_g (lw_at lw_m2 202 rfl) rfl
theorem q594 : (Jvm.Cond.static ({ cls := "java/lang/StringUTF16", name := "getChar", desc := "([BI)C" } : Jvm.MethodName)) ∈ lw_all := lw_g (lw_at lw_m2 203 rfl) rfl
theorem q595 : (Jvm.Cond.code ({ cls := "java/lang/StringUTF16", name := "getChar", desc := "([BI)C" } : Jvm.MethodName) prog_31_method_5_code (2 : Nat) (Option.some Jvm.ClassFile.FieldType.char)) ∈ lw_all := lw_g (lw_at lw_m2 204 rfl) rfl
theorem q596 : (Jvm.Cond.fieldLink "java/lang/StringUTF16" (44 : Nat) "java/lang/StringUTF16" "$assertionsDisabled" "Z") ∈ lw_all := lw_g (lw_at lw_m2 205 rfl) rfl
theorem q597 : (Jvm.Cond.laysStatic "java/lang/StringUTF16" "$assertionsDisabled" "Z") ∈ lw_tbl := lw_at lw_m2 206 rfl
theorem q598 : (Jvm.Cond.fieldLink "java/lang/StringUTF16" (59 : Nat) "java/lang/StringUTF16" "HI_BYTE_SHIFT" "I") ∈ lw_all := lw_g (lw_at lw_m2 207 rfl) rfl
theorem q599 : (Jvm.Cond.laysStatic "java/lang/StringUTF16" "HI_BYTE_SHIFT" "I") ∈ lw_tbl := lw_at lw_m2 208 rfl
theorem q600 : (Jvm.Cond.fieldLink "java/lang/StringUTF16" (63 : Nat) "java/lang/StringUTF16" "LO_BYTE_SHIFT" "I") ∈ lw_all := lw_g (lw_at lw_m2 209 rfl) rfl
theorem q601 : (Jvm.Cond.laysStatic "java/lang/StringUTF16" "LO_BYTE_SHIFT" "I") ∈ lw_tbl := lw_at lw_m2 210 rfl
theorem q602 : (Jvm.Cond.methodLink "SelfSorting$Tokens" (40 : Nat) ({ cls := "SelfSorting$Tokens", name := "isDigit", desc := "(I)Z" } : Jvm.MethodName)) ∈ lw_all := lw_g (lw_at lw_m2 211 rfl) rfl
theorem q603 : (Jvm.Cond.static ({ cls := "SelfSorting$Tokens", name := "isDigit", desc := "(I)Z" } : Jvm.MethodName)) ∈ lw_all := lw_g (lw_at lw_m2 212 rfl) rfl
theorem q604 : (Jvm.Cond.code ({ cls := "SelfSorting$Tokens", name := "isDigit", desc := "(I)Z" } : Jvm.MethodName) prog_14_method_3_code (1 : Nat) (Option.some Jvm.ClassFile.FieldType.boolean)) ∈ lw_all := lw_g (lw_at lw_m2 213 rfl) rfl
theorem q605 : (Jvm.Cond.constant "SelfSorting$Tokens" (46 : Nat) (99999 : Int32)) ∈ lw_all := lw_g (lw_at lw_m2 214 rfl) rfl
theorem q606 : (Jvm.Cond.methodLink "SelfSorting$Tokens" (47 : Nat) ({ cls := "java/lang/Math", name := "min", desc := "(II)I" } : Jvm.MethodName)) ∈ lw_all := lw_g (lw_at lw_m2 215 rfl) rfl
theorem q607 : (Jvm.Cond.static ({ cls := "java/lang/Math", name := "min", desc := "(II)I" } : Jvm.MethodName)) ∈ lw_all := lw_g (lw_at lw_m2 216 rfl) rfl
theorem q608 : (Jvm.Cond.code ({ cls := "java/lang/Math", name := "min", desc := "(II)I" } : Jvm.MethodName) prog_26_method_69_code (2 : Nat) (Option.some Jvm.ClassFile.FieldType.int)) ∈ lw_all := lw_g (lw_at lw_m2 217 rfl) rfl
theorem q609 : (Jvm.Cond.stringRef "SelfSorting$Tokens" (53 : Nat) "<>=#+-*/();") ∈ lw_tbl := lw_at lw_m2 218 rfl
theorem q610 : (Jvm.Cond.methodLink "SelfSorting$Tokens" (70 : Nat) ({ cls := "SelfSorting$Tokens", name := "wrong", desc := "(I)LSelfSorting$Wrong;" } : Jvm.MethodName)) ∈ lw_all := lw_g (lw_at lw_m2 219 rfl) rfl
theorem q611 : (Jvm.Cond.privateMethod ({ cls := "SelfSorting$Tokens", name := "wrong", desc := "(I)LSelfSorting$Wrong;" } : Jvm.MethodName)) ∈ lw_tbl := lw_at lw_m2 220 rfl
theorem q612 : (Jvm.Cond.instanceMethod ({ cls := "SelfSorting$Tokens", name := "wrong", desc := "(I)LSelfSorting$Wrong;" } : Jvm.MethodName)) ∈ lw_all := lw_g (lw_at lw_m2 221 rfl) rfl
theorem q613 : (Jvm.Cond.code ({ cls := "SelfSorting$Tokens", name := "wrong", desc := "(I)LSelfSorting$Wrong;" } : Jvm.MethodName) prog_14_method_6_code (2 : Nat) (Option.some (Jvm.ClassFile.FieldType.object "SelfSorting$Wrong"))) ∈ lw_all := lw_g (lw_at lw_m2 222 rfl) rfl
theorem q614 : (Jvm.Cond.classLink "SelfSorting$Tokens" (65 : Nat) "SelfSorting$Wrong") ∈ lw_all := lw_g (lw_at lw_m2 223 rfl) rfl
theorem q615 : (Jvm.Cond.instantiable "SelfSorting$Wrong" (8 : Nat)) ∈ lw_all := lw_g (lw_at lw_m2 224 rfl) rfl
theorem q616 : (Jvm.Cond.castable "SelfSorting$Wrong" "SelfSorting$Wrong") ∈ lw_tbl := lw_at lw_m2 225 rfl
theorem q617 : (Jvm.Cond.declares ({ cls := "java/lang/Exception", name := "<init>", desc := "()V" } : Jvm.MethodName)) ∈ lw_tbl := lw_at lw_m2 226 rfl
theorem q618 : (Jvm.Cond.declares ({ cls := "java/lang/Exception", name := "<init>", desc := "(Ljava/lang/String;)V" } : Jvm.MethodName)) ∈ lw_tbl := lw_at lw_m2 227 rfl
theorem q619 : (Jvm.Cond.declares ({ cls := "java/lang/Throwable", name := "<init>", desc := "()V" } : Jvm.MethodName)) ∈ lw_tbl := lw_at lw_m2 228 rfl
theorem q620 : (Jvm.Cond.declares ({ cls := "java/lang/Throwable", name := "<init>", desc := "(Ljava/lang/String;)V" } : Jvm.MethodName)) ∈ lw_tbl := lw_at lw_m2 229 rfl
theorem q621 : (Jvm.Cond.selects "SelfSorting$Wrong" ({ cls := "java/lang/Throwable", name := "fillInStackTrace", desc := "(I)Ljava/lang/Throwable;" } : Jvm.MethodName) ({ cls := "java/lang/Throwable", name := "fillInStackTrace", desc := "(I)Ljava/lang/Throwable;" } : Jvm.MethodName)) ∈ lw_all := lw_g (lw_at lw_m2 230 rfl) rfl
theorem q622 : (Jvm.Cond.selects "SelfSorting$Wrong" ({ cls := "java/lang/Throwable", name := "fillInStackTrace", desc := "()Ljava/lang/Throwable;" } : Jvm.MethodName) ({ cls := "java/lang/Throwable", name := "fillInStackTrace", desc := "()Ljava/lang/Throwable;" } : Jvm.MethodName)) ∈ lw_all := lw_g (lw_at lw_m2 231 rfl) rfl
theorem q623 : (Jvm.Cond.lays "SelfSorting$Wrong" "java/lang/Throwable" "cause" "Ljava/lang/Throwable;") ∈ lw_all := lw_g (lw_at lw_m2 232 rfl) rfl
theorem q624 : (Jvm.Cond.lays "java/lang/Throwable" "java/lang/Throwable" "cause" "Ljava/lang/Throwable;") ∈ lw_all := lw_g (lw_at lw_m2 233 rfl) rfl
theorem q625 : (Jvm.Cond.lays "SelfSorting$Wrong" "java/lang/Throwable" "stackTrace" "[Ljava/lang/StackTraceElement;") ∈ lw_all := lw_g (lw_at lw_m2 234 rfl) rfl
theorem q626 : (Jvm.Cond.lays "java/lang/Throwable" "java/lang/Throwable" "stackTrace" "[Ljava/lang/StackTraceElement;") ∈ lw_all := lw_g (lw_at lw_m2 235 rfl) rfl
theorem q627 : (Jvm.Cond.lays "SelfSorting$Wrong" "java/lang/Throwable" "suppressedExceptions" "Ljava/util/List;") ∈ lw_all := lw_g (lw_at lw_m2 236 rfl) rfl
theorem q628 : (Jvm.Cond.lays "java/lang/Throwable" "java/lang/Throwable" "suppressedExceptions" "Ljava/util/List;") ∈ lw_all := lw_g (lw_at lw_m2 237 rfl) rfl
theorem q629 : (Jvm.Cond.lays "SelfSorting$Wrong" "java/lang/Throwable" "detailMessage" "Ljava/lang/String;") ∈ lw_all := lw_g (lw_at lw_m2 238 rfl) rfl
theorem q630 : (Jvm.Cond.lays "java/lang/Throwable" "java/lang/Throwable" "detailMessage" "Ljava/lang/String;") ∈ lw_all := lw_g (lw_at lw_m2 239 rfl) rfl
theorem q631 : (Jvm.Cond.lays "SelfSorting$Wrong" "java/lang/Throwable" "backtrace" "Ljava/lang/Object;") ∈ lw_all := lw_g (lw_at lw_m3 0 rfl) rfl
theorem q632 : (Jvm.Cond.lays "java/lang/Throwable" "java/lang/Throwable" "backtrace" "Ljava/lang/Object;") ∈ lw_all := lw_g (lw_at lw_m3 1 rfl) rfl
theorem q633 : (Jvm.Cond.fieldLink "java/lang/Throwable" (198 : Nat) "java/lang/Throwable" "backtrace" "Ljava/lang/Object;") ∈ lw_all := lw_g (lw_at lw_m3 2 rfl) rfl
theorem q634 : (Jvm.Cond.superclass "java/lang/Throwable" "java/lang/Object") ∈ lw_all := lw_g (lw_at lw_m3 3 rfl) rfl
theorem q635 : (Jvm.Cond.instanceMethod ({ cls := "java/lang/Throwable", name := "<init>", desc := "()V" } : Jvm.MethodName)) ∈ lw_all := lw_g (lw_at lw_m3 4 rfl) rfl
theorem q636 : (Jvm.Cond.code ({ cls := "java/lang/Throwable", name := "<init>", desc := "()V" } : Jvm.MethodName) prog_33_method_1_code (1 : Nat) (Option.none : Option Jvm.ClassFile.FieldType)) ∈ lw_all := lw_g (lw_at lw_m3 5 rfl) rfl
theorem q637 : (Jvm.Cond.methodLink "java/lang/Throwable" (1 : Nat) ({ cls := "java/lang/Object", name := "<init>", desc := "()V" } : Jvm.MethodName)) ∈ lw_all := lw_g (lw_at lw_m3 6 rfl) rfl
theorem q638 : (Jvm.Cond.fieldLink "java/lang/Throwable" (13 : Nat) "java/lang/Throwable" "UNASSIGNED_STACK" "[Ljava/lang/StackTraceElement;") ∈ lw_all := lw_g (lw_at lw_m3 7 rfl) rfl
theorem q639 : (Jvm.Cond.laysStatic "java/lang/Throwable" "UNASSIGNED_STACK" "[Ljava/lang/StackTraceElement;") ∈ lw_tbl := lw_at lw_m3 8 rfl
theorem q640 : (Jvm.Cond.fieldLink "java/lang/Throwable" (20 : Nat) "java/lang/Throwable" "SUPPRESSED_SENTINEL" "Ljava/util/List;") ∈ lw_all := lw_g (lw_at lw_m3 9 rfl) rfl
theorem q641 : (Jvm.Cond.laysStatic "java/lang/Throwable" "SUPPRESSED_SENTINEL" "Ljava/util/List;") ∈ lw_tbl := lw_at lw_m3 10 rfl
theorem q642 : (Jvm.Cond.methodLink "java/lang/Throwable" (27 : Nat) ({ cls := "java/lang/Throwable", name := "fillInStackTrace", desc := "()Ljava/lang/Throwable;" } : Jvm.MethodName)) ∈ lw_all := lw_g (lw_at lw_m3 11 rfl) rfl
theorem q643 : (Jvm.Cond.instanceMethod ({ cls := "java/lang/Throwable", name := "fillInStackTrace", desc := "()Ljava/lang/Throwable;" } : Jvm.MethodName)) ∈ lw_all := lw_g (lw_at lw_m3 12 rfl) rfl
theorem q644 : (Jvm.Cond.sameMethod "java/lang/Throwable" "java/lang/Throwable" "fillInStackTrace" "()Ljava/lang/Throwable;") ∈ lw_all := lw_g (lw_at lw_m3 13 rfl) rfl
theorem q645 : (Jvm.Cond.codeSync ({ cls := "java/lang/Throwable", name := "fillInStackTrace", desc := "()Ljava/lang/Throwable;" } : Jvm.MethodName) prog_33_method_18_code (1 : Nat) (Option.some (Jvm.ClassFile.FieldType.object "java/lang/Throwable"))) ∈ lw_all := lw_g (lw_at lw_m3 14 rfl) rfl
theorem q646 : (Jvm.Cond.methodLink "java/lang/Throwable" (202 : Nat) ({ cls := "java/lang/Throwable", name := "fillInStackTrace", desc := "(I)Ljava/lang/Throwable;" } : Jvm.MethodName)) ∈ lw_all := lw_g (lw_at lw_m3 15 rfl) rfl
theorem q647 : (Jvm.Cond.privateMethod ({ cls := "java/lang/Throwable", name := "fillInStackTrace", desc := "(I)Ljava/lang/Throwable;" } : Jvm.MethodName)) ∈ lw_tbl := lw_at lw_m3 16 rfl
theorem q648 : (Jvm.Cond.instanceMethod ({ cls := "java/lang/Throwable", name := "fillInStackTrace", desc := "(I)Ljava/lang/Throwable;" } : Jvm.MethodName)) ∈ lw_all := lw_g (lw_at lw_m3 17 rfl) rfl
theorem q649 : (Jvm.Cond.instantiable "java/lang/Throwable" (6 : Nat)) ∈ lw_all := lw_g (lw_at lw_m3 18 rfl) rfl
theorem q650 : (Jvm.Cond.native ({ cls := "java/lang/Throwable", name := "fillInStackTrace", desc := "(I)Ljava/lang/Throwable;" } : Jvm.MethodName)) ∈ lw_all := lw_g (lw_at lw_m3 19 rfl) rfl
theorem q651 : (Jvm.Cond.methodLink "SelfSorting$Tokens" (67 : Nat) ({ cls := "SelfSorting$Wrong", name := "<init>", desc := "(II)V" } : Jvm.MethodName)) ∈ lw_all := lw_g (lw_at lw_m3 20 rfl) rfl
theorem q652 : (Jvm.Cond.instanceMethod ({ cls := "SelfSorting$Wrong", name := "<init>", desc := "(II)V" } : Jvm.MethodName)) ∈ lw_all := lw_g (lw_at lw_m3 21 rfl) rfl
theorem q653 : (Jvm.Cond.code ({ cls := "SelfSorting$Wrong", name := "<init>", desc := "(II)V" } : Jvm.MethodName) prog_15_method_1_code (3 : Nat) (Option.none : Option Jvm.ClassFile.FieldType)) ∈ lw_all := lw_g (lw_at lw_m3 22 rfl) rfl
theorem q654 : (Jvm.Cond.methodLink "SelfSorting$Wrong" (1 : Nat) ({ cls := "java/lang/Exception", name := "<init>", desc := "()V" } : Jvm.MethodName)) ∈ lw_all := lw_g (lw_at lw_m3 23 rfl) rfl
theorem q655 : (Jvm.Cond.instanceMethod ({ cls := "java/lang/Exception", name := "<init>", desc := "()V" } : Jvm.MethodName)) ∈ lw_all := lw_g (lw_at lw_m3 24 rfl) rfl
theorem q656 : (Jvm.Cond.code ({ cls := "java/lang/Exception", name := "<init>", desc := "()V" } : Jvm.MethodName) prog_22_method_1_code (1 : Nat) (Option.none : Option Jvm.ClassFile.FieldType)) ∈ lw_all := lw_g (lw_at lw_m3 25 rfl) rfl
theorem q657 : (Jvm.Cond.methodLink "java/lang/Exception" (1 : Nat) ({ cls := "java/lang/Throwable", name := "<init>", desc := "()V" } : Jvm.MethodName)) ∈ lw_all := lw_g (lw_at lw_m3 26 rfl) rfl
theorem q658 : (Jvm.Cond.fieldLink "SelfSorting$Wrong" (7 : Nat) "SelfSorting$Wrong" "fault" "I") ∈ lw_all := lw_g (lw_at lw_m3 27 rfl) rfl
theorem q659 : (Jvm.Cond.fieldLinkNest "SelfSorting" (125 : Nat) "SelfSorting$Wrong" "fault" "I" "SelfSorting") ∈ lw_tbl := lw_at lw_m3 28 rfl
theorem q660 : (Jvm.Cond.fieldLink "SelfSorting$Wrong" (13 : Nat) "SelfSorting$Wrong" "place" "I") ∈ lw_all := lw_g (lw_at lw_m3 29 rfl) rfl
theorem q661 : (Jvm.Cond.fieldLinkNest "SelfSorting" (126 : Nat) "SelfSorting$Wrong" "place" "I" "SelfSorting") ∈ lw_tbl := lw_at lw_m3 30 rfl
theorem q662 : (Jvm.Cond.fieldLink "java/lang/Throwable" (198 : Nat) "java/lang/Throwable" "backtrace" "Ljava/lang/Object;") ∈ lw_all := lw_g (lw_at lw_m3 31 rfl) rfl
theorem q663 : (Jvm.Cond.fieldLink "java/lang/Throwable" (7 : Nat) "java/lang/Throwable" "cause" "Ljava/lang/Throwable;") ∈ lw_all := lw_g (lw_at lw_m3 32 rfl) rfl
theorem q664 : (Jvm.Cond.fieldLink "java/lang/Throwable" (17 : Nat) "java/lang/Throwable" "stackTrace" "[Ljava/lang/StackTraceElement;") ∈ lw_all := lw_g (lw_at lw_m3 33 rfl) rfl
theorem q665 : (Jvm.Cond.fieldLink "java/lang/Throwable" (24 : Nat) "java/lang/Throwable" "suppressedExceptions" "Ljava/util/List;") ∈ lw_all := lw_g (lw_at lw_m3 34 rfl) rfl
theorem q666 : (Jvm.Cond.laysFinal "SelfSorting$Wrong" "SelfSorting$Wrong" "fault" "I") ∈ lw_all := lw_g (lw_at lw_m3 35 rfl) rfl
theorem q667 : (Jvm.Cond.soleField "SelfSorting$Wrong" "fault") ∈ lw_all := lw_g (lw_at lw_m3 36 rfl) rfl
theorem q668 : (Jvm.Cond.laysFinal "SelfSorting$Wrong" "SelfSorting$Wrong" "place" "I") ∈ lw_all := lw_g (lw_at lw_m3 37 rfl) rfl
theorem q669 : (Jvm.Cond.soleField "SelfSorting$Wrong" "place") ∈ lw_all := lw_g (lw_at lw_m3 38 rfl) rfl
theorem q670 : (Jvm.Cond.soleField "java/lang/Throwable" "backtrace") ∈ lw_all := lw_g (lw_at lw_m3 39 rfl) rfl
theorem q671 : (Jvm.Cond.soleField "java/lang/Throwable" "detailMessage") ∈ lw_all := lw_g (lw_at lw_m3 40 rfl) rfl
theorem q672 : (Jvm.Cond.soleField "java/lang/Throwable" "cause") ∈ lw_all := lw_g (lw_at lw_m3 41 rfl) rfl
theorem q673 : (Jvm.Cond.soleField "java/lang/Throwable" "stackTrace") ∈ lw_all := lw_g (lw_at lw_m3 42 rfl) rfl
theorem q674 : (Jvm.Cond.lays "SelfSorting$Wrong" "java/lang/Throwable" "depth" "I") ∈ lw_all := lw_g (lw_at lw_m3 43 rfl) rfl
theorem q675 : (Jvm.Cond.soleField "java/lang/Throwable" "depth") ∈ lw_all := lw_g (lw_at lw_m3 44 rfl) rfl
theorem q676 : (Jvm.Cond.soleField "java/lang/Throwable" "suppressedExceptions") ∈ lw_all := lw_g (lw_at lw_m3 45 rfl) rfl
theorem q677 : (Jvm.Cond.superclass "SelfSorting$Wrong" "java/lang/Exception") ∈ lw_all := lw_g (lw_at lw_m3 46 rfl) rfl
theorem q678 : (Jvm.Cond.methodLink "SelfSorting$Tokens" (100 : Nat) ({ cls := "SelfSorting$Tokens", name := "clause", desc := "(LSelfSorting$Text;)V" } : Jvm.MethodName)) ∈ lw_all := lw_g (lw_at lw_m3 47 rfl) rfl
theorem q679 : (Jvm.Cond.privateMethod ({ cls := "SelfSorting$Tokens", name := "clause", desc := "(LSelfSorting$Text;)V" } : Jvm.MethodName)) ∈ lw_tbl := lw_at lw_m3 48 rfl
theorem q680 : (Jvm.Cond.instanceMethod ({ cls := "SelfSorting$Tokens", name := "clause", desc := "(LSelfSorting$Text;)V" } : Jvm.MethodName)) ∈ lw_all := lw_g (lw_at lw_m3 49 rfl) rfl
theorem q681 : (Jvm.Cond.code ({ cls := "SelfSorting$Tokens", name := "clause", desc := "(LSelfSorting$Text;)V" } : Jvm.MethodName) prog_14_method_11_code (2 : Nat) (Option.none : Option Jvm.ClassFile.FieldType)) ∈ lw_all := lw_g (lw_at lw_m3 50 rfl) rfl
theorem q682 : (Jvm.Cond.methodLink "SelfSorting$Tokens" (108 : Nat) ({ cls := "SelfSorting$Tokens", name := "law", desc := "(LSelfSorting$Text;)V" } : Jvm.MethodName)) ∈ lw_all := lw_g (lw_at lw_m3 51 rfl) rfl
theorem q683 : (Jvm.Cond.privateMethod ({ cls := "SelfSorting$Tokens", name := "law", desc := "(LSelfSorting$Text;)V" } : Jvm.MethodName)) ∈ lw_tbl := lw_at lw_m3 52 rfl
theorem q684 : (Jvm.Cond.instanceMethod ({ cls := "SelfSorting$Tokens", name := "law", desc := "(LSelfSorting$Text;)V" } : Jvm.MethodName)) ∈ lw_all := lw_g (lw_at lw_m3 53 rfl) rfl
theorem q685 : (Jvm.Cond.code ({ cls := "SelfSorting$Tokens", name := "law", desc := "(LSelfSorting$Text;)V" } : Jvm.MethodName) prog_14_method_12_code (3 : Nat) (Option.none : Option Jvm.ClassFile.FieldType)) ∈ lw_all := lw_g (lw_at lw_m3 54 rfl) rfl
theorem q686 : (Jvm.Cond.methodLink "SelfSorting$Tokens" (119 : Nat) ({ cls := "SelfSorting$Tokens", name := "number", desc := "(II)I" } : Jvm.MethodName)) ∈ lw_all := lw_g (lw_at lw_m3 55 rfl) rfl
theorem q687 : (Jvm.Cond.privateMethod ({ cls := "SelfSorting$Tokens", name := "number", desc := "(II)I" } : Jvm.MethodName)) ∈ lw_tbl := lw_at lw_m3 56 rfl
theorem q688 : (Jvm.Cond.instanceMethod ({ cls := "SelfSorting$Tokens", name := "number", desc := "(II)I" } : Jvm.MethodName)) ∈ lw_all := lw_g (lw_at lw_m3 57 rfl) rfl
theorem q689 : (Jvm.Cond.code ({ cls := "SelfSorting$Tokens", name := "number", desc := "(II)I" } : Jvm.MethodName) prog_14_method_8_code (4 : Nat) (Option.some Jvm.ClassFile.FieldType.int)) ∈ lw_all := lw_g (lw_at lw_m3 58 rfl) rfl
theorem q690 : (Jvm.Cond.methodLink "SelfSorting$Tokens" (111 : Nat) ({ cls := "SelfSorting$Tokens", name := "either", desc := "()LSelfSorting$Asked;" } : Jvm.MethodName)) ∈ lw_all := lw_g (lw_at lw_m3 59 rfl) rfl
theorem q691 : (Jvm.Cond.privateMethod ({ cls := "SelfSorting$Tokens", name := "either", desc := "()LSelfSorting$Asked;" } : Jvm.MethodName)) ∈ lw_tbl := lw_at lw_m3 60 rfl
theorem q692 : (Jvm.Cond.instanceMethod ({ cls := "SelfSorting$Tokens", name := "either", desc := "()LSelfSorting$Asked;" } : Jvm.MethodName)) ∈ lw_all := lw_g (lw_at lw_m3 61 rfl) rfl
theorem q693 : (Jvm.Cond.code ({ cls := "SelfSorting$Tokens", name := "either", desc := "()LSelfSorting$Asked;" } : Jvm.MethodName) prog_14_method_14_code (2 : Nat) (Option.some (Jvm.ClassFile.FieldType.object "SelfSorting$Asked"))) ∈ lw_all := lw_g (lw_at lw_m3 62 rfl) rfl
theorem q694 : (Jvm.Cond.classLink "SelfSorting$Tokens" (130 : Nat) "java/util/ArrayList") ∈ lw_all := lw_g (lw_at lw_m3 63 rfl) rfl
theorem q695 : (Jvm.Cond.methodLink "SelfSorting$Tokens" (143 : Nat) ({ cls := "java/util/ArrayList", name := "<init>", desc := "()V" } : Jvm.MethodName)) ∈ lw_all := lw_g (lw_at lw_m3 64 rfl) rfl
theorem q696 : (Jvm.Cond.methodLink "SelfSorting$Tokens" (144 : Nat) ({ cls := "SelfSorting$Tokens", name := "both", desc := "()LSelfSorting$Asked;" } : Jvm.MethodName)) ∈ lw_all := lw_g (lw_at lw_m3 65 rfl) rfl
theorem q697 : (Jvm.Cond.privateMethod ({ cls := "SelfSorting$Tokens", name := "both", desc := "()LSelfSorting$Asked;" } : Jvm.MethodName)) ∈ lw_tbl := lw_at lw_m3 66 rfl
theorem q698 : (Jvm.Cond.instanceMethod ({ cls := "SelfSorting$Tokens", name := "both", desc := "()LSelfSorting$Asked;" } : Jvm.MethodName)) ∈ lw_all := lw_g (lw_at lw_m3 67 rfl) rfl
theorem q699 : (Jvm.Cond.code ({ cls := "SelfSorting$Tokens", name := "both", desc := "()LSelfSorting$Asked;" } : Jvm.MethodName) prog_14_method_15_code (2 : Nat) (Option.some (Jvm.ClassFile.FieldType.object "SelfSorting$Asked"))) ∈ lw_all := lw_g (lw_at lw_m3 68 rfl) rfl
theorem q700 : (Jvm.Cond.methodLink "SelfSorting$Tokens" (160 : Nat) ({ cls := "SelfSorting$Tokens", name := "ask", desc := "()LSelfSorting$Asked;" } : Jvm.MethodName)) ∈ lw_all := lw_g (lw_at lw_m3 69 rfl) rfl
theorem q701 : (Jvm.Cond.privateMethod ({ cls := "SelfSorting$Tokens", name := "ask", desc := "()LSelfSorting$Asked;" } : Jvm.MethodName)) ∈ lw_tbl := lw_at lw_m3 70 rfl
theorem q702 : (Jvm.Cond.instanceMethod ({ cls := "SelfSorting$Tokens", name := "ask", desc := "()LSelfSorting$Asked;" } : Jvm.MethodName)) ∈ lw_all := lw_g (lw_at lw_m3 71 rfl) rfl
theorem q703 : (Jvm.Cond.code ({ cls := "SelfSorting$Tokens", name := "ask", desc := "()LSelfSorting$Asked;" } : Jvm.MethodName) prog_14_method_16_code (3 : Nat) (Option.some (Jvm.ClassFile.FieldType.object "SelfSorting$Asked"))) ∈ lw_all := lw_g (lw_at lw_m3 72 rfl) rfl
theorem q704 : (Jvm.Cond.methodLink "SelfSorting$Tokens" (163 : Nat) ({ cls := "SelfSorting$Tokens", name := "opens", desc := "()V" } : Jvm.MethodName)) ∈ lw_all := lw_g (lw_at lw_m3 73 rfl) rfl
theorem q705 : (Jvm.Cond.privateMethod ({ cls := "SelfSorting$Tokens", name := "opens", desc := "()V" } : Jvm.MethodName)) ∈ lw_tbl := lw_at lw_m3 74 rfl
theorem q706 : (Jvm.Cond.instanceMethod ({ cls := "SelfSorting$Tokens", name := "opens", desc := "()V" } : Jvm.MethodName)) ∈ lw_all := lw_g (lw_at lw_m3 75 rfl) rfl
theorem q707 : (Jvm.Cond.code ({ cls := "SelfSorting$Tokens", name := "opens", desc := "()V" } : Jvm.MethodName) prog_14_method_9_code (1 : Nat) (Option.none : Option Jvm.ClassFile.FieldType)) ∈ lw_all := lw_g (lw_at lw_m3 76 rfl) rfl
theorem q708 : (Jvm.Cond.classLink "SelfSorting$Tokens" (166 : Nat) "SelfSorting$Not") ∈ lw_all := lw_g (lw_at lw_m3 77 rfl) rfl
theorem q709 : (Jvm.Cond.instantiable "SelfSorting$Not" (1 : Nat)) ∈ lw_all := lw_g (lw_at lw_m3 78 rfl) rfl
theorem q710 : (Jvm.Cond.methodLinkNest "SelfSorting$Tokens" (168 : Nat) ({ cls := "SelfSorting$Not", name := "<init>", desc := "(LSelfSorting$Asked;)V" } : Jvm.MethodName) "SelfSorting") ∈ lw_tbl := lw_at lw_m3 79 rfl
theorem q711 : (Jvm.Cond.instanceMethod ({ cls := "SelfSorting$Not", name := "<init>", desc := "(LSelfSorting$Asked;)V" } : Jvm.MethodName)) ∈ lw_all := lw_g (lw_at lw_m3 80 rfl) rfl
theorem q712 : (Jvm.Cond.code ({ cls := "SelfSorting$Not", name := "<init>", desc := "(LSelfSorting$Asked;)V" } : Jvm.MethodName) prog_9_method_1_code (2 : Nat) (Option.none : Option Jvm.ClassFile.FieldType)) ∈ lw_all := lw_g (lw_at lw_m3 81 rfl) rfl
theorem q713 : (Jvm.Cond.methodLink "SelfSorting$Not" (1 : Nat) ({ cls := "java/lang/Record", name := "<init>", desc := "()V" } : Jvm.MethodName)) ∈ lw_all := lw_g (lw_at lw_m3 82 rfl) rfl
theorem q714 : (Jvm.Cond.instanceMethod ({ cls := "java/lang/Record", name := "<init>", desc := "()V" } : Jvm.MethodName)) ∈ lw_all := lw_g (lw_at lw_m3 83 rfl) rfl
theorem q715 : (Jvm.Cond.code ({ cls := "java/lang/Record", name := "<init>", desc := "()V" } : Jvm.MethodName) prog_28_method_1_code (1 : Nat) (Option.none : Option Jvm.ClassFile.FieldType)) ∈ lw_all := lw_g (lw_at lw_m3 84 rfl) rfl
theorem q716 : (Jvm.Cond.methodLink "java/lang/Record" (1 : Nat) ({ cls := "java/lang/Object", name := "<init>", desc := "()V" } : Jvm.MethodName)) ∈ lw_all := lw_g (lw_at lw_m3 85 rfl) rfl
theorem q717 : (Jvm.Cond.fieldLink "SelfSorting$Not" (7 : Nat) "SelfSorting$Not" "x" "LSelfSorting$Asked;") ∈ lw_all := lw_g (lw_at lw_m3 86 rfl) rfl
theorem q718 : (Jvm.Cond.laysFinal "SelfSorting$Not" "SelfSorting$Not" "x" "LSelfSorting$Asked;") ∈ lw_all := lw_g (lw_at lw_m3 87 rfl) rfl
theorem q719 : (Jvm.Cond.soleField "SelfSorting$Not" "x") ∈ lw_all := lw_g (lw_at lw_m3 88 rfl) rfl
theorem q720 : (Jvm.Cond.superclass "SelfSorting$Not" "java/lang/Record") ∈ lw_all := lw_g (lw_at lw_m3 89 rfl) rfl
theorem q721 : (Jvm.Cond.methodLink "SelfSorting$Tokens" (115 : Nat) ({ cls := "SelfSorting$Tokens", name := "sum", desc := "()LSelfSorting$Sum;" } : Jvm.MethodName)) ∈ lw_all := lw_g (lw_at lw_m3 90 rfl) rfl
theorem q722 : (Jvm.Cond.privateMethod ({ cls := "SelfSorting$Tokens", name := "sum", desc := "()LSelfSorting$Sum;" } : Jvm.MethodName)) ∈ lw_tbl := lw_at lw_m3 91 rfl
theorem q723 : (Jvm.Cond.instanceMethod ({ cls := "SelfSorting$Tokens", name := "sum", desc := "()LSelfSorting$Sum;" } : Jvm.MethodName)) ∈ lw_all := lw_g (lw_at lw_m3 92 rfl) rfl
theorem q724 : (Jvm.Cond.code ({ cls := "SelfSorting$Tokens", name := "sum", desc := "()LSelfSorting$Sum;" } : Jvm.MethodName) prog_14_method_17_code (3 : Nat) (Option.some (Jvm.ClassFile.FieldType.object "SelfSorting$Sum"))) ∈ lw_all := lw_g (lw_at lw_m3 93 rfl) rfl
theorem q725 : (Jvm.Cond.classLink "SelfSorting$Tokens" (176 : Nat) "SelfSorting$Chain") ∈ lw_all := lw_g (lw_at lw_m3 94 rfl) rfl
theorem q726 : (Jvm.Cond.instantiable "SelfSorting$Chain" (3 : Nat)) ∈ lw_all := lw_g (lw_at lw_m3 95 rfl) rfl
theorem q727 : (Jvm.Cond.methodLink "SelfSorting$Tokens" (178 : Nat) ({ cls := "SelfSorting$Tokens", name := "product", desc := "()LSelfSorting$Sum;" } : Jvm.MethodName)) ∈ lw_all := lw_g (lw_at lw_m3 96 rfl) rfl
theorem q728 : (Jvm.Cond.privateMethod ({ cls := "SelfSorting$Tokens", name := "product", desc := "()LSelfSorting$Sum;" } : Jvm.MethodName)) ∈ lw_tbl := lw_at lw_m3 97 rfl
theorem q729 : (Jvm.Cond.instanceMethod ({ cls := "SelfSorting$Tokens", name := "product", desc := "()LSelfSorting$Sum;" } : Jvm.MethodName)) ∈ lw_all := lw_g (lw_at lw_m3 98 rfl) rfl
theorem q730 : (Jvm.Cond.code ({ cls := "SelfSorting$Tokens", name := "product", desc := "()LSelfSorting$Sum;" } : Jvm.MethodName) prog_14_method_18_code (3 : Nat) (Option.some (Jvm.ClassFile.FieldType.object "SelfSorting$Sum"))) ∈ lw_all := lw_g (lw_at lw_m3 99 rfl) rfl
theorem q731 : (Jvm.Cond.methodLink "SelfSorting$Tokens" (190 : Nat) ({ cls := "SelfSorting$Tokens", name := "one", desc := "()LSelfSorting$Sum;" } : Jvm.MethodName)) ∈ lw_all := lw_g (lw_at lw_m3 100 rfl) rfl
theorem q732 : (Jvm.Cond.privateMethod ({ cls := "SelfSorting$Tokens", name := "one", desc := "()LSelfSorting$Sum;" } : Jvm.MethodName)) ∈ lw_tbl := lw_at lw_m3 101 rfl
theorem q733 : (Jvm.Cond.instanceMethod ({ cls := "SelfSorting$Tokens", name := "one", desc := "()LSelfSorting$Sum;" } : Jvm.MethodName)) ∈ lw_all := lw_g (lw_at lw_m3 102 rfl) rfl
theorem q734 : (Jvm.Cond.code ({ cls := "SelfSorting$Tokens", name := "one", desc := "()LSelfSorting$Sum;" } : Jvm.MethodName) prog_14_method_21_code (3 : Nat) (Option.some (Jvm.ClassFile.FieldType.object "SelfSorting$Sum"))) ∈ lw_all := lw_g (lw_at lw_m3 103 rfl) rfl
theorem q735 : (Jvm.Cond.classLink "SelfSorting$Tokens" (193 : Nat) "SelfSorting$Plain") ∈ lw_all := lw_g (lw_at lw_m3 104 rfl) rfl
theorem q736 : (Jvm.Cond.instantiable "SelfSorting$Plain" (1 : Nat)) ∈ lw_all := lw_g (lw_at lw_m3 105 rfl) rfl
theorem q737 : (Jvm.Cond.methodLinkNest "SelfSorting$Tokens" (195 : Nat) ({ cls := "SelfSorting$Plain", name := "<init>", desc := "(I)V" } : Jvm.MethodName) "SelfSorting") ∈ lw_tbl := lw_at lw_m3 106 rfl
theorem q738 : (Jvm.Cond.instanceMethod ({ cls := "SelfSorting$Plain", name := "<init>", desc := "(I)V" } : Jvm.MethodName)) ∈ lw_all := lw_g (lw_at lw_m3 107 rfl) rfl
theorem q739 : (Jvm.Cond.code ({ cls := "SelfSorting$Plain", name := "<init>", desc := "(I)V" } : Jvm.MethodName) prog_10_method_1_code (2 : Nat) (Option.none : Option Jvm.ClassFile.FieldType)) ∈ lw_all := lw_g (lw_at lw_m3 108 rfl) rfl
theorem q740 : (Jvm.Cond.methodLink "SelfSorting$Plain" (1 : Nat) ({ cls := "java/lang/Record", name := "<init>", desc := "()V" } : Jvm.MethodName)) ∈ lw_all := lw_g (lw_at lw_m3 109 rfl) rfl
theorem q741 : (Jvm.Cond.fieldLink "SelfSorting$Plain" (7 : Nat) "SelfSorting$Plain" "n" "I") ∈ lw_all := lw_g (lw_at lw_m3 110 rfl) rfl
theorem q742 : (Jvm.Cond.laysFinal "SelfSorting$Plain" "SelfSorting$Plain" "n" "I") ∈ lw_all := lw_g (lw_at lw_m3 111 rfl) rfl
theorem q743 : (Jvm.Cond.soleField "SelfSorting$Plain" "n") ∈ lw_all := lw_g (lw_at lw_m3 112 rfl) rfl
theorem q744 : (Jvm.Cond.superclass "SelfSorting$Plain" "java/lang/Record") ∈ lw_all := lw_g (lw_at lw_m3 113 rfl) rfl
theorem q745 : (Jvm.Cond.methodLink "SelfSorting$Tokens" (197 : Nat) ({ cls := "SelfSorting$Tokens", name := "nameNow", desc := "()I" } : Jvm.MethodName)) ∈ lw_all := lw_g (lw_at lw_m3 114 rfl) rfl
theorem q746 : (Jvm.Cond.privateMethod ({ cls := "SelfSorting$Tokens", name := "nameNow", desc := "()I" } : Jvm.MethodName)) ∈ lw_tbl := lw_at lw_m3 115 rfl
theorem q747 : (Jvm.Cond.instanceMethod ({ cls := "SelfSorting$Tokens", name := "nameNow", desc := "()I" } : Jvm.MethodName)) ∈ lw_all := lw_g (lw_at lw_m3 116 rfl) rfl
theorem q748 : (Jvm.Cond.code ({ cls := "SelfSorting$Tokens", name := "nameNow", desc := "()I" } : Jvm.MethodName) prog_14_method_19_code (1 : Nat) (Option.some Jvm.ClassFile.FieldType.int)) ∈ lw_all := lw_g (lw_at lw_m3 117 rfl) rfl
theorem q749 : (Jvm.Cond.methodLink "SelfSorting$Tokens" (200 : Nat) ({ cls := "SelfSorting$Tokens", name := "mayName", desc := "(I)Z" } : Jvm.MethodName)) ∈ lw_all := lw_g (lw_at lw_m3 118 rfl) rfl
theorem q750 : (Jvm.Cond.privateMethod ({ cls := "SelfSorting$Tokens", name := "mayName", desc := "(I)Z" } : Jvm.MethodName)) ∈ lw_tbl := lw_at lw_m3 119 rfl
theorem q751 : (Jvm.Cond.instanceMethod ({ cls := "SelfSorting$Tokens", name := "mayName", desc := "(I)Z" } : Jvm.MethodName)) ∈ lw_all := lw_g (lw_at lw_m3 120 rfl) rfl
theorem q752 : (Jvm.Cond.code ({ cls := "SelfSorting$Tokens", name := "mayName", desc := "(I)Z" } : Jvm.MethodName) prog_14_method_20_code (2 : Nat) (Option.some Jvm.ClassFile.FieldType.boolean)) ∈ lw_all := lw_g (lw_at lw_m3 121 rfl) rfl
theorem q753 : (Jvm.Cond.classLink "SelfSorting$Tokens" (203 : Nat) "SelfSorting$Name") ∈ lw_all := lw_g (lw_at lw_m3 122 rfl) rfl
theorem q754 : (Jvm.Cond.instantiable "SelfSorting$Name" (1 : Nat)) ∈ lw_all := lw_g (lw_at lw_m3 123 rfl) rfl
theorem q755 : (Jvm.Cond.methodLinkNest "SelfSorting$Tokens" (205 : Nat) ({ cls := "SelfSorting$Name", name := "<init>", desc := "(I)V" } : Jvm.MethodName) "SelfSorting") ∈ lw_tbl := lw_at lw_m3 124 rfl
theorem q756 : (Jvm.Cond.instanceMethod ({ cls := "SelfSorting$Name", name := "<init>", desc := "(I)V" } : Jvm.MethodName)) ∈ lw_all := lw_g (lw_at lw_m3 125 rfl) rfl
theorem q757 : (Jvm.Cond.code ({ cls := "SelfSorting$Name", name := "<init>", desc := "(I)V" } : Jvm.MethodName) prog_8_method_1_code (2 : Nat) (Option.none : Option Jvm.ClassFile.FieldType)) ∈ lw_all := lw_g (lw_at lw_m3 126 rfl) rfl
theorem q758 : (Jvm.Cond.methodLink "SelfSorting$Name" (1 : Nat) ({ cls := "java/lang/Record", name := "<init>", desc := "()V" } : Jvm.MethodName)) ∈ lw_all := lw_g (lw_at lw_m3 127 rfl) rfl
theorem q759 : (Jvm.Cond.fieldLink "SelfSorting$Name" (7 : Nat) "SelfSorting$Name" "which" "I") ∈ lw_all := lw_g (lw_at lw_m3 128 rfl) rfl
theorem q760 : (Jvm.Cond.laysFinal "SelfSorting$Name" "SelfSorting$Name" "which" "I") ∈ lw_all := lw_g (lw_at lw_m3 129 rfl) rfl
theorem q761 : (Jvm.Cond.soleField "SelfSorting$Name" "which") ∈ lw_all := lw_g (lw_at lw_m3 130 rfl) rfl
theorem q762 : (Jvm.Cond.superclass "SelfSorting$Name" "java/lang/Record") ∈ lw_all := lw_g (lw_at lw_m3 131 rfl) rfl
theorem q763 : (Jvm.Cond.methodLink "SelfSorting$Tokens" (104 : Nat) ({ cls := "SelfSorting$Tokens", name := "want", desc := "(I)V" } : Jvm.MethodName)) ∈ lw_all := lw_g (lw_at lw_m3 132 rfl) rfl
theorem q764 : (Jvm.Cond.privateMethod ({ cls := "SelfSorting$Tokens", name := "want", desc := "(I)V" } : Jvm.MethodName)) ∈ lw_tbl := lw_at lw_m3 133 rfl
theorem q765 : (Jvm.Cond.instanceMethod ({ cls := "SelfSorting$Tokens", name := "want", desc := "(I)V" } : Jvm.MethodName)) ∈ lw_all := lw_g (lw_at lw_m3 134 rfl) rfl
theorem q766 : (Jvm.Cond.code ({ cls := "SelfSorting$Tokens", name := "want", desc := "(I)V" } : Jvm.MethodName) prog_14_method_7_code (2 : Nat) (Option.none : Option Jvm.ClassFile.FieldType)) ∈ lw_all := lw_g (lw_at lw_m3 135 rfl) rfl
theorem q767 : (Jvm.Cond.classLink "SelfSorting$Tokens" (206 : Nat) "SelfSorting$Minus") ∈ lw_all := lw_g (lw_at lw_m3 136 rfl) rfl
theorem q768 : (Jvm.Cond.instantiable "SelfSorting$Minus" (1 : Nat)) ∈ lw_all := lw_g (lw_at lw_m3 137 rfl) rfl
theorem q769 : (Jvm.Cond.methodLinkNest "SelfSorting$Tokens" (208 : Nat) ({ cls := "SelfSorting$Minus", name := "<init>", desc := "(LSelfSorting$Sum;)V" } : Jvm.MethodName) "SelfSorting") ∈ lw_tbl := lw_at lw_m3 138 rfl
theorem q770 : (Jvm.Cond.instanceMethod ({ cls := "SelfSorting$Minus", name := "<init>", desc := "(LSelfSorting$Sum;)V" } : Jvm.MethodName)) ∈ lw_all := lw_g (lw_at lw_m3 139 rfl) rfl
theorem q771 : (Jvm.Cond.code ({ cls := "SelfSorting$Minus", name := "<init>", desc := "(LSelfSorting$Sum;)V" } : Jvm.MethodName) prog_7_method_1_code (2 : Nat) (Option.none : Option Jvm.ClassFile.FieldType)) ∈ lw_all := lw_g (lw_at lw_m3 140 rfl) rfl
theorem q772 : (Jvm.Cond.methodLink "SelfSorting$Minus" (1 : Nat) ({ cls := "java/lang/Record", name := "<init>", desc := "()V" } : Jvm.MethodName)) ∈ lw_all := lw_g (lw_at lw_m3 141 rfl) rfl
theorem q773 : (Jvm.Cond.fieldLink "SelfSorting$Minus" (7 : Nat) "SelfSorting$Minus" "x" "LSelfSorting$Sum;") ∈ lw_all := lw_g (lw_at lw_m3 142 rfl) rfl
theorem q774 : (Jvm.Cond.laysFinal "SelfSorting$Minus" "SelfSorting$Minus" "x" "LSelfSorting$Sum;") ∈ lw_all := lw_g (lw_at lw_m3 143 rfl) rfl
theorem q775 : (Jvm.Cond.soleField "SelfSorting$Minus" "x") ∈ lw_all := lw_g (lw_at lw_m3 144 rfl) rfl
theorem q776 : (Jvm.Cond.superclass "SelfSorting$Minus" "java/lang/Record") ∈ lw_all := lw_g (lw_at lw_m3 145 rfl) rfl
theorem q777 : (Jvm.Cond.methodLink "SelfSorting$Tokens" (181 : Nat) ({ cls := "SelfSorting$Chain", name := "<init>", desc := "(LSelfSorting$Sum;)V" } : Jvm.MethodName)) ∈ lw_all := lw_g (lw_at lw_m3 146 rfl) rfl
theorem q778 : (Jvm.Cond.instanceMethod ({ cls := "SelfSorting$Chain", name := "<init>", desc := "(LSelfSorting$Sum;)V" } : Jvm.MethodName)) ∈ lw_all := lw_g (lw_at lw_m3 147 rfl) rfl
theorem q779 : (Jvm.Cond.code ({ cls := "SelfSorting$Chain", name := "<init>", desc := "(LSelfSorting$Sum;)V" } : Jvm.MethodName) prog_4_method_1_code (2 : Nat) (Option.none : Option Jvm.ClassFile.FieldType)) ∈ lw_all := lw_g (lw_at lw_m3 148 rfl) rfl
theorem q780 : (Jvm.Cond.methodLink "SelfSorting$Chain" (3 : Nat) ({ cls := "java/lang/Object", name := "<init>", desc := "()V" } : Jvm.MethodName)) ∈ lw_all := lw_g (lw_at lw_m3 149 rfl) rfl
theorem q781 : (Jvm.Cond.classLink "SelfSorting$Chain" (9 : Nat) "java/util/ArrayList") ∈ lw_all := lw_g (lw_at lw_m3 150 rfl) rfl
theorem q782 : (Jvm.Cond.methodLink "SelfSorting$Chain" (11 : Nat) ({ cls := "java/util/ArrayList", name := "<init>", desc := "()V" } : Jvm.MethodName)) ∈ lw_all := lw_g (lw_at lw_m3 151 rfl) rfl
theorem q783 : (Jvm.Cond.fieldLink "SelfSorting$Chain" (21 : Nat) "SelfSorting$Chain" "first" "LSelfSorting$Sum;") ∈ lw_all := lw_g (lw_at lw_m3 152 rfl) rfl
theorem q784 : (Jvm.Cond.fieldLink "SelfSorting$Chain" (12 : Nat) "SelfSorting$Chain" "more" "Ljava/util/ArrayList;") ∈ lw_all := lw_g (lw_at lw_m3 153 rfl) rfl
theorem q785 : (Jvm.Cond.fieldLink "SelfSorting$Chain" (18 : Nat) "SelfSorting$Chain" "signs" "Ljava/util/ArrayList;") ∈ lw_all := lw_g (lw_at lw_m3 154 rfl) rfl
theorem q786 : (Jvm.Cond.laysFinal "SelfSorting$Chain" "SelfSorting$Chain" "first" "LSelfSorting$Sum;") ∈ lw_all := lw_g (lw_at lw_m3 155 rfl) rfl
theorem q787 : (Jvm.Cond.soleField "SelfSorting$Chain" "first") ∈ lw_all := lw_g (lw_at lw_m3 156 rfl) rfl
theorem q788 : (Jvm.Cond.laysFinal "SelfSorting$Chain" "SelfSorting$Chain" "more" "Ljava/util/ArrayList;") ∈ lw_all := lw_g (lw_at lw_m3 157 rfl) rfl
theorem q789 : (Jvm.Cond.soleField "SelfSorting$Chain" "more") ∈ lw_all := lw_g (lw_at lw_m3 158 rfl) rfl
theorem q790 : (Jvm.Cond.laysFinal "SelfSorting$Chain" "SelfSorting$Chain" "signs" "Ljava/util/ArrayList;") ∈ lw_all := lw_g (lw_at lw_m3 159 rfl) rfl
theorem q791 : (Jvm.Cond.soleField "SelfSorting$Chain" "signs") ∈ lw_all := lw_g (lw_at lw_m3 160 rfl) rfl
theorem q792 : (Jvm.Cond.superclass "SelfSorting$Chain" "java/lang/Object") ∈ lw_all := lw_g (lw_at lw_m3 161 rfl) rfl
theorem q793 : (Jvm.Cond.methodLink "SelfSorting$Tokens" (184 : Nat) ({ cls := "SelfSorting$Chain", name := "add", desc := "(ILSelfSorting$Sum;)V" } : Jvm.MethodName)) ∈ lw_all := lw_g (lw_at lw_m3 162 rfl) rfl
theorem q794 : (Jvm.Cond.instanceMethod ({ cls := "SelfSorting$Chain", name := "add", desc := "(ILSelfSorting$Sum;)V" } : Jvm.MethodName)) ∈ lw_all := lw_g (lw_at lw_m3 163 rfl) rfl
theorem q795 : (Jvm.Cond.selects "SelfSorting$Chain" ({ cls := "SelfSorting$Chain", name := "add", desc := "(ILSelfSorting$Sum;)V" } : Jvm.MethodName) ({ cls := "SelfSorting$Chain", name := "add", desc := "(ILSelfSorting$Sum;)V" } : Jvm.MethodName)) ∈ lw_all := lw_g (lw_at lw_m3 164 rfl) rfl
theorem q796 : (Jvm.Cond.code ({ cls := "SelfSorting$Chain", name := "add", desc := "(ILSelfSorting$Sum;)V" } : Jvm.MethodName) prog_4_method_2_code (3 : Nat) (Option.none : Option Jvm.ClassFile.FieldType)) ∈ lw_all := lw_g (lw_at lw_m3 165 rfl) rfl
theorem q797 : (Jvm.Cond.methodLink "SelfSorting$Chain" (25 : Nat) ({ cls := "java/lang/Integer", name := "valueOf", desc := "(I)Ljava/lang/Integer;" } : Jvm.MethodName)) ∈ lw_all := lw_g (lw_at lw_m3 166 rfl) rfl
theorem q798 : (Jvm.Cond.static ({ cls := "java/lang/Integer", name := "valueOf", desc := "(I)Ljava/lang/Integer;" } : Jvm.MethodName)) ∈ lw_all := lw_g (lw_at lw_m3 167 rfl) rfl
theorem q799 : (Jvm.Cond.code ({ cls := "java/lang/Integer", name := "valueOf", desc := "(I)Ljava/lang/Integer;" } : Jvm.MethodName) prog_23_method_22_code (1 : Nat) (Option.some (Jvm.ClassFile.FieldType.object "java/lang/Integer"))) ∈ lw_all := lw_g (lw_at lw_m3 168 rfl) rfl
theorem q800 : (Jvm.Cond.fieldLink "java/lang/Integer" (191 : Nat) "java/lang/Integer$IntegerCache" "high" "I") ∈ lw_all := lw_g (lw_at lw_m3 169 rfl) rfl
theorem q801 : (Jvm.Cond.laysStatic "java/lang/Integer$IntegerCache" "high" "I") ∈ lw_tbl := lw_at lw_m3 170 rfl
theorem q802 : (Jvm.Cond.fieldLink "java/lang/Integer" (195 : Nat) "java/lang/Integer$IntegerCache" "cache" "[Ljava/lang/Integer;") ∈ lw_all := lw_g (lw_at lw_m3 171 rfl) rfl
theorem q803 : (Jvm.Cond.laysStatic "java/lang/Integer$IntegerCache" "cache" "[Ljava/lang/Integer;") ∈ lw_tbl := lw_at lw_m3 172 rfl
theorem q804 : (Jvm.Cond.classLink "java/lang/Integer" (1 : Nat) "java/lang/Integer") ∈ lw_all := lw_g (lw_at lw_m3 173 rfl) rfl
theorem q805 : (Jvm.Cond.instantiable "java/lang/Integer" (1 : Nat)) ∈ lw_all := lw_g (lw_at lw_m3 174 rfl) rfl
theorem q806 : (Jvm.Cond.methodLink "java/lang/Integer" (199 : Nat) ({ cls := "java/lang/Integer", name := "<init>", desc := "(I)V" } : Jvm.MethodName)) ∈ lw_all := lw_g (lw_at lw_m3 175 rfl) rfl
theorem q807 : (Jvm.Cond.instanceMethod ({ cls := "java/lang/Integer", name := "<init>", desc := "(I)V" } : Jvm.MethodName)) ∈ lw_all := lw_g (lw_at lw_m3 176 rfl) rfl
theorem q808 : (Jvm.Cond.code ({ cls := "java/lang/Integer", name := "<init>", desc := "(I)V" } : Jvm.MethodName) prog_23_method_23_code (2 : Nat) (Option.none : Option Jvm.ClassFile.FieldType)) ∈ lw_all := lw_g (lw_at lw_m3 177 rfl) rfl
theorem q809 : (Jvm.Cond.methodLink "java/lang/Integer" (202 : Nat) ({ cls := "java/lang/Number", name := "<init>", desc := "()V" } : Jvm.MethodName)) ∈ lw_all := lw_g (lw_at lw_m3 178 rfl) rfl
theorem q810 : (Jvm.Cond.instanceMethod ({ cls := "java/lang/Number", name := "<init>", desc := "()V" } : Jvm.MethodName)) ∈ lw_all := lw_g (lw_at lw_m3 179 rfl) rfl
theorem q811 : (Jvm.Cond.code ({ cls := "java/lang/Number", name := "<init>", desc := "()V" } : Jvm.MethodName) prog_27_method_1_code (1 : Nat) (Option.none : Option Jvm.ClassFile.FieldType)) ∈ lw_all := lw_g (lw_at lw_m3 180 rfl) rfl
theorem q812 : (Jvm.Cond.methodLink "java/lang/Number" (1 : Nat) ({ cls := "java/lang/Object", name := "<init>", desc := "()V" } : Jvm.MethodName)) ∈ lw_all := lw_g (lw_at lw_m3 181 rfl) rfl
theorem q813 : (Jvm.Cond.fieldLink "java/lang/Integer" (205 : Nat) "java/lang/Integer" "value" "I") ∈ lw_all := lw_g (lw_at lw_m3 182 rfl) rfl
theorem q814 : (Jvm.Cond.laysFinal "java/lang/Integer" "java/lang/Integer" "value" "I") ∈ lw_all := lw_g (lw_at lw_m3 183 rfl) rfl
theorem q815 : (Jvm.Cond.soleField "java/lang/Integer" "value") ∈ lw_all := lw_g (lw_at lw_m3 184 rfl) rfl
theorem q816 : (Jvm.Cond.superclass "java/lang/Integer" "java/lang/Number") ∈ lw_all := lw_g (lw_at lw_m3 185 rfl) rfl
theorem q817 : (Jvm.Cond.methodLink "SelfSorting$Chain" (31 : Nat) ({ cls := "java/util/ArrayList", name := "add", desc := "(Ljava/lang/Object;)Z" } : Jvm.MethodName)) ∈ lw_all := lw_g (lw_at lw_m3 186 rfl) rfl
theorem q818 : (Jvm.Cond.instanceMethod ({ cls := "java/util/ArrayList", name := "add", desc := "(Ljava/lang/Object;)Z" } : Jvm.MethodName)) ∈ lw_all := lw_g (lw_at lw_m3 187 rfl) rfl
theorem q819 : (Jvm.Cond.selects "java/util/ArrayList" ({ cls := "java/util/ArrayList", name := "add", desc := "(Ljava/lang/Object;)Z" } : Jvm.MethodName) ({ cls := "java/util/ArrayList", name := "add", desc := "(Ljava/lang/Object;)Z" } : Jvm.MethodName)) ∈ lw_all := lw_g (lw_at lw_m3 188 rfl) rfl
theorem q820 : (Jvm.Cond.code ({ cls := "java/util/ArrayList", name := "add", desc := "(Ljava/lang/Object;)Z" } : Jvm.MethodName) prog_38_method_25_code (2 : Nat) (Option.some Jvm.ClassFile.FieldType.boolean)) ∈ lw_all := lw_g (lw_at lw_m3 189 rfl) rfl
theorem q821 : (Jvm.Cond.methodLink "java/util/ArrayList" (131 : Nat) ({ cls := "java/util/ArrayList", name := "add", desc := "(Ljava/lang/Object;[Ljava/lang/Object;I)V" } : Jvm.MethodName)) ∈ lw_all := lw_g (lw_at lw_m3 190 rfl) rfl
theorem q822 : (Jvm.Cond.privateMethod ({ cls := "java/util/ArrayList", name := "add", desc := "(Ljava/lang/Object;[Ljava/lang/Object;I)V" } : Jvm.MethodName)) ∈ lw_tbl := lw_at lw_m3 191 rfl
theorem q823 : (Jvm.Cond.instanceMethod ({ cls := "java/util/ArrayList", name := "add", desc := "(Ljava/lang/Object;[Ljava/lang/Object;I)V" } : Jvm.MethodName)) ∈ lw_all := lw_g (lw_at lw_m3 192 rfl) rfl
theorem q824 : (Jvm.Cond.code ({ cls := "java/util/ArrayList", name := "add", desc := "(Ljava/lang/Object;[Ljava/lang/Object;I)V" } : Jvm.MethodName) prog_38_method_24_code (4 : Nat) (Option.none : Option Jvm.ClassFile.FieldType)) ∈ lw_all := lw_g (lw_at lw_m3 193 rfl) rfl
theorem q825 : (Jvm.Cond.methodLink "java/util/ArrayList" (129 : Nat) ({ cls := "java/util/ArrayList", name := "grow", desc := "()[Ljava/lang/Object;" } : Jvm.MethodName)) ∈ lw_all := lw_g (lw_at lw_m3 194 rfl) rfl
theorem q826 : (Jvm.Cond.privateMethod ({ cls := "java/util/ArrayList", name := "grow", desc := "()[Ljava/lang/Object;" } : Jvm.MethodName)) ∈ lw_tbl := lw_at lw_m3 195 rfl
theorem q827 : (Jvm.Cond.instanceMethod ({ cls := "java/util/ArrayList", name := "grow", desc := "()[Ljava/lang/Object;" } : Jvm.MethodName)) ∈ lw_all := lw_g (lw_at lw_m3 196 rfl) rfl
theorem q828 : (Jvm.Cond.code ({ cls := "java/util/ArrayList", name := "grow", desc := "()[Ljava/lang/Object;" } : Jvm.MethodName) prog_38_method_7_code (1 : Nat) (Option.some (Jvm.ClassFile.FieldType.array (Jvm.ClassFile.FieldType.object "java/lang/Object")))) ∈ lw_all := lw_g (lw_at lw_m3 197 rfl) rfl
theorem q829 : (Jvm.Cond.methodLink "java/util/ArrayList" (69 : Nat) ({ cls := "java/util/ArrayList", name := "grow", desc := "(I)[Ljava/lang/Object;" } : Jvm.MethodName)) ∈ lw_all := lw_g (lw_at lw_m3 198 rfl) rfl
theorem q830 : (Jvm.Cond.privateMethod ({ cls := "java/util/ArrayList", name := "grow", desc := "(I)[Ljava/lang/Object;" } : Jvm.MethodName)) ∈ lw_tbl := lw_at lw_m3 199 rfl
theorem q831 : (Jvm.Cond.instanceMethod ({ cls := "java/util/ArrayList", name := "grow", desc := "(I)[Ljava/lang/Object;" } : Jvm.MethodName)) ∈ lw_all := lw_g (lw_at lw_m3 200 rfl) rfl
theorem q832 : (Jvm.Cond.code ({ cls := "java/util/ArrayList", name := "grow", desc := "(I)[Ljava/lang/Object;" } : Jvm.MethodName) prog_38_method_6_code (4 : Nat) (Option.some (Jvm.ClassFile.FieldType.array (Jvm.ClassFile.FieldType.object "java/lang/Object")))) ∈ lw_all := lw_g (lw_at lw_m3 201 rfl) rfl
theorem q833 : (Jvm.Cond.methodLink "java/util/ArrayList" (73 : Nat) ({ cls := "jdk/internal/util/ArraysSupport", name := "newLength", desc := "(III)I" } : Jvm.MethodName)) ∈ lw_all := lw_g (lw_at lw_m3 202 rfl) rfl
theorem q834 : (Jvm.Cond.static ({ cls := "jdk/internal/util/ArraysSupport", name := "newLength", desc := "(III)I" } : Jvm.MethodName)) ∈ lw_all := lw_g (lw_at lw_m3 203 rfl) rfl
theorem q835 : (Jvm.Cond.code ({ cls := "jdk/internal/util/ArraysSupport", name := "newLength", desc := "(III)I" } : Jvm.MethodName) prog_45_method_27_code (4 : Nat) (Option.some Jvm.ClassFile.FieldType.int)) ∈ lw_all := lw_g (lw_at lw_m3 204 rfl) rfl
theorem q836 : (Jvm.Cond.methodLink "jdk/internal/util/ArraysSupport" (194 : Nat) ({ cls := "java/lang/Math", name := "max", desc := "(II)I" } : Jvm.MethodName)) ∈ lw_all := lw_g (lw_at lw_m3 205 rfl) rfl
theorem q837 : (Jvm.Cond.static ({ cls := "java/lang/Math", name := "max", desc := "(II)I" } : Jvm.MethodName)) ∈ lw_all := lw_g (lw_at lw_m3 206 rfl) rfl
theorem q838 : (Jvm.Cond.code ({ cls := "java/lang/Math", name := "max", desc := "(II)I" } : Jvm.MethodName) prog_26_method_65_code (2 : Nat) (Option.some Jvm.ClassFile.FieldType.int)) ∈ lw_all := lw_g (lw_at lw_m3 207 rfl) rfl
theorem q839 : (Jvm.Cond.constant "jdk/internal/util/ArraysSupport" (200 : Nat) (2147483639 : Int32)) ∈ lw_all := lw_g (lw_at lw_m3 208 rfl) rfl
theorem q840 : (Jvm.Cond.methodLink "jdk/internal/util/ArraysSupport" (201 : Nat) ({ cls := "jdk/internal/util/ArraysSupport", name := "hugeLength", desc := "(II)I" } : Jvm.MethodName)) ∈ lw_all := lw_g (lw_at lw_m3 209 rfl) rfl
theorem q841 : (Jvm.Cond.static ({ cls := "jdk/internal/util/ArraysSupport", name := "hugeLength", desc := "(II)I" } : Jvm.MethodName)) ∈ lw_all := lw_g (lw_at lw_m3 210 rfl) rfl
theorem q842 : (Jvm.Cond.code ({ cls := "jdk/internal/util/ArraysSupport", name := "hugeLength", desc := "(II)I" } : Jvm.MethodName) prog_45_method_28_code (3 : Nat) (Option.some Jvm.ClassFile.FieldType.int)) ∈ lw_all := lw_g (lw_at lw_m3 211 rfl) rfl
theorem q843 : (Jvm.Cond.methodLink "java/util/ArrayList" (66 : Nat) ({ cls := "java/util/Arrays", name := "copyOf", desc := "([Ljava/lang/Object;I)[Ljava/lang/Object;" } : Jvm.MethodName)) ∈ lw_all := lw_g (lw_at lw_m3 212 rfl) rfl
theorem q844 : (Jvm.Cond.static ({ cls := "java/util/Arrays", name := "copyOf", desc := "([Ljava/lang/Object;I)[Ljava/lang/Object;" } : Jvm.MethodName)) ∈ lw_all := lw_g (lw_at lw_m3 213 rfl) rfl
theorem q845 : (Jvm.Cond.code ({ cls := "java/util/Arrays", name := "copyOf", desc := "([Ljava/lang/Object;I)[Ljava/lang/Object;" } : Jvm.MethodName) prog_39_method_119_code (2 : Nat) (Option.some (Jvm.ClassFile.FieldType.array (Jvm.ClassFile.FieldType.object "java/lang/Object")))) ∈ lw_all := lw_g (lw_at lw_m3 214 rfl) rfl
theorem q846 : (Jvm.Cond.methodLink "java/util/Arrays" (86 : Nat) ({ cls := "java/lang/Object", name := "getClass", desc := "()Ljava/lang/Class;" } : Jvm.MethodName)) ∈ lw_all := lw_g (lw_at lw_m3 215 rfl) rfl
theorem q847 : (Jvm.Cond.instanceMethod ({ cls := "java/lang/Object", name := "getClass", desc := "()Ljava/lang/Class;" } : Jvm.MethodName)) ∈ lw_all := lw_g (lw_at lw_m3 216 rfl) rfl
theorem q848 : (Jvm.Cond.sameMethod "java/lang/Object" "java/lang/Object" "getClass" "()Ljava/lang/Class;") ∈ lw_all := lw_g (lw_at lw_m3 217 rfl) rfl
theorem q849 : (Jvm.Cond.selects "SelfSorting" ({ cls := "java/lang/Object", name := "getClass", desc := "()Ljava/lang/Class;" } : Jvm.MethodName) ({ cls := "java/lang/Object", name := "getClass", desc := "()Ljava/lang/Class;" } : Jvm.MethodName)) ∈ lw_all := lw_g (lw_at lw_m3 218 rfl) rfl
theorem q850 : (Jvm.Cond.selects "SelfSorting$All" ({ cls := "java/lang/Object", name := "getClass", desc := "()Ljava/lang/Class;" } : Jvm.MethodName) ({ cls := "java/lang/Object", name := "getClass", desc := "()Ljava/lang/Class;" } : Jvm.MethodName)) ∈ lw_all := lw_g (lw_at lw_m3 219 rfl) rfl
theorem q851 : (Jvm.Cond.selects "SelfSorting$Chain" ({ cls := "java/lang/Object", name := "getClass", desc := "()Ljava/lang/Class;" } : Jvm.MethodName) ({ cls := "java/lang/Object", name := "getClass", desc := "()Ljava/lang/Class;" } : Jvm.MethodName)) ∈ lw_all := lw_g (lw_at lw_m3 220 rfl) rfl
theorem q852 : (Jvm.Cond.selects "SelfSorting$Compared" ({ cls := "java/lang/Object", name := "getClass", desc := "()Ljava/lang/Class;" } : Jvm.MethodName) ({ cls := "java/lang/Object", name := "getClass", desc := "()Ljava/lang/Class;" } : Jvm.MethodName)) ∈ lw_all := lw_g (lw_at lw_m3 221 rfl) rfl
theorem q853 : (Jvm.Cond.selects "SelfSorting$Doing" ({ cls := "java/lang/Object", name := "getClass", desc := "()Ljava/lang/Class;" } : Jvm.MethodName) ({ cls := "java/lang/Object", name := "getClass", desc := "()Ljava/lang/Class;" } : Jvm.MethodName)) ∈ lw_all := lw_g (lw_at lw_m3 222 rfl) rfl
theorem q854 : (Jvm.Cond.selects "SelfSorting$Minus" ({ cls := "java/lang/Object", name := "getClass", desc := "()Ljava/lang/Class;" } : Jvm.MethodName) ({ cls := "java/lang/Object", name := "getClass", desc := "()Ljava/lang/Class;" } : Jvm.MethodName)) ∈ lw_all := lw_g (lw_at lw_m3 223 rfl) rfl
theorem q855 : (Jvm.Cond.selects "SelfSorting$Name" ({ cls := "java/lang/Object", name := "getClass", desc := "()Ljava/lang/Class;" } : Jvm.MethodName) ({ cls := "java/lang/Object", name := "getClass", desc := "()Ljava/lang/Class;" } : Jvm.MethodName)) ∈ lw_all := lw_g (lw_at lw_m3 224 rfl) rfl
theorem q856 : (Jvm.Cond.selects "SelfSorting$Not" ({ cls := "java/lang/Object", name := "getClass", desc := "()Ljava/lang/Class;" } : Jvm.MethodName) ({ cls := "java/lang/Object", name := "getClass", desc := "()Ljava/lang/Class;" } : Jvm.MethodName)) ∈ lw_all := lw_g (lw_at lw_m3 225 rfl) rfl
theorem q857 : (Jvm.Cond.selects "SelfSorting$Plain" ({ cls := "java/lang/Object", name := "getClass", desc := "()Ljava/lang/Class;" } : Jvm.MethodName) ({ cls := "java/lang/Object", name := "getClass", desc := "()Ljava/lang/Class;" } : Jvm.MethodName)) ∈ lw_all := lw_g (lw_at lw_m3 226 rfl) rfl
theorem q858 : (Jvm.Cond.selects "SelfSorting$State" ({ cls := "java/lang/Object", name := "getClass", desc := "()Ljava/lang/Class;" } : Jvm.MethodName) ({ cls := "java/lang/Object", name := "getClass", desc := "()Ljava/lang/Class;" } : Jvm.MethodName)) ∈ lw_all := lw_g (lw_at lw_m3 227 rfl) rfl
theorem q859 : (Jvm.Cond.selects "SelfSorting$Text" ({ cls := "java/lang/Object", name := "getClass", desc := "()Ljava/lang/Class;" } : Jvm.MethodName) ({ cls := "java/lang/Object", name := "getClass", desc := "()Ljava/lang/Class;" } : Jvm.MethodName)) ∈ lw_all := lw_g (lw_at lw_m3 228 rfl) rfl
theorem q860 : (Jvm.Cond.selects "SelfSorting$Tokens" ({ cls := "java/lang/Object", name := "getClass", desc := "()Ljava/lang/Class;" } : Jvm.MethodName) ({ cls := "java/lang/Object", name := "getClass", desc := "()Ljava/lang/Class;" } : Jvm.MethodName)) ∈ lw_all := lw_g (lw_at lw_m3 229 rfl) rfl
theorem q861 : (Jvm.Cond.selects "SelfSorting$Wrong" ({ cls := "java/lang/Object", name := "getClass", desc := "()Ljava/lang/Class;" } : Jvm.MethodName) ({ cls := "java/lang/Object", name := "getClass", desc := "()Ljava/lang/Class;" } : Jvm.MethodName)) ∈ lw_all := lw_g (lw_at lw_m3 230 rfl) rfl
theorem q862 : (Jvm.Cond.selects "SelfSortingModel" ({ cls := "java/lang/Object", name := "getClass", desc := "()Ljava/lang/Class;" } : Jvm.MethodName) ({ cls := "java/lang/Object", name := "getClass", desc := "()Ljava/lang/Class;" } : Jvm.MethodName)) ∈ lw_all := lw_g (lw_at lw_m3 231 rfl) rfl
theorem q863 : (Jvm.Cond.selects "java/lang/Integer" ({ cls := "java/lang/Object", name := "getClass", desc := "()Ljava/lang/Class;" } : Jvm.MethodName) ({ cls := "java/lang/Object", name := "getClass", desc := "()Ljava/lang/Class;" } : Jvm.MethodName)) ∈ lw_all := lw_g (lw_at lw_m3 232 rfl) rfl
theorem q864 : (Jvm.Cond.selects "java/util/ArrayList" ({ cls := "java/lang/Object", name := "getClass", desc := "()Ljava/lang/Class;" } : Jvm.MethodName) ({ cls := "java/lang/Object", name := "getClass", desc := "()Ljava/lang/Class;" } : Jvm.MethodName)) ∈ lw_all := lw_g (lw_at lw_m3 233 rfl) rfl
theorem q865 : (Jvm.Cond.native ({ cls := "java/lang/Object", name := "getClass", desc := "()Ljava/lang/Class;" } : Jvm.MethodName)) ∈ lw_all := lw_g (lw_at lw_m3 234 rfl) rfl
theorem q866 : (Jvm.Cond.methodLink "java/util/Arrays" (300 : Nat) ({ cls := "java/util/Arrays", name := "copyOf", desc := "([Ljava/lang/Object;ILjava/lang/Class;)[Ljava/lang/Object;" } : Jvm.MethodName)) ∈ lw_all := lw_g (lw_at lw_m3 235 rfl) rfl
theorem q867 : (Jvm.Cond.static ({ cls := "java/util/Arrays", name := "copyOf", desc := "([Ljava/lang/Object;ILjava/lang/Class;)[Ljava/lang/Object;" } : Jvm.MethodName)) ∈ lw_all := lw_g (lw_at lw_m3 236 rfl) rfl
theorem q868 : (Jvm.Cond.code ({ cls := "java/util/Arrays", name := "copyOf", desc := "([Ljava/lang/Object;ILjava/lang/Class;)[Ljava/lang/Object;" } : Jvm.MethodName) prog_39_method_120_code (4 : Nat) (Option.some (Jvm.ClassFile.FieldType.array (Jvm.ClassFile.FieldType.object "java/lang/Object")))) ∈ lw_all := lw_g (lw_at lw_m3 237 rfl) rfl
theorem q869 : (Jvm.Cond.classLink "java/util/Arrays" (110 : Nat) "[Ljava/lang/Object;") ∈ lw_all := lw_g (lw_at lw_m3 238 rfl) rfl
theorem q870 : (Jvm.Cond.arrayOver (Jvm.ClassFile.FieldType.object "java/lang/Object")) ∈ lw_tbl := lw_at lw_m3 239 rfl
theorem q871 : (Jvm.Cond.classLink "java/util/Arrays" (2 : Nat) "java/lang/Object") ∈ lw_all := lw_g (lw_at lw_m4 0 rfl) rfl
theorem q872 : (Jvm.Cond.methodLink "java/util/Arrays" (304 : Nat) ({ cls := "java/lang/Math", name := "min", desc := "(II)I" } : Jvm.MethodName)) ∈ lw_all := lw_g (lw_at lw_m4 1 rfl) rfl
theorem q873 : (Jvm.Cond.methodLink "java/util/Arrays" (150 : Nat) ({ cls := "java/lang/System", name := "arraycopy", desc := "(Ljava/lang/Object;ILjava/lang/Object;II)V" } : Jvm.MethodName)) ∈ lw_all := lw_g (lw_at lw_m4 2 rfl) rfl
theorem q874 : (Jvm.Cond.methodLink "java/util/ArrayList" (79 : Nat) ({ cls := "java/lang/Math", name := "max", desc := "(II)I" } : Jvm.MethodName)) ∈ lw_all := lw_g (lw_at lw_m4 3 rfl) rfl
theorem q875 : (Jvm.Cond.classLink "java/util/ArrayList" (7 : Nat) "java/lang/Object") ∈ lw_all := lw_g (lw_at lw_m4 4 rfl) rfl
theorem q876 : (Jvm.Cond.methodLink "SelfSorting$Tokens" (187 : Nat) ({ cls := "SelfSorting$Chain", name := "itself", desc := "()LSelfSorting$Sum;" } : Jvm.MethodName)) ∈ lw_all := lw_g (lw_at lw_m4 5 rfl) rfl
theorem q877 : (Jvm.Cond.instanceMethod ({ cls := "SelfSorting$Chain", name := "itself", desc := "()LSelfSorting$Sum;" } : Jvm.MethodName)) ∈ lw_all := lw_g (lw_at lw_m4 6 rfl) rfl
theorem q878 : (Jvm.Cond.selects "SelfSorting$Chain" ({ cls := "SelfSorting$Chain", name := "itself", desc := "()LSelfSorting$Sum;" } : Jvm.MethodName) ({ cls := "SelfSorting$Chain", name := "itself", desc := "()LSelfSorting$Sum;" } : Jvm.MethodName)) ∈ lw_all := lw_g (lw_at lw_m4 7 rfl) rfl
theorem q879 : (Jvm.Cond.code ({ cls := "SelfSorting$Chain", name := "itself", desc := "()LSelfSorting$Sum;" } : Jvm.MethodName) prog_4_method_3_code (1 : Nat) (Option.some (Jvm.ClassFile.FieldType.object "SelfSorting$Sum"))) ∈ lw_all := lw_g (lw_at lw_m4 8 rfl) rfl
theorem q880 : (Jvm.Cond.methodLink "SelfSorting$Chain" (35 : Nat) ({ cls := "java/util/ArrayList", name := "isEmpty", desc := "()Z" } : Jvm.MethodName)) ∈ lw_all := lw_g (lw_at lw_m4 9 rfl) rfl
theorem q881 : (Jvm.Cond.instanceMethod ({ cls := "java/util/ArrayList", name := "isEmpty", desc := "()Z" } : Jvm.MethodName)) ∈ lw_all := lw_g (lw_at lw_m4 10 rfl) rfl
theorem q882 : (Jvm.Cond.selects "java/util/ArrayList" ({ cls := "java/util/ArrayList", name := "isEmpty", desc := "()Z" } : Jvm.MethodName) ({ cls := "java/util/ArrayList", name := "isEmpty", desc := "()Z" } : Jvm.MethodName)) ∈ lw_all := lw_g (lw_at lw_m4 11 rfl) rfl
theorem q883 : (Jvm.Cond.code ({ cls := "java/util/ArrayList", name := "isEmpty", desc := "()Z" } : Jvm.MethodName) prog_38_method_9_code (1 : Nat) (Option.some Jvm.ClassFile.FieldType.boolean)) ∈ lw_all := lw_g (lw_at lw_m4 12 rfl) rfl
theorem q884 : (Jvm.Cond.classLink "SelfSorting$Tokens" (171 : Nat) "SelfSorting$Compared") ∈ lw_all := lw_g (lw_at lw_m4 13 rfl) rfl
theorem q885 : (Jvm.Cond.instantiable "SelfSorting$Compared" (3 : Nat)) ∈ lw_all := lw_g (lw_at lw_m4 14 rfl) rfl
theorem q886 : (Jvm.Cond.methodLinkNest "SelfSorting$Tokens" (173 : Nat) ({ cls := "SelfSorting$Compared", name := "<init>", desc := "(ILSelfSorting$Sum;LSelfSorting$Sum;)V" } : Jvm.MethodName) "SelfSorting") ∈ lw_tbl := lw_at lw_m4 15 rfl
theorem q887 : (Jvm.Cond.instanceMethod ({ cls := "SelfSorting$Compared", name := "<init>", desc := "(ILSelfSorting$Sum;LSelfSorting$Sum;)V" } : Jvm.MethodName)) ∈ lw_all := lw_g (lw_at lw_m4 16 rfl) rfl
theorem q888 : (Jvm.Cond.code ({ cls := "SelfSorting$Compared", name := "<init>", desc := "(ILSelfSorting$Sum;LSelfSorting$Sum;)V" } : Jvm.MethodName) prog_5_method_1_code (4 : Nat) (Option.none : Option Jvm.ClassFile.FieldType)) ∈ lw_all := lw_g (lw_at lw_m4 17 rfl) rfl
theorem q889 : (Jvm.Cond.methodLink "SelfSorting$Compared" (1 : Nat) ({ cls := "java/lang/Record", name := "<init>", desc := "()V" } : Jvm.MethodName)) ∈ lw_all := lw_g (lw_at lw_m4 18 rfl) rfl
theorem q890 : (Jvm.Cond.fieldLink "SelfSorting$Compared" (7 : Nat) "SelfSorting$Compared" "sign" "I") ∈ lw_all := lw_g (lw_at lw_m4 19 rfl) rfl
theorem q891 : (Jvm.Cond.fieldLink "SelfSorting$Compared" (13 : Nat) "SelfSorting$Compared" "a" "LSelfSorting$Sum;") ∈ lw_all := lw_g (lw_at lw_m4 20 rfl) rfl
theorem q892 : (Jvm.Cond.fieldLink "SelfSorting$Compared" (17 : Nat) "SelfSorting$Compared" "b" "LSelfSorting$Sum;") ∈ lw_all := lw_g (lw_at lw_m4 21 rfl) rfl
theorem q893 : (Jvm.Cond.laysFinal "SelfSorting$Compared" "SelfSorting$Compared" "sign" "I") ∈ lw_all := lw_g (lw_at lw_m4 22 rfl) rfl
theorem q894 : (Jvm.Cond.soleField "SelfSorting$Compared" "sign") ∈ lw_all := lw_g (lw_at lw_m4 23 rfl) rfl
theorem q895 : (Jvm.Cond.laysFinal "SelfSorting$Compared" "SelfSorting$Compared" "a" "LSelfSorting$Sum;") ∈ lw_all := lw_g (lw_at lw_m4 24 rfl) rfl
theorem q896 : (Jvm.Cond.soleField "SelfSorting$Compared" "a") ∈ lw_all := lw_g (lw_at lw_m4 25 rfl) rfl
theorem q897 : (Jvm.Cond.laysFinal "SelfSorting$Compared" "SelfSorting$Compared" "b" "LSelfSorting$Sum;") ∈ lw_all := lw_g (lw_at lw_m4 26 rfl) rfl
theorem q898 : (Jvm.Cond.soleField "SelfSorting$Compared" "b") ∈ lw_all := lw_g (lw_at lw_m4 27 rfl) rfl
theorem q899 : (Jvm.Cond.superclass "SelfSorting$Compared" "java/lang/Record") ∈ lw_all := lw_g (lw_at lw_m4 28 rfl) rfl
theorem q900 : (Jvm.Cond.methodLink "SelfSorting$Tokens" (129 : Nat) ({ cls := "java/util/ArrayList", name := "add", desc := "(Ljava/lang/Object;)Z" } : Jvm.MethodName)) ∈ lw_all := lw_g (lw_at lw_m4 29 rfl) rfl
theorem q901 : (Jvm.Cond.methodLink "SelfSorting$Tokens" (147 : Nat) ({ cls := "java/util/ArrayList", name := "size", desc := "()I" } : Jvm.MethodName)) ∈ lw_all := lw_g (lw_at lw_m4 30 rfl) rfl
theorem q902 : (Jvm.Cond.methodLink "SelfSorting$Tokens" (149 : Nat) ({ cls := "java/util/ArrayList", name := "get", desc := "(I)Ljava/lang/Object;" } : Jvm.MethodName)) ∈ lw_all := lw_g (lw_at lw_m4 31 rfl) rfl
theorem q903 : (Jvm.Cond.classLink "SelfSorting$Tokens" (153 : Nat) "SelfSorting$Asked") ∈ lw_all := lw_g (lw_at lw_m4 32 rfl) rfl
theorem q904 : (Jvm.Cond.classLink "SelfSorting$Tokens" (155 : Nat) "SelfSorting$All") ∈ lw_all := lw_g (lw_at lw_m4 33 rfl) rfl
theorem q905 : (Jvm.Cond.instantiable "SelfSorting$All" (2 : Nat)) ∈ lw_all := lw_g (lw_at lw_m4 34 rfl) rfl
theorem q906 : (Jvm.Cond.methodLinkNest "SelfSorting$Tokens" (157 : Nat) ({ cls := "SelfSorting$All", name := "<init>", desc := "(ZLjava/util/ArrayList;)V" } : Jvm.MethodName) "SelfSorting") ∈ lw_tbl := lw_at lw_m4 35 rfl
theorem q907 : (Jvm.Cond.instanceMethod ({ cls := "SelfSorting$All", name := "<init>", desc := "(ZLjava/util/ArrayList;)V" } : Jvm.MethodName)) ∈ lw_all := lw_g (lw_at lw_m4 36 rfl) rfl
theorem q908 : (Jvm.Cond.code ({ cls := "SelfSorting$All", name := "<init>", desc := "(ZLjava/util/ArrayList;)V" } : Jvm.MethodName) prog_2_method_1_code (3 : Nat) (Option.none : Option Jvm.ClassFile.FieldType)) ∈ lw_all := lw_g (lw_at lw_m4 37 rfl) rfl
theorem q909 : (Jvm.Cond.methodLink "SelfSorting$All" (1 : Nat) ({ cls := "java/lang/Record", name := "<init>", desc := "()V" } : Jvm.MethodName)) ∈ lw_all := lw_g (lw_at lw_m4 38 rfl) rfl
theorem q910 : (Jvm.Cond.fieldLink "SelfSorting$All" (7 : Nat) "SelfSorting$All" "and" "Z") ∈ lw_all := lw_g (lw_at lw_m4 39 rfl) rfl
theorem q911 : (Jvm.Cond.fieldLink "SelfSorting$All" (13 : Nat) "SelfSorting$All" "of" "Ljava/util/ArrayList;") ∈ lw_all := lw_g (lw_at lw_m4 40 rfl) rfl
theorem q912 : (Jvm.Cond.laysFinal "SelfSorting$All" "SelfSorting$All" "and" "Z") ∈ lw_all := lw_g (lw_at lw_m4 41 rfl) rfl
theorem q913 : (Jvm.Cond.soleField "SelfSorting$All" "and") ∈ lw_all := lw_g (lw_at lw_m4 42 rfl) rfl
theorem q914 : (Jvm.Cond.laysFinal "SelfSorting$All" "SelfSorting$All" "of" "Ljava/util/ArrayList;") ∈ lw_all := lw_g (lw_at lw_m4 43 rfl) rfl
theorem q915 : (Jvm.Cond.soleField "SelfSorting$All" "of") ∈ lw_all := lw_g (lw_at lw_m4 44 rfl) rfl
theorem q916 : (Jvm.Cond.superclass "SelfSorting$All" "java/lang/Record") ∈ lw_all := lw_g (lw_at lw_m4 45 rfl) rfl
theorem q917 : (Jvm.Cond.methodLink "SelfSorting$Tokens" (125 : Nat) ({ cls := "SelfSorting$Tokens", name := "doing", desc := "(I)LSelfSorting$Doing;" } : Jvm.MethodName)) ∈ lw_all := lw_g (lw_at lw_m4 46 rfl) rfl
theorem q918 : (Jvm.Cond.privateMethod ({ cls := "SelfSorting$Tokens", name := "doing", desc := "(I)LSelfSorting$Doing;" } : Jvm.MethodName)) ∈ lw_tbl := lw_at lw_m4 47 rfl
theorem q919 : (Jvm.Cond.instanceMethod ({ cls := "SelfSorting$Tokens", name := "doing", desc := "(I)LSelfSorting$Doing;" } : Jvm.MethodName)) ∈ lw_all := lw_g (lw_at lw_m4 48 rfl) rfl
theorem q920 : (Jvm.Cond.code ({ cls := "SelfSorting$Tokens", name := "doing", desc := "(I)LSelfSorting$Doing;" } : Jvm.MethodName) prog_14_method_13_code (5 : Nat) (Option.some (Jvm.ClassFile.FieldType.object "SelfSorting$Doing"))) ∈ lw_all := lw_g (lw_at lw_m4 49 rfl) rfl
theorem q921 : (Jvm.Cond.classLink "SelfSorting$Tokens" (138 : Nat) "SelfSorting$Doing") ∈ lw_all := lw_g (lw_at lw_m4 50 rfl) rfl
theorem q922 : (Jvm.Cond.instantiable "SelfSorting$Doing" (5 : Nat)) ∈ lw_all := lw_g (lw_at lw_m4 51 rfl) rfl
theorem q923 : (Jvm.Cond.methodLinkNest "SelfSorting$Tokens" (140 : Nat) ({ cls := "SelfSorting$Doing", name := "<init>", desc := "(IIIII)V" } : Jvm.MethodName) "SelfSorting") ∈ lw_tbl := lw_at lw_m4 52 rfl
theorem q924 : (Jvm.Cond.instanceMethod ({ cls := "SelfSorting$Doing", name := "<init>", desc := "(IIIII)V" } : Jvm.MethodName)) ∈ lw_all := lw_g (lw_at lw_m4 53 rfl) rfl
theorem q925 : (Jvm.Cond.code ({ cls := "SelfSorting$Doing", name := "<init>", desc := "(IIIII)V" } : Jvm.MethodName) prog_6_method_1_code (6 : Nat) (Option.none : Option Jvm.ClassFile.FieldType)) ∈ lw_all := lw_g (lw_at lw_m4 54 rfl) rfl
theorem q926 : (Jvm.Cond.methodLink "SelfSorting$Doing" (1 : Nat) ({ cls := "java/lang/Record", name := "<init>", desc := "()V" } : Jvm.MethodName)) ∈ lw_all := lw_g (lw_at lw_m4 55 rfl) rfl
theorem q927 : (Jvm.Cond.fieldLink "SelfSorting$Doing" (7 : Nat) "SelfSorting$Doing" "sort" "I") ∈ lw_all := lw_g (lw_at lw_m4 56 rfl) rfl
theorem q928 : (Jvm.Cond.fieldLink "SelfSorting$Doing" (13 : Nat) "SelfSorting$Doing" "a" "I") ∈ lw_all := lw_g (lw_at lw_m4 57 rfl) rfl
theorem q929 : (Jvm.Cond.fieldLink "SelfSorting$Doing" (16 : Nat) "SelfSorting$Doing" "b" "I") ∈ lw_all := lw_g (lw_at lw_m4 58 rfl) rfl
theorem q930 : (Jvm.Cond.fieldLink "SelfSorting$Doing" (19 : Nat) "SelfSorting$Doing" "c" "I") ∈ lw_all := lw_g (lw_at lw_m4 59 rfl) rfl
theorem q931 : (Jvm.Cond.fieldLink "SelfSorting$Doing" (22 : Nat) "SelfSorting$Doing" "number" "I") ∈ lw_all := lw_g (lw_at lw_m4 60 rfl) rfl
theorem q932 : (Jvm.Cond.laysFinal "SelfSorting$Doing" "SelfSorting$Doing" "sort" "I") ∈ lw_all := lw_g (lw_at lw_m4 61 rfl) rfl
theorem q933 : (Jvm.Cond.soleField "SelfSorting$Doing" "sort") ∈ lw_all := lw_g (lw_at lw_m4 62 rfl) rfl
theorem q934 : (Jvm.Cond.laysFinal "SelfSorting$Doing" "SelfSorting$Doing" "a" "I") ∈ lw_all := lw_g (lw_at lw_m4 63 rfl) rfl
theorem q935 : (Jvm.Cond.soleField "SelfSorting$Doing" "a") ∈ lw_all := lw_g (lw_at lw_m4 64 rfl) rfl
theorem q936 : (Jvm.Cond.laysFinal "SelfSorting$Doing" "SelfSorting$Doing" "b" "I") ∈ lw_all := lw_g (lw_at lw_m4 65 rfl) rfl
theorem q937 : (Jvm.Cond.soleField "SelfSorting$Doing" "b") ∈ lw_all := lw_g (lw_at lw_m4 66 rfl) rfl
theorem q938 : (Jvm.Cond.laysFinal "SelfSorting$Doing" "SelfSorting$Doing" "c" "I") ∈ lw_all := lw_g (lw_at lw_m4 67 rfl) rfl
theorem q939 : (Jvm.Cond.soleField "SelfSorting$Doing" "c") ∈ lw_all := lw_g (lw_at lw_m4 68 rfl) rfl
theorem q940 : (Jvm.Cond.laysFinal "SelfSorting$Doing" "SelfSorting$Doing" "number" "I") ∈ lw_all := lw_g (lw_at lw_m4 69 rfl) rfl
theorem q941 : (Jvm.Cond.soleField "SelfSorting$Doing" "number") ∈ lw_all := lw_g (lw_at lw_m4 70 rfl) rfl
theorem q942 : (Jvm.Cond.superclass "SelfSorting$Doing" "java/lang/Record") ∈ lw_all := lw_g (lw_at lw_m4 71 rfl) rfl
theorem q943 : (Jvm.Cond.methodLink "SelfSortingLaw" (42 : Nat) ({ cls := "SelfSorting", name := "fault", desc := "(I)I" } : Jvm.MethodName)) ∈ lw_all := lw_g (lw_at lw_m4 72 rfl) rfl
theorem q944 : (Jvm.Cond.instanceMethod ({ cls := "SelfSorting", name := "fault", desc := "(I)I" } : Jvm.MethodName)) ∈ lw_all := lw_g (lw_at lw_m4 73 rfl) rfl
theorem q945 : (Jvm.Cond.selects "SelfSorting" ({ cls := "SelfSorting", name := "fault", desc := "(I)I" } : Jvm.MethodName) ({ cls := "SelfSorting", name := "fault", desc := "(I)I" } : Jvm.MethodName)) ∈ lw_all := lw_g (lw_at lw_m4 74 rfl) rfl
theorem q946 : (Jvm.Cond.code ({ cls := "SelfSorting", name := "fault", desc := "(I)I" } : Jvm.MethodName) prog_1_method_14_code (2 : Nat) (Option.some Jvm.ClassFile.FieldType.int)) ∈ lw_all := lw_g (lw_at lw_m4 75 rfl) rfl
theorem q947 : (Jvm.Cond.methodLink "SelfSortingLaw" (46 : Nat) ({ cls := "SelfSorting", name := "by", desc := "(I)Z" } : Jvm.MethodName)) ∈ lw_all := lw_g (lw_at lw_m4 76 rfl) rfl
theorem q948 : (Jvm.Cond.instanceMethod ({ cls := "SelfSorting", name := "by", desc := "(I)Z" } : Jvm.MethodName)) ∈ lw_all := lw_g (lw_at lw_m4 77 rfl) rfl
theorem q949 : (Jvm.Cond.selects "SelfSorting" ({ cls := "SelfSorting", name := "by", desc := "(I)Z" } : Jvm.MethodName) ({ cls := "SelfSorting", name := "by", desc := "(I)Z" } : Jvm.MethodName)) ∈ lw_all := lw_g (lw_at lw_m4 78 rfl) rfl
theorem q950 : (Jvm.Cond.code ({ cls := "SelfSorting", name := "by", desc := "(I)Z" } : Jvm.MethodName) prog_1_method_16_code (2 : Nat) (Option.some Jvm.ClassFile.FieldType.boolean)) ∈ lw_all := lw_g (lw_at lw_m4 79 rfl) rfl
theorem q951 : (Jvm.Cond.methodLink "SelfSorting" (129 : Nat) ({ cls := "SelfSorting", name := "isText", desc := "(I)Z" } : Jvm.MethodName)) ∈ lw_all := lw_g (lw_at lw_m4 80 rfl) rfl
theorem q952 : (Jvm.Cond.privateMethod ({ cls := "SelfSorting", name := "isText", desc := "(I)Z" } : Jvm.MethodName)) ∈ lw_tbl := lw_at lw_m4 81 rfl
theorem q953 : (Jvm.Cond.instanceMethod ({ cls := "SelfSorting", name := "isText", desc := "(I)Z" } : Jvm.MethodName)) ∈ lw_all := lw_g (lw_at lw_m4 82 rfl) rfl
theorem q954 : (Jvm.Cond.code ({ cls := "SelfSorting", name := "isText", desc := "(I)Z" } : Jvm.MethodName) prog_1_method_15_code (2 : Nat) (Option.some Jvm.ClassFile.FieldType.boolean)) ∈ lw_all := lw_g (lw_at lw_m4 83 rfl) rfl
theorem q955 : (Jvm.Cond.methodLink "SelfSortingLaw" (97 : Nat) ({ cls := "SelfSorting", name := "pushes", desc := "(IIZ)Z" } : Jvm.MethodName)) ∈ lw_all := lw_g (lw_at lw_m4 84 rfl) rfl
theorem q956 : (Jvm.Cond.instanceMethod ({ cls := "SelfSorting", name := "pushes", desc := "(IIZ)Z" } : Jvm.MethodName)) ∈ lw_all := lw_g (lw_at lw_m4 85 rfl) rfl
theorem q957 : (Jvm.Cond.selects "SelfSorting" ({ cls := "SelfSorting", name := "pushes", desc := "(IIZ)Z" } : Jvm.MethodName) ({ cls := "SelfSorting", name := "pushes", desc := "(IIZ)Z" } : Jvm.MethodName)) ∈ lw_all := lw_g (lw_at lw_m4 86 rfl) rfl
theorem q958 : (Jvm.Cond.code ({ cls := "SelfSorting", name := "pushes", desc := "(IIZ)Z" } : Jvm.MethodName) prog_1_method_21_code (4 : Nat) (Option.some Jvm.ClassFile.FieldType.boolean)) ∈ lw_all := lw_g (lw_at lw_m4 87 rfl) rfl
theorem q959 : (Jvm.Cond.methodLink "SelfSorting" (79 : Nat) ({ cls := "SelfSorting", name := "isBook", desc := "(I)Z" } : Jvm.MethodName)) ∈ lw_all := lw_g (lw_at lw_m4 88 rfl) rfl
theorem q960 : (Jvm.Cond.privateMethod ({ cls := "SelfSorting", name := "isBook", desc := "(I)Z" } : Jvm.MethodName)) ∈ lw_tbl := lw_at lw_m4 89 rfl
theorem q961 : (Jvm.Cond.instanceMethod ({ cls := "SelfSorting", name := "isBook", desc := "(I)Z" } : Jvm.MethodName)) ∈ lw_all := lw_g (lw_at lw_m4 90 rfl) rfl
theorem q962 : (Jvm.Cond.code ({ cls := "SelfSorting", name := "isBook", desc := "(I)Z" } : Jvm.MethodName) prog_1_method_3_code (2 : Nat) (Option.some Jvm.ClassFile.FieldType.boolean)) ∈ lw_all := lw_g (lw_at lw_m4 91 rfl) rfl
theorem q963 : (Jvm.Cond.methodLink "SelfSorting" (164 : Nat) ({ cls := "SelfSorting", name := "pushesNow", desc := "(IIZ)Z" } : Jvm.MethodName)) ∈ lw_all := lw_g (lw_at lw_m4 92 rfl) rfl
theorem q964 : (Jvm.Cond.privateMethod ({ cls := "SelfSorting", name := "pushesNow", desc := "(IIZ)Z" } : Jvm.MethodName)) ∈ lw_tbl := lw_at lw_m4 93 rfl
theorem q965 : (Jvm.Cond.instanceMethod ({ cls := "SelfSorting", name := "pushesNow", desc := "(IIZ)Z" } : Jvm.MethodName)) ∈ lw_all := lw_g (lw_at lw_m4 94 rfl) rfl
theorem q966 : (Jvm.Cond.code ({ cls := "SelfSorting", name := "pushesNow", desc := "(IIZ)Z" } : Jvm.MethodName) prog_1_method_20_code (4 : Nat) (Option.some Jvm.ClassFile.FieldType.boolean)) ∈ lw_all := lw_g (lw_at lw_m4 95 rfl) rfl
theorem q967 : (Jvm.Cond.methodLink "SelfSorting" (160 : Nat) ({ cls := "SelfSorting", name := "pushesBy", desc := "(IIIZ)Z" } : Jvm.MethodName)) ∈ lw_all := lw_g (lw_at lw_m4 96 rfl) rfl
theorem q968 : (Jvm.Cond.privateMethod ({ cls := "SelfSorting", name := "pushesBy", desc := "(IIIZ)Z" } : Jvm.MethodName)) ∈ lw_tbl := lw_at lw_m4 97 rfl
theorem q969 : (Jvm.Cond.instanceMethod ({ cls := "SelfSorting", name := "pushesBy", desc := "(IIIZ)Z" } : Jvm.MethodName)) ∈ lw_all := lw_g (lw_at lw_m4 98 rfl) rfl
theorem q970 : (Jvm.Cond.code ({ cls := "SelfSorting", name := "pushesBy", desc := "(IIIZ)Z" } : Jvm.MethodName) prog_1_method_19_code (6 : Nat) (Option.some Jvm.ClassFile.FieldType.boolean)) ∈ lw_all := lw_g (lw_at lw_m4 99 rfl) rfl
theorem q971 : (Jvm.Cond.interfaceEntry "SelfSorting" (154 : Nat)) ∈ lw_tbl := lw_at lw_m4 100 rfl
theorem q972 : (Jvm.Cond.methodLink "SelfSorting" (154 : Nat) ({ cls := "SelfSorting$Asked", name := "is", desc := "([I)Z" } : Jvm.MethodName)) ∈ lw_all := lw_g (lw_at lw_m4 101 rfl) rfl
theorem q973 : (Jvm.Cond.interfaceMethod "SelfSorting$Asked" "SelfSorting$Asked" "is" "([I)Z") ∈ lw_tbl := lw_at lw_m4 102 rfl
theorem q974 : (Jvm.Cond.declares ({ cls := "SelfSorting$Asked", name := "is", desc := "([I)Z" } : Jvm.MethodName)) ∈ lw_tbl := lw_at lw_m4 103 rfl
theorem q975 : (Jvm.Cond.castable "SelfSorting$All" "SelfSorting$Asked") ∈ lw_tbl := lw_at lw_m4 104 rfl
theorem q976 : (Jvm.Cond.selects "SelfSorting$All" ({ cls := "SelfSorting$Asked", name := "is", desc := "([I)Z" } : Jvm.MethodName) ({ cls := "SelfSorting$All", name := "is", desc := "([I)Z" } : Jvm.MethodName)) ∈ lw_all := lw_g (lw_at lw_m4 105 rfl) rfl
theorem q977 : (Jvm.Cond.unhidden "SelfSorting$All" "is" "([I)Z") ∈ lw_tbl := lw_at lw_m4 106 rfl
theorem q978 : (Jvm.Cond.instanceMethod ({ cls := "SelfSorting$All", name := "is", desc := "([I)Z" } : Jvm.MethodName)) ∈ lw_all := lw_g (lw_at lw_m4 107 rfl) rfl
theorem q979 : (Jvm.Cond.publicMethod ({ cls := "SelfSorting$All", name := "is", desc := "([I)Z" } : Jvm.MethodName)) ∈ lw_tbl := lw_at lw_m4 108 rfl
theorem q980 : (Jvm.Cond.code ({ cls := "SelfSorting$All", name := "is", desc := "([I)Z" } : Jvm.MethodName) prog_2_method_2_code (4 : Nat) (Option.some Jvm.ClassFile.FieldType.boolean)) ∈ lw_all := lw_g (lw_at lw_m4 109 rfl) rfl
theorem q981 : (Jvm.Cond.methodLink "SelfSorting$All" (17 : Nat) ({ cls := "java/util/ArrayList", name := "size", desc := "()I" } : Jvm.MethodName)) ∈ lw_all := lw_g (lw_at lw_m4 110 rfl) rfl
theorem q982 : (Jvm.Cond.methodLink "SelfSorting$All" (23 : Nat) ({ cls := "java/util/ArrayList", name := "get", desc := "(I)Ljava/lang/Object;" } : Jvm.MethodName)) ∈ lw_all := lw_g (lw_at lw_m4 111 rfl) rfl
theorem q983 : (Jvm.Cond.classLink "SelfSorting$All" (27 : Nat) "SelfSorting$Asked") ∈ lw_all := lw_g (lw_at lw_m4 112 rfl) rfl
theorem q984 : (Jvm.Cond.interfaceEntry "SelfSorting$All" (29 : Nat)) ∈ lw_tbl := lw_at lw_m4 113 rfl
theorem q985 : (Jvm.Cond.methodLink "SelfSorting$All" (29 : Nat) ({ cls := "SelfSorting$Asked", name := "is", desc := "([I)Z" } : Jvm.MethodName)) ∈ lw_all := lw_g (lw_at lw_m4 114 rfl) rfl
theorem q986 : (Jvm.Cond.castable "SelfSorting$Compared" "SelfSorting$Asked") ∈ lw_tbl := lw_at lw_m4 115 rfl
theorem q987 : (Jvm.Cond.selects "SelfSorting$Compared" ({ cls := "SelfSorting$Asked", name := "is", desc := "([I)Z" } : Jvm.MethodName) ({ cls := "SelfSorting$Compared", name := "is", desc := "([I)Z" } : Jvm.MethodName)) ∈ lw_all := lw_g (lw_at lw_m4 116 rfl) rfl
theorem q988 : (Jvm.Cond.unhidden "SelfSorting$Compared" "is" "([I)Z") ∈ lw_tbl := lw_at lw_m4 117 rfl
theorem q989 : (Jvm.Cond.instanceMethod ({ cls := "SelfSorting$Compared", name := "is", desc := "([I)Z" } : Jvm.MethodName)) ∈ lw_all := lw_g (lw_at lw_m4 118 rfl) rfl
theorem q990 : (Jvm.Cond.publicMethod ({ cls := "SelfSorting$Compared", name := "is", desc := "([I)Z" } : Jvm.MethodName)) ∈ lw_tbl := lw_at lw_m4 119 rfl
theorem q991 : (Jvm.Cond.code ({ cls := "SelfSorting$Compared", name := "is", desc := "([I)Z" } : Jvm.MethodName) prog_5_method_2_code (4 : Nat) (Option.some Jvm.ClassFile.FieldType.boolean)) ∈ lw_all := lw_g (lw_at lw_m4 120 rfl) rfl
theorem q992 : (Jvm.Cond.interfaceEntry "SelfSorting$Compared" (20 : Nat)) ∈ lw_tbl := lw_at lw_m4 121 rfl
theorem q993 : (Jvm.Cond.methodLink "SelfSorting$Compared" (20 : Nat) ({ cls := "SelfSorting$Sum", name := "of", desc := "([I)J" } : Jvm.MethodName)) ∈ lw_all := lw_g (lw_at lw_m4 122 rfl) rfl
theorem q994 : (Jvm.Cond.castable "SelfSorting$Not" "SelfSorting$Asked") ∈ lw_tbl := lw_at lw_m4 123 rfl
theorem q995 : (Jvm.Cond.selects "SelfSorting$Not" ({ cls := "SelfSorting$Asked", name := "is", desc := "([I)Z" } : Jvm.MethodName) ({ cls := "SelfSorting$Not", name := "is", desc := "([I)Z" } : Jvm.MethodName)) ∈ lw_all := lw_g (lw_at lw_m4 124 rfl) rfl
theorem q996 : (Jvm.Cond.unhidden "SelfSorting$Not" "is" "([I)Z") ∈ lw_tbl := lw_at lw_m4 125 rfl
theorem q997 : (Jvm.Cond.instanceMethod ({ cls := "SelfSorting$Not", name := "is", desc := "([I)Z" } : Jvm.MethodName)) ∈ lw_all := lw_g (lw_at lw_m4 126 rfl) rfl
theorem q998 : (Jvm.Cond.publicMethod ({ cls := "SelfSorting$Not", name := "is", desc := "([I)Z" } : Jvm.MethodName)) ∈ lw_tbl := lw_at lw_m4 127 rfl
theorem q999 : (Jvm.Cond.code ({ cls := "SelfSorting$Not", name := "is", desc := "([I)Z" } : Jvm.MethodName) prog_9_method_2_code (2 : Nat) (Option.some Jvm.ClassFile.FieldType.boolean)) ∈ lw_all := lw_g (lw_at lw_m4 128 rfl) rfl
theorem q1000 : (Jvm.Cond.interfaceEntry "SelfSorting$Not" (13 : Nat)) ∈ lw_tbl := lw_at lw_m4 129 rfl
theorem q1001 : (Jvm.Cond.methodLink "SelfSorting$Not" (13 : Nat) ({ cls := "SelfSorting$Asked", name := "is", desc := "([I)Z" } : Jvm.MethodName)) ∈ lw_all := lw_g (lw_at lw_m4 130 rfl) rfl
theorem q1002 : (Jvm.Cond.methodLink "SelfSortingLaw" (50 : Nat) ({ cls := "SelfSorting", name := "night", desc := "(I)I" } : Jvm.MethodName)) ∈ lw_all := lw_g (lw_at lw_m4 131 rfl) rfl
theorem q1003 : (Jvm.Cond.instanceMethod ({ cls := "SelfSorting", name := "night", desc := "(I)I" } : Jvm.MethodName)) ∈ lw_all := lw_g (lw_at lw_m4 132 rfl) rfl
theorem q1004 : (Jvm.Cond.selects "SelfSorting" ({ cls := "SelfSorting", name := "night", desc := "(I)I" } : Jvm.MethodName) ({ cls := "SelfSorting", name := "night", desc := "(I)I" } : Jvm.MethodName)) ∈ lw_all := lw_g (lw_at lw_m4 133 rfl) rfl
theorem q1005 : (Jvm.Cond.code ({ cls := "SelfSorting", name := "night", desc := "(I)I" } : Jvm.MethodName) prog_1_method_33_code (4 : Nat) (Option.some Jvm.ClassFile.FieldType.int)) ∈ lw_all := lw_g (lw_at lw_m4 134 rfl) rfl
theorem q1006 : (Jvm.Cond.methodLink "SelfSorting" (235 : Nat) ({ cls := "SelfSorting", name := "laysChange", desc := "()V" } : Jvm.MethodName)) ∈ lw_all := lw_g (lw_at lw_m4 135 rfl) rfl
theorem q1007 : (Jvm.Cond.privateMethod ({ cls := "SelfSorting", name := "laysChange", desc := "()V" } : Jvm.MethodName)) ∈ lw_tbl := lw_at lw_m4 136 rfl
theorem q1008 : (Jvm.Cond.instanceMethod ({ cls := "SelfSorting", name := "laysChange", desc := "()V" } : Jvm.MethodName)) ∈ lw_all := lw_g (lw_at lw_m4 137 rfl) rfl
theorem q1009 : (Jvm.Cond.code ({ cls := "SelfSorting", name := "laysChange", desc := "()V" } : Jvm.MethodName) prog_1_method_25_code (5 : Nat) (Option.none : Option Jvm.ClassFile.FieldType)) ∈ lw_all := lw_g (lw_at lw_m4 138 rfl) rfl
theorem q1010 : (Jvm.Cond.methodLink "SelfSorting" (238 : Nat) ({ cls := "SelfSorting$State", name := "keeps", desc := "()V" } : Jvm.MethodName)) ∈ lw_all := lw_g (lw_at lw_m4 139 rfl) rfl
theorem q1011 : (Jvm.Cond.instanceMethod ({ cls := "SelfSorting$State", name := "keeps", desc := "()V" } : Jvm.MethodName)) ∈ lw_all := lw_g (lw_at lw_m4 140 rfl) rfl
theorem q1012 : (Jvm.Cond.selects "SelfSorting$State" ({ cls := "SelfSorting$State", name := "keeps", desc := "()V" } : Jvm.MethodName) ({ cls := "SelfSorting$State", name := "keeps", desc := "()V" } : Jvm.MethodName)) ∈ lw_all := lw_g (lw_at lw_m4 141 rfl) rfl
theorem q1013 : (Jvm.Cond.code ({ cls := "SelfSorting$State", name := "keeps", desc := "()V" } : Jvm.MethodName) prog_11_method_5_code (2 : Nat) (Option.none : Option Jvm.ClassFile.FieldType)) ∈ lw_all := lw_g (lw_at lw_m4 142 rfl) rfl
theorem q1014 : (Jvm.Cond.methodLink "SelfSorting" (241 : Nat) ({ cls := "SelfSorting", name := "nightComes", desc := "()I" } : Jvm.MethodName)) ∈ lw_all := lw_g (lw_at lw_m4 143 rfl) rfl
theorem q1015 : (Jvm.Cond.privateMethod ({ cls := "SelfSorting", name := "nightComes", desc := "()I" } : Jvm.MethodName)) ∈ lw_tbl := lw_at lw_m4 144 rfl
theorem q1016 : (Jvm.Cond.instanceMethod ({ cls := "SelfSorting", name := "nightComes", desc := "()I" } : Jvm.MethodName)) ∈ lw_all := lw_g (lw_at lw_m4 145 rfl) rfl
theorem q1017 : (Jvm.Cond.code ({ cls := "SelfSorting", name := "nightComes", desc := "()I" } : Jvm.MethodName) prog_1_method_32_code (4 : Nat) (Option.some Jvm.ClassFile.FieldType.int)) ∈ lw_all := lw_g (lw_at lw_m4 146 rfl) rfl
theorem q1018 : (Jvm.Cond.methodLink "SelfSorting" (224 : Nat) ({ cls := "SelfSorting", name := "writesPushes", desc := "(II)V" } : Jvm.MethodName)) ∈ lw_all := lw_g (lw_at lw_m4 147 rfl) rfl
theorem q1019 : (Jvm.Cond.privateMethod ({ cls := "SelfSorting", name := "writesPushes", desc := "(II)V" } : Jvm.MethodName)) ∈ lw_tbl := lw_at lw_m4 148 rfl
theorem q1020 : (Jvm.Cond.instanceMethod ({ cls := "SelfSorting", name := "writesPushes", desc := "(II)V" } : Jvm.MethodName)) ∈ lw_all := lw_g (lw_at lw_m4 149 rfl) rfl
theorem q1021 : (Jvm.Cond.code ({ cls := "SelfSorting", name := "writesPushes", desc := "(II)V" } : Jvm.MethodName) prog_1_method_31_code (6 : Nat) (Option.none : Option Jvm.ClassFile.FieldType)) ∈ lw_all := lw_g (lw_at lw_m4 150 rfl) rfl
theorem q1022 : (Jvm.Cond.methodLink "SelfSorting" (206 : Nat) ({ cls := "SelfSorting", name := "doChange", desc := "(II)Z" } : Jvm.MethodName)) ∈ lw_all := lw_g (lw_at lw_m4 151 rfl) rfl
theorem q1023 : (Jvm.Cond.privateMethod ({ cls := "SelfSorting", name := "doChange", desc := "(II)Z" } : Jvm.MethodName)) ∈ lw_tbl := lw_at lw_m4 152 rfl
theorem q1024 : (Jvm.Cond.instanceMethod ({ cls := "SelfSorting", name := "doChange", desc := "(II)Z" } : Jvm.MethodName)) ∈ lw_all := lw_g (lw_at lw_m4 153 rfl) rfl
theorem q1025 : (Jvm.Cond.code ({ cls := "SelfSorting", name := "doChange", desc := "(II)Z" } : Jvm.MethodName) prog_1_method_26_code (3 : Nat) (Option.some Jvm.ClassFile.FieldType.boolean)) ∈ lw_all := lw_g (lw_at lw_m4 154 rfl) rfl
theorem q1026 : (Jvm.Cond.methodLink "SelfSorting" (220 : Nat) ({ cls := "SelfSorting$State", name := "writes", desc := "(III)V" } : Jvm.MethodName)) ∈ lw_all := lw_g (lw_at lw_m4 155 rfl) rfl
theorem q1027 : (Jvm.Cond.instanceMethod ({ cls := "SelfSorting$State", name := "writes", desc := "(III)V" } : Jvm.MethodName)) ∈ lw_all := lw_g (lw_at lw_m4 156 rfl) rfl
theorem q1028 : (Jvm.Cond.selects "SelfSorting$State" ({ cls := "SelfSorting$State", name := "writes", desc := "(III)V" } : Jvm.MethodName) ({ cls := "SelfSorting$State", name := "writes", desc := "(III)V" } : Jvm.MethodName)) ∈ lw_all := lw_g (lw_at lw_m4 157 rfl) rfl
theorem q1029 : (Jvm.Cond.code ({ cls := "SelfSorting$State", name := "writes", desc := "(III)V" } : Jvm.MethodName) prog_11_method_11_code (5 : Nat) (Option.none : Option Jvm.ClassFile.FieldType)) ∈ lw_all := lw_g (lw_at lw_m4 158 rfl) rfl
theorem q1030 : (Jvm.Cond.methodLink "SelfSorting" (227 : Nat) ({ cls := "SelfSorting", name := "nightOn", desc := "([IIII)I" } : Jvm.MethodName)) ∈ lw_all := lw_g (lw_at lw_m4 159 rfl) rfl
theorem q1031 : (Jvm.Cond.privateMethod ({ cls := "SelfSorting", name := "nightOn", desc := "([IIII)I" } : Jvm.MethodName)) ∈ lw_tbl := lw_at lw_m4 160 rfl
theorem q1032 : (Jvm.Cond.instanceMethod ({ cls := "SelfSorting", name := "nightOn", desc := "([IIII)I" } : Jvm.MethodName)) ∈ lw_all := lw_g (lw_at lw_m4 161 rfl) rfl
theorem q1033 : (Jvm.Cond.code ({ cls := "SelfSorting", name := "nightOn", desc := "([IIII)I" } : Jvm.MethodName) prog_1_method_27_code (9 : Nat) (Option.some Jvm.ClassFile.FieldType.int)) ∈ lw_all := lw_g (lw_at lw_m4 162 rfl) rfl
theorem q1034 : (Jvm.Cond.methodLink "SelfSorting" (231 : Nat) ({ cls := "SelfSorting", name := "fall", desc := "()I" } : Jvm.MethodName)) ∈ lw_all := lw_g (lw_at lw_m4 163 rfl) rfl
theorem q1035 : (Jvm.Cond.privateMethod ({ cls := "SelfSorting", name := "fall", desc := "()I" } : Jvm.MethodName)) ∈ lw_tbl := lw_at lw_m4 164 rfl
theorem q1036 : (Jvm.Cond.instanceMethod ({ cls := "SelfSorting", name := "fall", desc := "()I" } : Jvm.MethodName)) ∈ lw_all := lw_g (lw_at lw_m4 165 rfl) rfl
theorem q1037 : (Jvm.Cond.code ({ cls := "SelfSorting", name := "fall", desc := "()I" } : Jvm.MethodName) prog_1_method_30_code (6 : Nat) (Option.some Jvm.ClassFile.FieldType.int)) ∈ lw_all := lw_g (lw_at lw_m4 166 rfl) rfl
theorem q1038 : (Jvm.Cond.methodLink "SelfSorting" (214 : Nat) ({ cls := "SelfSorting", name := "falls", desc := "(IIII)Z" } : Jvm.MethodName)) ∈ lw_all := lw_g (lw_at lw_m4 167 rfl) rfl
theorem q1039 : (Jvm.Cond.privateMethod ({ cls := "SelfSorting", name := "falls", desc := "(IIII)Z" } : Jvm.MethodName)) ∈ lw_tbl := lw_at lw_m4 168 rfl
theorem q1040 : (Jvm.Cond.instanceMethod ({ cls := "SelfSorting", name := "falls", desc := "(IIII)Z" } : Jvm.MethodName)) ∈ lw_all := lw_g (lw_at lw_m4 169 rfl) rfl
theorem q1041 : (Jvm.Cond.code ({ cls := "SelfSorting", name := "falls", desc := "(IIII)Z" } : Jvm.MethodName) prog_1_method_24_code (5 : Nat) (Option.some Jvm.ClassFile.FieldType.boolean)) ∈ lw_all := lw_g (lw_at lw_m4 170 rfl) rfl
theorem q1042 : (Jvm.Cond.methodLink "SelfSorting" (217 : Nat) ({ cls := "SelfSorting", name := "drops", desc := "(II)V" } : Jvm.MethodName)) ∈ lw_all := lw_g (lw_at lw_m4 171 rfl) rfl
theorem q1043 : (Jvm.Cond.privateMethod ({ cls := "SelfSorting", name := "drops", desc := "(II)V" } : Jvm.MethodName)) ∈ lw_tbl := lw_at lw_m4 172 rfl
theorem q1044 : (Jvm.Cond.instanceMethod ({ cls := "SelfSorting", name := "drops", desc := "(II)V" } : Jvm.MethodName)) ∈ lw_all := lw_g (lw_at lw_m4 173 rfl) rfl
theorem q1045 : (Jvm.Cond.code ({ cls := "SelfSorting", name := "drops", desc := "(II)V" } : Jvm.MethodName) prog_1_method_29_code (3 : Nat) (Option.none : Option Jvm.ClassFile.FieldType)) ∈ lw_all := lw_g (lw_at lw_m4 174 rfl) rfl
theorem q1046 : (Jvm.Cond.methodLink "SelfSorting" (210 : Nat) ({ cls := "SelfSorting$State", name := "removes", desc := "(II)V" } : Jvm.MethodName)) ∈ lw_all := lw_g (lw_at lw_m4 175 rfl) rfl
theorem q1047 : (Jvm.Cond.instanceMethod ({ cls := "SelfSorting$State", name := "removes", desc := "(II)V" } : Jvm.MethodName)) ∈ lw_all := lw_g (lw_at lw_m4 176 rfl) rfl
theorem q1048 : (Jvm.Cond.selects "SelfSorting$State" ({ cls := "SelfSorting$State", name := "removes", desc := "(II)V" } : Jvm.MethodName) ({ cls := "SelfSorting$State", name := "removes", desc := "(II)V" } : Jvm.MethodName)) ∈ lw_all := lw_g (lw_at lw_m4 177 rfl) rfl
theorem q1049 : (Jvm.Cond.code ({ cls := "SelfSorting$State", name := "removes", desc := "(II)V" } : Jvm.MethodName) prog_11_method_8_code (4 : Nat) (Option.none : Option Jvm.ClassFile.FieldType)) ∈ lw_all := lw_g (lw_at lw_m4 178 rfl) rfl
theorem q1050 : (Jvm.Cond.methodLink "SelfSorting$State" (60 : Nat) ({ cls := "SelfSorting$State", name := "many", desc := "(I)I" } : Jvm.MethodName)) ∈ lw_all := lw_g (lw_at lw_m4 179 rfl) rfl
theorem q1051 : (Jvm.Cond.methodLink "SelfSortingLaw" (54 : Nat) ({ cls := "SelfSorting", name := "nudge", desc := "(II)I" } : Jvm.MethodName)) ∈ lw_all := lw_g (lw_at lw_m4 180 rfl) rfl
theorem q1052 : (Jvm.Cond.instanceMethod ({ cls := "SelfSorting", name := "nudge", desc := "(II)I" } : Jvm.MethodName)) ∈ lw_all := lw_g (lw_at lw_m4 181 rfl) rfl
theorem q1053 : (Jvm.Cond.selects "SelfSorting" ({ cls := "SelfSorting", name := "nudge", desc := "(II)I" } : Jvm.MethodName) ({ cls := "SelfSorting", name := "nudge", desc := "(II)I" } : Jvm.MethodName)) ∈ lw_all := lw_g (lw_at lw_m4 182 rfl) rfl
theorem q1054 : (Jvm.Cond.code ({ cls := "SelfSorting", name := "nudge", desc := "(II)I" } : Jvm.MethodName) prog_1_method_34_code (5 : Nat) (Option.some Jvm.ClassFile.FieldType.int)) ∈ lw_all := lw_g (lw_at lw_m4 183 rfl) rfl
theorem q1055 : (Jvm.Cond.methodLink "SelfSortingLaw" (59 : Nat) ({ cls := "SelfSorting", name := "take", desc := "(I)I" } : Jvm.MethodName)) ∈ lw_all := lw_g (lw_at lw_m4 184 rfl) rfl
theorem q1056 : (Jvm.Cond.instanceMethod ({ cls := "SelfSorting", name := "take", desc := "(I)I" } : Jvm.MethodName)) ∈ lw_all := lw_g (lw_at lw_m4 185 rfl) rfl
theorem q1057 : (Jvm.Cond.selects "SelfSorting" ({ cls := "SelfSorting", name := "take", desc := "(I)I" } : Jvm.MethodName) ({ cls := "SelfSorting", name := "take", desc := "(I)I" } : Jvm.MethodName)) ∈ lw_all := lw_g (lw_at lw_m4 186 rfl) rfl
theorem q1058 : (Jvm.Cond.code ({ cls := "SelfSorting", name := "take", desc := "(I)I" } : Jvm.MethodName) prog_1_method_35_code (3 : Nat) (Option.some Jvm.ClassFile.FieldType.int)) ∈ lw_all := lw_g (lw_at lw_m4 187 rfl) rfl
theorem q1059 : (Jvm.Cond.methodLink "SelfSorting" (83 : Nat) ({ cls := "SelfSorting", name := "whereIs", desc := "(I)I" } : Jvm.MethodName)) ∈ lw_all := lw_g (lw_at lw_m4 188 rfl) rfl
theorem q1060 : (Jvm.Cond.privateMethod ({ cls := "SelfSorting", name := "whereIs", desc := "(I)I" } : Jvm.MethodName)) ∈ lw_tbl := lw_at lw_m4 189 rfl
theorem q1061 : (Jvm.Cond.instanceMethod ({ cls := "SelfSorting", name := "whereIs", desc := "(I)I" } : Jvm.MethodName)) ∈ lw_all := lw_g (lw_at lw_m4 190 rfl) rfl
theorem q1062 : (Jvm.Cond.code ({ cls := "SelfSorting", name := "whereIs", desc := "(I)I" } : Jvm.MethodName) prog_1_method_5_code (2 : Nat) (Option.some Jvm.ClassFile.FieldType.int)) ∈ lw_all := lw_g (lw_at lw_m4 191 rfl) rfl
theorem q1063 : (Jvm.Cond.methodLink "SelfSorting" (244 : Nat) ({ cls := "SelfSorting$State", name := "placeOf", desc := "(I)I" } : Jvm.MethodName)) ∈ lw_all := lw_g (lw_at lw_m4 192 rfl) rfl
theorem q1064 : (Jvm.Cond.instanceMethod ({ cls := "SelfSorting$State", name := "placeOf", desc := "(I)I" } : Jvm.MethodName)) ∈ lw_all := lw_g (lw_at lw_m4 193 rfl) rfl
theorem q1065 : (Jvm.Cond.selects "SelfSorting$State" ({ cls := "SelfSorting$State", name := "placeOf", desc := "(I)I" } : Jvm.MethodName) ({ cls := "SelfSorting$State", name := "placeOf", desc := "(I)I" } : Jvm.MethodName)) ∈ lw_all := lw_g (lw_at lw_m4 194 rfl) rfl
theorem q1066 : (Jvm.Cond.code ({ cls := "SelfSorting$State", name := "placeOf", desc := "(I)I" } : Jvm.MethodName) prog_11_method_10_code (4 : Nat) (Option.some Jvm.ClassFile.FieldType.int)) ∈ lw_all := lw_g (lw_at lw_m4 195 rfl) rfl
theorem q1067 : (Jvm.Cond.methodLink "SelfSorting$State" (64 : Nat) ({ cls := "SelfSorting$State", name := "bookAt", desc := "(II)I" } : Jvm.MethodName)) ∈ lw_all := lw_g (lw_at lw_m4 196 rfl) rfl
theorem q1068 : (Jvm.Cond.methodLink "SelfSortingLaw" (63 : Nat) ({ cls := "SelfSorting", name := "put", desc := "(III)I" } : Jvm.MethodName)) ∈ lw_all := lw_g (lw_at lw_m4 197 rfl) rfl
theorem q1069 : (Jvm.Cond.instanceMethod ({ cls := "SelfSorting", name := "put", desc := "(III)I" } : Jvm.MethodName)) ∈ lw_all := lw_g (lw_at lw_m4 198 rfl) rfl
theorem q1070 : (Jvm.Cond.selects "SelfSorting" ({ cls := "SelfSorting", name := "put", desc := "(III)I" } : Jvm.MethodName) ({ cls := "SelfSorting", name := "put", desc := "(III)I" } : Jvm.MethodName)) ∈ lw_all := lw_g (lw_at lw_m4 199 rfl) rfl
theorem q1071 : (Jvm.Cond.code ({ cls := "SelfSorting", name := "put", desc := "(III)I" } : Jvm.MethodName) prog_1_method_36_code (4 : Nat) (Option.some Jvm.ClassFile.FieldType.int)) ∈ lw_all := lw_g (lw_at lw_m4 200 rfl) rfl
theorem q1072 : (Jvm.Cond.methodLink "SelfSorting" (247 : Nat) ({ cls := "SelfSorting$State", name := "inserts", desc := "(III)V" } : Jvm.MethodName)) ∈ lw_all := lw_g (lw_at lw_m4 201 rfl) rfl
theorem q1073 : (Jvm.Cond.instanceMethod ({ cls := "SelfSorting$State", name := "inserts", desc := "(III)V" } : Jvm.MethodName)) ∈ lw_all := lw_g (lw_at lw_m4 202 rfl) rfl
theorem q1074 : (Jvm.Cond.selects "SelfSorting$State" ({ cls := "SelfSorting$State", name := "inserts", desc := "(III)V" } : Jvm.MethodName) ({ cls := "SelfSorting$State", name := "inserts", desc := "(III)V" } : Jvm.MethodName)) ∈ lw_all := lw_g (lw_at lw_m4 203 rfl) rfl
theorem q1075 : (Jvm.Cond.code ({ cls := "SelfSorting$State", name := "inserts", desc := "(III)V" } : Jvm.MethodName) prog_11_method_9_code (5 : Nat) (Option.none : Option Jvm.ClassFile.FieldType)) ∈ lw_all := lw_g (lw_at lw_m4 204 rfl) rfl
theorem q1076 : (Jvm.Cond.methodLink "SelfSortingLaw" (68 : Nat) ({ cls := "SelfSorting", name := "wet", desc := "(Z)I" } : Jvm.MethodName)) ∈ lw_all := lw_g (lw_at lw_m4 205 rfl) rfl
theorem q1077 : (Jvm.Cond.instanceMethod ({ cls := "SelfSorting", name := "wet", desc := "(Z)I" } : Jvm.MethodName)) ∈ lw_all := lw_g (lw_at lw_m4 206 rfl) rfl
theorem q1078 : (Jvm.Cond.selects "SelfSorting" ({ cls := "SelfSorting", name := "wet", desc := "(Z)I" } : Jvm.MethodName) ({ cls := "SelfSorting", name := "wet", desc := "(Z)I" } : Jvm.MethodName)) ∈ lw_all := lw_g (lw_at lw_m4 207 rfl) rfl
theorem q1079 : (Jvm.Cond.code ({ cls := "SelfSorting", name := "wet", desc := "(Z)I" } : Jvm.MethodName) prog_1_method_37_code (3 : Nat) (Option.some Jvm.ClassFile.FieldType.int)) ∈ lw_all := lw_g (lw_at lw_m4 208 rfl) rfl
theorem q1080 : (Jvm.Cond.methodLink "SelfSortingLaw" (73 : Nat) ({ cls := "SelfSorting", name := "played", desc := "(I)I" } : Jvm.MethodName)) ∈ lw_all := lw_g (lw_at lw_m4 209 rfl) rfl
theorem q1081 : (Jvm.Cond.instanceMethod ({ cls := "SelfSorting", name := "played", desc := "(I)I" } : Jvm.MethodName)) ∈ lw_all := lw_g (lw_at lw_m4 210 rfl) rfl
theorem q1082 : (Jvm.Cond.selects "SelfSorting" ({ cls := "SelfSorting", name := "played", desc := "(I)I" } : Jvm.MethodName) ({ cls := "SelfSorting", name := "played", desc := "(I)I" } : Jvm.MethodName)) ∈ lw_all := lw_g (lw_at lw_m4 211 rfl) rfl
theorem q1083 : (Jvm.Cond.code ({ cls := "SelfSorting", name := "played", desc := "(I)I" } : Jvm.MethodName) prog_1_method_38_code (6 : Nat) (Option.some Jvm.ClassFile.FieldType.int)) ∈ lw_all := lw_g (lw_at lw_m4 212 rfl) rfl
theorem q1084 : (Jvm.Cond.methodLink "SelfSorting" (254 : Nat) ({ cls := "java/util/ArrayList", name := "size", desc := "()I" } : Jvm.MethodName)) ∈ lw_all := lw_g (lw_at lw_m4 213 rfl) rfl
theorem q1085 : (Jvm.Cond.methodLink "SelfSorting" (259 : Nat) ({ cls := "java/util/ArrayList", name := "get", desc := "(I)Ljava/lang/Object;" } : Jvm.MethodName)) ∈ lw_all := lw_g (lw_at lw_m4 214 rfl) rfl
theorem q1086 : (Jvm.Cond.classLink "SelfSorting" (263 : Nat) "SelfSorting$Doing") ∈ lw_all := lw_g (lw_at lw_m4 215 rfl) rfl
theorem q1087 : (Jvm.Cond.methodLink "SelfSorting" (265 : Nat) ({ cls := "SelfSorting$Doing", name := "sort", desc := "()I" } : Jvm.MethodName)) ∈ lw_all := lw_g (lw_at lw_m4 216 rfl) rfl
theorem q1088 : (Jvm.Cond.instanceMethod ({ cls := "SelfSorting$Doing", name := "sort", desc := "()I" } : Jvm.MethodName)) ∈ lw_all := lw_g (lw_at lw_m4 217 rfl) rfl
theorem q1089 : (Jvm.Cond.selects "SelfSorting$Doing" ({ cls := "SelfSorting$Doing", name := "sort", desc := "()I" } : Jvm.MethodName) ({ cls := "SelfSorting$Doing", name := "sort", desc := "()I" } : Jvm.MethodName)) ∈ lw_all := lw_g (lw_at lw_m4 218 rfl) rfl
theorem q1090 : (Jvm.Cond.code ({ cls := "SelfSorting$Doing", name := "sort", desc := "()I" } : Jvm.MethodName) prog_6_method_5_code (1 : Nat) (Option.some Jvm.ClassFile.FieldType.int)) ∈ lw_all := lw_g (lw_at lw_m4 219 rfl) rfl
theorem q1091 : (Jvm.Cond.methodLink "SelfSorting" (268 : Nat) ({ cls := "SelfSorting$Doing", name := "a", desc := "()I" } : Jvm.MethodName)) ∈ lw_all := lw_g (lw_at lw_m4 220 rfl) rfl
theorem q1092 : (Jvm.Cond.instanceMethod ({ cls := "SelfSorting$Doing", name := "a", desc := "()I" } : Jvm.MethodName)) ∈ lw_all := lw_g (lw_at lw_m4 221 rfl) rfl
theorem q1093 : (Jvm.Cond.selects "SelfSorting$Doing" ({ cls := "SelfSorting$Doing", name := "a", desc := "()I" } : Jvm.MethodName) ({ cls := "SelfSorting$Doing", name := "a", desc := "()I" } : Jvm.MethodName)) ∈ lw_all := lw_g (lw_at lw_m4 222 rfl) rfl
theorem q1094 : (Jvm.Cond.code ({ cls := "SelfSorting$Doing", name := "a", desc := "()I" } : Jvm.MethodName) prog_6_method_6_code (1 : Nat) (Option.some Jvm.ClassFile.FieldType.int)) ∈ lw_all := lw_g (lw_at lw_m4 223 rfl) rfl
theorem q1095 : (Jvm.Cond.methodLink "SelfSorting" (271 : Nat) ({ cls := "SelfSorting", name := "night", desc := "(I)I" } : Jvm.MethodName)) ∈ lw_all := lw_g (lw_at lw_m4 224 rfl) rfl
theorem q1096 : (Jvm.Cond.methodLink "SelfSorting" (274 : Nat) ({ cls := "SelfSorting$Doing", name := "b", desc := "()I" } : Jvm.MethodName)) ∈ lw_all := lw_g (lw_at lw_m4 225 rfl) rfl
theorem q1097 : (Jvm.Cond.instanceMethod ({ cls := "SelfSorting$Doing", name := "b", desc := "()I" } : Jvm.MethodName)) ∈ lw_all := lw_g (lw_at lw_m4 226 rfl) rfl
theorem q1098 : (Jvm.Cond.selects "SelfSorting$Doing" ({ cls := "SelfSorting$Doing", name := "b", desc := "()I" } : Jvm.MethodName) ({ cls := "SelfSorting$Doing", name := "b", desc := "()I" } : Jvm.MethodName)) ∈ lw_all := lw_g (lw_at lw_m4 227 rfl) rfl
theorem q1099 : (Jvm.Cond.code ({ cls := "SelfSorting$Doing", name := "b", desc := "()I" } : Jvm.MethodName) prog_6_method_7_code (1 : Nat) (Option.some Jvm.ClassFile.FieldType.int)) ∈ lw_all := lw_g (lw_at lw_m4 228 rfl) rfl
theorem q1100 : (Jvm.Cond.methodLink "SelfSorting" (277 : Nat) ({ cls := "SelfSorting", name := "nudge", desc := "(II)I" } : Jvm.MethodName)) ∈ lw_all := lw_g (lw_at lw_m4 229 rfl) rfl
theorem q1101 : (Jvm.Cond.methodLink "SelfSorting" (280 : Nat) ({ cls := "SelfSorting", name := "take", desc := "(I)I" } : Jvm.MethodName)) ∈ lw_all := lw_g (lw_at lw_m4 230 rfl) rfl
theorem q1102 : (Jvm.Cond.methodLink "SelfSorting" (283 : Nat) ({ cls := "SelfSorting$Doing", name := "c", desc := "()I" } : Jvm.MethodName)) ∈ lw_all := lw_g (lw_at lw_m4 231 rfl) rfl
theorem q1103 : (Jvm.Cond.instanceMethod ({ cls := "SelfSorting$Doing", name := "c", desc := "()I" } : Jvm.MethodName)) ∈ lw_all := lw_g (lw_at lw_m4 232 rfl) rfl
theorem q1104 : (Jvm.Cond.selects "SelfSorting$Doing" ({ cls := "SelfSorting$Doing", name := "c", desc := "()I" } : Jvm.MethodName) ({ cls := "SelfSorting$Doing", name := "c", desc := "()I" } : Jvm.MethodName)) ∈ lw_all := lw_g (lw_at lw_m4 233 rfl) rfl
theorem q1105 : (Jvm.Cond.code ({ cls := "SelfSorting$Doing", name := "c", desc := "()I" } : Jvm.MethodName) prog_6_method_8_code (1 : Nat) (Option.some Jvm.ClassFile.FieldType.int)) ∈ lw_all := lw_g (lw_at lw_m4 234 rfl) rfl
theorem q1106 : (Jvm.Cond.methodLink "SelfSorting" (286 : Nat) ({ cls := "SelfSorting", name := "put", desc := "(III)I" } : Jvm.MethodName)) ∈ lw_all := lw_g (lw_at lw_m4 235 rfl) rfl
theorem q1107 : (Jvm.Cond.methodLink "SelfSorting" (289 : Nat) ({ cls := "SelfSorting", name := "wet", desc := "(Z)I" } : Jvm.MethodName)) ∈ lw_all := lw_g (lw_at lw_m4 236 rfl) rfl
theorem q1108 : (Jvm.Cond.methodLink "SelfSorting" (293 : Nat) ({ cls := "SelfSorting$Doing", name := "number", desc := "()I" } : Jvm.MethodName)) ∈ lw_all := lw_g (lw_at lw_m4 237 rfl) rfl
theorem q1109 : (Jvm.Cond.instanceMethod ({ cls := "SelfSorting$Doing", name := "number", desc := "()I" } : Jvm.MethodName)) ∈ lw_all := lw_g (lw_at lw_m4 238 rfl) rfl
theorem q1110 : (Jvm.Cond.selects "SelfSorting$Doing" ({ cls := "SelfSorting$Doing", name := "number", desc := "()I" } : Jvm.MethodName) ({ cls := "SelfSorting$Doing", name := "number", desc := "()I" } : Jvm.MethodName)) ∈ lw_all := lw_g (lw_at lw_m4 239 rfl) rfl
theorem q1111 : (Jvm.Cond.code ({ cls := "SelfSorting$Doing", name := "number", desc := "()I" } : Jvm.MethodName) prog_6_method_9_code (1 : Nat) (Option.some Jvm.ClassFile.FieldType.int)) ∈ lw_all := lw_g (lw_at lw_m5 0 rfl) rfl
theorem q1112 : (Jvm.Cond.methodLink "SelfSortingLaw" (77 : Nat) ({ cls := "SelfSorting", name := "year", desc := "(II)I" } : Jvm.MethodName)) ∈ lw_all := lw_g (lw_at lw_m5 1 rfl) rfl
theorem q1113 : (Jvm.Cond.instanceMethod ({ cls := "SelfSorting", name := "year", desc := "(II)I" } : Jvm.MethodName)) ∈ lw_all := lw_g (lw_at lw_m5 2 rfl) rfl
theorem q1114 : (Jvm.Cond.selects "SelfSorting" ({ cls := "SelfSorting", name := "year", desc := "(II)I" } : Jvm.MethodName) ({ cls := "SelfSorting", name := "year", desc := "(II)I" } : Jvm.MethodName)) ∈ lw_all := lw_g (lw_at lw_m5 3 rfl) rfl
theorem q1115 : (Jvm.Cond.code ({ cls := "SelfSorting", name := "year", desc := "(II)I" } : Jvm.MethodName) prog_1_method_40_code (9 : Nat) (Option.some Jvm.ClassFile.FieldType.int)) ∈ lw_all := lw_g (lw_at lw_m5 4 rfl) rfl
theorem q1116 : (Jvm.Cond.methodLink "SelfSorting" (296 : Nat) ({ cls := "SelfSorting", name := "drawn", desc := "()I" } : Jvm.MethodName)) ∈ lw_all := lw_g (lw_at lw_m5 5 rfl) rfl
theorem q1117 : (Jvm.Cond.privateMethod ({ cls := "SelfSorting", name := "drawn", desc := "()I" } : Jvm.MethodName)) ∈ lw_tbl := lw_at lw_m5 6 rfl
theorem q1118 : (Jvm.Cond.instanceMethod ({ cls := "SelfSorting", name := "drawn", desc := "()I" } : Jvm.MethodName)) ∈ lw_all := lw_g (lw_at lw_m5 7 rfl) rfl
theorem q1119 : (Jvm.Cond.code ({ cls := "SelfSorting", name := "drawn", desc := "()I" } : Jvm.MethodName) prog_1_method_39_code (2 : Nat) (Option.some Jvm.ClassFile.FieldType.int)) ∈ lw_all := lw_g (lw_at lw_m5 8 rfl) rfl
theorem q1120 : (Jvm.Cond.methodLink "SelfSortingLaw" (81 : Nat) ({ cls := "SelfSorting", name := "undo", desc := "()I" } : Jvm.MethodName)) ∈ lw_all := lw_g (lw_at lw_m5 9 rfl) rfl
theorem q1121 : (Jvm.Cond.instanceMethod ({ cls := "SelfSorting", name := "undo", desc := "()I" } : Jvm.MethodName)) ∈ lw_all := lw_g (lw_at lw_m5 10 rfl) rfl
theorem q1122 : (Jvm.Cond.selects "SelfSorting" ({ cls := "SelfSorting", name := "undo", desc := "()I" } : Jvm.MethodName) ({ cls := "SelfSorting", name := "undo", desc := "()I" } : Jvm.MethodName)) ∈ lw_all := lw_g (lw_at lw_m5 11 rfl) rfl
theorem q1123 : (Jvm.Cond.code ({ cls := "SelfSorting", name := "undo", desc := "()I" } : Jvm.MethodName) prog_1_method_41_code (1 : Nat) (Option.some Jvm.ClassFile.FieldType.int)) ∈ lw_all := lw_g (lw_at lw_m5 12 rfl) rfl
theorem q1124 : (Jvm.Cond.methodLink "SelfSortingLaw" (85 : Nat) ({ cls := "SelfSorting", name := "at", desc := "(II)I" } : Jvm.MethodName)) ∈ lw_all := lw_g (lw_at lw_m5 13 rfl) rfl
theorem q1125 : (Jvm.Cond.instanceMethod ({ cls := "SelfSorting", name := "at", desc := "(II)I" } : Jvm.MethodName)) ∈ lw_all := lw_g (lw_at lw_m5 14 rfl) rfl
theorem q1126 : (Jvm.Cond.selects "SelfSorting" ({ cls := "SelfSorting", name := "at", desc := "(II)I" } : Jvm.MethodName) ({ cls := "SelfSorting", name := "at", desc := "(II)I" } : Jvm.MethodName)) ∈ lw_all := lw_g (lw_at lw_m5 15 rfl) rfl
theorem q1127 : (Jvm.Cond.code ({ cls := "SelfSorting", name := "at", desc := "(II)I" } : Jvm.MethodName) prog_1_method_42_code (3 : Nat) (Option.some Jvm.ClassFile.FieldType.int)) ∈ lw_all := lw_g (lw_at lw_m5 16 rfl) rfl
theorem q1128 : (Jvm.Cond.methodLink "SelfSortingLaw" (89 : Nat) ({ cls := "SelfSorting", name := "of", desc := "(II)I" } : Jvm.MethodName)) ∈ lw_all := lw_g (lw_at lw_m5 17 rfl) rfl
theorem q1129 : (Jvm.Cond.instanceMethod ({ cls := "SelfSorting", name := "of", desc := "(II)I" } : Jvm.MethodName)) ∈ lw_all := lw_g (lw_at lw_m5 18 rfl) rfl
theorem q1130 : (Jvm.Cond.selects "SelfSorting" ({ cls := "SelfSorting", name := "of", desc := "(II)I" } : Jvm.MethodName) ({ cls := "SelfSorting", name := "of", desc := "(II)I" } : Jvm.MethodName)) ∈ lw_all := lw_g (lw_at lw_m5 19 rfl) rfl
theorem q1131 : (Jvm.Cond.code ({ cls := "SelfSorting", name := "of", desc := "(II)I" } : Jvm.MethodName) prog_1_method_43_code (3 : Nat) (Option.some Jvm.ClassFile.FieldType.int)) ∈ lw_all := lw_g (lw_at lw_m5 20 rfl) rfl
theorem q1132 : (Jvm.Cond.methodLink "SelfSorting" (302 : Nat) ({ cls := "SelfSorting", name := "isOnShelf", desc := "(I)Z" } : Jvm.MethodName)) ∈ lw_all := lw_g (lw_at lw_m5 21 rfl) rfl
theorem q1133 : (Jvm.Cond.privateMethod ({ cls := "SelfSorting", name := "isOnShelf", desc := "(I)Z" } : Jvm.MethodName)) ∈ lw_tbl := lw_at lw_m5 22 rfl
theorem q1134 : (Jvm.Cond.instanceMethod ({ cls := "SelfSorting", name := "isOnShelf", desc := "(I)Z" } : Jvm.MethodName)) ∈ lw_all := lw_g (lw_at lw_m5 23 rfl) rfl
theorem q1135 : (Jvm.Cond.code ({ cls := "SelfSorting", name := "isOnShelf", desc := "(I)Z" } : Jvm.MethodName) prog_1_method_6_code (2 : Nat) (Option.some Jvm.ClassFile.FieldType.boolean)) ∈ lw_all := lw_g (lw_at lw_m5 24 rfl) rfl
theorem q1136 : (Jvm.Cond.methodLink "SelfSortingLaw" (93 : Nat) ({ cls := "SelfSorting", name := "shelf", desc := "(II)I" } : Jvm.MethodName)) ∈ lw_all := lw_g (lw_at lw_m5 25 rfl) rfl
theorem q1137 : (Jvm.Cond.instanceMethod ({ cls := "SelfSorting", name := "shelf", desc := "(II)I" } : Jvm.MethodName)) ∈ lw_all := lw_g (lw_at lw_m5 26 rfl) rfl
theorem q1138 : (Jvm.Cond.selects "SelfSorting" ({ cls := "SelfSorting", name := "shelf", desc := "(II)I" } : Jvm.MethodName) ({ cls := "SelfSorting", name := "shelf", desc := "(II)I" } : Jvm.MethodName)) ∈ lw_all := lw_g (lw_at lw_m5 27 rfl) rfl
theorem q1139 : (Jvm.Cond.code ({ cls := "SelfSorting", name := "shelf", desc := "(II)I" } : Jvm.MethodName) prog_1_method_44_code (3 : Nat) (Option.some Jvm.ClassFile.FieldType.int)) ∈ lw_all := lw_g (lw_at lw_m5 28 rfl) rfl
theorem q1140 : (Jvm.Cond.methodLink "SelfSortingLaw" (102 : Nat) ({ cls := "SelfSorting", name := "written", desc := "(II)I" } : Jvm.MethodName)) ∈ lw_all := lw_g (lw_at lw_m5 29 rfl) rfl
theorem q1141 : (Jvm.Cond.instanceMethod ({ cls := "SelfSorting", name := "written", desc := "(II)I" } : Jvm.MethodName)) ∈ lw_all := lw_g (lw_at lw_m5 30 rfl) rfl
theorem q1142 : (Jvm.Cond.selects "SelfSorting" ({ cls := "SelfSorting", name := "written", desc := "(II)I" } : Jvm.MethodName) ({ cls := "SelfSorting", name := "written", desc := "(II)I" } : Jvm.MethodName)) ∈ lw_all := lw_g (lw_at lw_m5 31 rfl) rfl
theorem q1143 : (Jvm.Cond.code ({ cls := "SelfSorting", name := "written", desc := "(II)I" } : Jvm.MethodName) prog_1_method_45_code (3 : Nat) (Option.some Jvm.ClassFile.FieldType.int)) ∈ lw_all := lw_g (lw_at lw_m5 32 rfl) rfl
theorem q1144 : (Jvm.Cond.methodLink "SelfSortingLaw" (106 : Nat) ({ cls := "SelfSorting", name := "rest", desc := "(I)I" } : Jvm.MethodName)) ∈ lw_all := lw_g (lw_at lw_m5 33 rfl) rfl
theorem q1145 : (Jvm.Cond.instanceMethod ({ cls := "SelfSorting", name := "rest", desc := "(I)I" } : Jvm.MethodName)) ∈ lw_all := lw_g (lw_at lw_m5 34 rfl) rfl
theorem q1146 : (Jvm.Cond.selects "SelfSorting" ({ cls := "SelfSorting", name := "rest", desc := "(I)I" } : Jvm.MethodName) ({ cls := "SelfSorting", name := "rest", desc := "(I)I" } : Jvm.MethodName)) ∈ lw_all := lw_g (lw_at lw_m5 35 rfl) rfl
theorem q1147 : (Jvm.Cond.code ({ cls := "SelfSorting", name := "rest", desc := "(I)I" } : Jvm.MethodName) prog_1_method_49_code (2 : Nat) (Option.some Jvm.ClassFile.FieldType.int)) ∈ lw_all := lw_g (lw_at lw_m5 36 rfl) rfl
theorem q1148 : (Jvm.Cond.methodLink "SelfSorting" (313 : Nat) ({ cls := "SelfSorting", name := "laysRow", desc := "(II)V" } : Jvm.MethodName)) ∈ lw_all := lw_g (lw_at lw_m5 37 rfl) rfl
theorem q1149 : (Jvm.Cond.privateMethod ({ cls := "SelfSorting", name := "laysRow", desc := "(II)V" } : Jvm.MethodName)) ∈ lw_tbl := lw_at lw_m5 38 rfl
theorem q1150 : (Jvm.Cond.instanceMethod ({ cls := "SelfSorting", name := "laysRow", desc := "(II)V" } : Jvm.MethodName)) ∈ lw_all := lw_g (lw_at lw_m5 39 rfl) rfl
theorem q1151 : (Jvm.Cond.code ({ cls := "SelfSorting", name := "laysRow", desc := "(II)V" } : Jvm.MethodName) prog_1_method_46_code (4 : Nat) (Option.none : Option Jvm.ClassFile.FieldType)) ∈ lw_all := lw_g (lw_at lw_m5 40 rfl) rfl
theorem q1152 : (Jvm.Cond.methodLink "SelfSorting" (316 : Nat) ({ cls := "SelfSorting", name := "rests", desc := "()I" } : Jvm.MethodName)) ∈ lw_all := lw_g (lw_at lw_m5 41 rfl) rfl
theorem q1153 : (Jvm.Cond.privateMethod ({ cls := "SelfSorting", name := "rests", desc := "()I" } : Jvm.MethodName)) ∈ lw_tbl := lw_at lw_m5 42 rfl
theorem q1154 : (Jvm.Cond.instanceMethod ({ cls := "SelfSorting", name := "rests", desc := "()I" } : Jvm.MethodName)) ∈ lw_all := lw_g (lw_at lw_m5 43 rfl) rfl
theorem q1155 : (Jvm.Cond.code ({ cls := "SelfSorting", name := "rests", desc := "()I" } : Jvm.MethodName) prog_1_method_48_code (3 : Nat) (Option.some Jvm.ClassFile.FieldType.int)) ∈ lw_all := lw_g (lw_at lw_m5 44 rfl) rfl
theorem q1156 : (Jvm.Cond.methodLink "SelfSorting" (309 : Nat) ({ cls := "SelfSorting", name := "isCalm", desc := "([II)Z" } : Jvm.MethodName)) ∈ lw_all := lw_g (lw_at lw_m5 45 rfl) rfl
theorem q1157 : (Jvm.Cond.privateMethod ({ cls := "SelfSorting", name := "isCalm", desc := "([II)Z" } : Jvm.MethodName)) ∈ lw_tbl := lw_at lw_m5 46 rfl
theorem q1158 : (Jvm.Cond.instanceMethod ({ cls := "SelfSorting", name := "isCalm", desc := "([II)Z" } : Jvm.MethodName)) ∈ lw_all := lw_g (lw_at lw_m5 47 rfl) rfl
theorem q1159 : (Jvm.Cond.code ({ cls := "SelfSorting", name := "isCalm", desc := "([II)Z" } : Jvm.MethodName) prog_1_method_28_code (4 : Nat) (Option.some Jvm.ClassFile.FieldType.boolean)) ∈ lw_all := lw_g (lw_at lw_m5 48 rfl) rfl
theorem q1160 : (Jvm.Cond.methodLink "SelfSortingLaw" (110 : Nat) ({ cls := "SelfSorting", name := "round", desc := "(IZ)I" } : Jvm.MethodName)) ∈ lw_all := lw_g (lw_at lw_m5 49 rfl) rfl
theorem q1161 : (Jvm.Cond.instanceMethod ({ cls := "SelfSorting", name := "round", desc := "(IZ)I" } : Jvm.MethodName)) ∈ lw_all := lw_g (lw_at lw_m5 50 rfl) rfl
theorem q1162 : (Jvm.Cond.selects "SelfSorting" ({ cls := "SelfSorting", name := "round", desc := "(IZ)I" } : Jvm.MethodName) ({ cls := "SelfSorting", name := "round", desc := "(IZ)I" } : Jvm.MethodName)) ∈ lw_all := lw_g (lw_at lw_m5 51 rfl) rfl
theorem q1163 : (Jvm.Cond.code ({ cls := "SelfSorting", name := "round", desc := "(IZ)I" } : Jvm.MethodName) prog_1_method_50_code (5 : Nat) (Option.some Jvm.ClassFile.FieldType.int)) ∈ lw_all := lw_g (lw_at lw_m5 52 rfl) rfl
theorem q1164 : (Jvm.Cond.methodLink "SelfSorting" (319 : Nat) ({ cls := "SelfSorting", name := "rest", desc := "(I)I" } : Jvm.MethodName)) ∈ lw_all := lw_g (lw_at lw_m5 53 rfl) rfl
theorem q1165 : (Jvm.Cond.methodLink "SelfSorting" (322 : Nat) ({ cls := "SelfSorting", name := "standing", desc := "(I)J" } : Jvm.MethodName)) ∈ lw_all := lw_g (lw_at lw_m5 54 rfl) rfl
theorem q1166 : (Jvm.Cond.privateMethod ({ cls := "SelfSorting", name := "standing", desc := "(I)J" } : Jvm.MethodName)) ∈ lw_tbl := lw_at lw_m5 55 rfl
theorem q1167 : (Jvm.Cond.instanceMethod ({ cls := "SelfSorting", name := "standing", desc := "(I)J" } : Jvm.MethodName)) ∈ lw_all := lw_g (lw_at lw_m5 56 rfl) rfl
theorem q1168 : (Jvm.Cond.code ({ cls := "SelfSorting", name := "standing", desc := "(I)J" } : Jvm.MethodName) prog_1_method_47_code (5 : Nat) (Option.some Jvm.ClassFile.FieldType.long)) ∈ lw_all := lw_g (lw_at lw_m5 57 rfl) rfl
theorem q1169 : (Jvm.Cond.constantLong "SelfSorting" (307 : Nat) (10 : Int64)) ∈ lw_all := lw_g (lw_at lw_m5 58 rfl) rfl
theorem q1170 : (Jvm.Cond.methodLink "SelfSortingLaw" (115 : Nat) ({ cls := "SelfSorting", name := "calm", desc := "(III)I" } : Jvm.MethodName)) ∈ lw_all := lw_g (lw_at lw_m5 59 rfl) rfl
theorem q1171 : (Jvm.Cond.instanceMethod ({ cls := "SelfSorting", name := "calm", desc := "(III)I" } : Jvm.MethodName)) ∈ lw_all := lw_g (lw_at lw_m5 60 rfl) rfl
theorem q1172 : (Jvm.Cond.selects "SelfSorting" ({ cls := "SelfSorting", name := "calm", desc := "(III)I" } : Jvm.MethodName) ({ cls := "SelfSorting", name := "calm", desc := "(III)I" } : Jvm.MethodName)) ∈ lw_all := lw_g (lw_at lw_m5 61 rfl) rfl
theorem q1173 : (Jvm.Cond.code ({ cls := "SelfSorting", name := "calm", desc := "(III)I" } : Jvm.MethodName) prog_1_method_56_code (5 : Nat) (Option.some Jvm.ClassFile.FieldType.int)) ∈ lw_all := lw_g (lw_at lw_m5 62 rfl) rfl
theorem q1174 : (Jvm.Cond.methodLink "SelfSorting" (342 : Nat) ({ cls := "SelfSorting", name := "choose", desc := "(II)Z" } : Jvm.MethodName)) ∈ lw_all := lw_g (lw_at lw_m5 63 rfl) rfl
theorem q1175 : (Jvm.Cond.privateMethod ({ cls := "SelfSorting", name := "choose", desc := "(II)Z" } : Jvm.MethodName)) ∈ lw_tbl := lw_at lw_m5 64 rfl
theorem q1176 : (Jvm.Cond.instanceMethod ({ cls := "SelfSorting", name := "choose", desc := "(II)Z" } : Jvm.MethodName)) ∈ lw_all := lw_g (lw_at lw_m5 65 rfl) rfl
theorem q1177 : (Jvm.Cond.code ({ cls := "SelfSorting", name := "choose", desc := "(II)Z" } : Jvm.MethodName) prog_1_method_52_code (4 : Nat) (Option.some Jvm.ClassFile.FieldType.boolean)) ∈ lw_all := lw_g (lw_at lw_m5 66 rfl) rfl
theorem q1178 : (Jvm.Cond.methodLink "SelfSorting" (331 : Nat) ({ cls := "java/lang/Integer", name := "bitCount", desc := "(I)I" } : Jvm.MethodName)) ∈ lw_all := lw_g (lw_at lw_m5 67 rfl) rfl
theorem q1179 : (Jvm.Cond.static ({ cls := "java/lang/Integer", name := "bitCount", desc := "(I)I" } : Jvm.MethodName)) ∈ lw_all := lw_g (lw_at lw_m5 68 rfl) rfl
theorem q1180 : (Jvm.Cond.code ({ cls := "java/lang/Integer", name := "bitCount", desc := "(I)I" } : Jvm.MethodName) prog_23_method_49_code (1 : Nat) (Option.some Jvm.ClassFile.FieldType.int)) ∈ lw_all := lw_g (lw_at lw_m5 69 rfl) rfl
theorem q1181 : (Jvm.Cond.constant "java/lang/Integer" (265 : Nat) (1431655765 : Int32)) ∈ lw_all := lw_g (lw_at lw_m5 70 rfl) rfl
theorem q1182 : (Jvm.Cond.constant "java/lang/Integer" (266 : Nat) (858993459 : Int32)) ∈ lw_all := lw_g (lw_at lw_m5 71 rfl) rfl
theorem q1183 : (Jvm.Cond.constant "java/lang/Integer" (267 : Nat) (252645135 : Int32)) ∈ lw_all := lw_g (lw_at lw_m5 72 rfl) rfl
theorem q1184 : (Jvm.Cond.methodLink "SelfSorting" (345 : Nat) ({ cls := "SelfSorting", name := "calmNumber", desc := "(I)I" } : Jvm.MethodName)) ∈ lw_all := lw_g (lw_at lw_m5 73 rfl) rfl
theorem q1185 : (Jvm.Cond.privateMethod ({ cls := "SelfSorting", name := "calmNumber", desc := "(I)I" } : Jvm.MethodName)) ∈ lw_tbl := lw_at lw_m5 74 rfl
theorem q1186 : (Jvm.Cond.instanceMethod ({ cls := "SelfSorting", name := "calmNumber", desc := "(I)I" } : Jvm.MethodName)) ∈ lw_all := lw_g (lw_at lw_m5 75 rfl) rfl
theorem q1187 : (Jvm.Cond.code ({ cls := "SelfSorting", name := "calmNumber", desc := "(I)I" } : Jvm.MethodName) prog_1_method_55_code (3 : Nat) (Option.some Jvm.ClassFile.FieldType.int)) ∈ lw_all := lw_g (lw_at lw_m5 76 rfl) rfl
theorem q1188 : (Jvm.Cond.methodLink "SelfSorting" (326 : Nat) ({ cls := "SelfSorting", name := "rows", desc := "(I)I" } : Jvm.MethodName)) ∈ lw_all := lw_g (lw_at lw_m5 77 rfl) rfl
theorem q1189 : (Jvm.Cond.static ({ cls := "SelfSorting", name := "rows", desc := "(I)I" } : Jvm.MethodName)) ∈ lw_all := lw_g (lw_at lw_m5 78 rfl) rfl
theorem q1190 : (Jvm.Cond.code ({ cls := "SelfSorting", name := "rows", desc := "(I)I" } : Jvm.MethodName) prog_1_method_51_code (1 : Nat) (Option.some Jvm.ClassFile.FieldType.int)) ∈ lw_all := lw_g (lw_at lw_m5 79 rfl) rfl
theorem q1191 : (Jvm.Cond.methodLink "SelfSorting" (339 : Nat) ({ cls := "SelfSorting", name := "laysOrder", desc := "(I)V" } : Jvm.MethodName)) ∈ lw_all := lw_g (lw_at lw_m5 80 rfl) rfl
theorem q1192 : (Jvm.Cond.privateMethod ({ cls := "SelfSorting", name := "laysOrder", desc := "(I)V" } : Jvm.MethodName)) ∈ lw_tbl := lw_at lw_m5 81 rfl
theorem q1193 : (Jvm.Cond.instanceMethod ({ cls := "SelfSorting", name := "laysOrder", desc := "(I)V" } : Jvm.MethodName)) ∈ lw_all := lw_g (lw_at lw_m5 82 rfl) rfl
theorem q1194 : (Jvm.Cond.code ({ cls := "SelfSorting", name := "laysOrder", desc := "(I)V" } : Jvm.MethodName) prog_1_method_53_code (7 : Nat) (Option.none : Option Jvm.ClassFile.FieldType)) ∈ lw_all := lw_g (lw_at lw_m5 83 rfl) rfl
theorem q1195 : (Jvm.Cond.methodLink "SelfSortingLaw" (119 : Nat) ({ cls := "SelfSorting", name := "basin", desc := "(II)I" } : Jvm.MethodName)) ∈ lw_all := lw_g (lw_at lw_m5 84 rfl) rfl
theorem q1196 : (Jvm.Cond.instanceMethod ({ cls := "SelfSorting", name := "basin", desc := "(II)I" } : Jvm.MethodName)) ∈ lw_all := lw_g (lw_at lw_m5 85 rfl) rfl
theorem q1197 : (Jvm.Cond.selects "SelfSorting" ({ cls := "SelfSorting", name := "basin", desc := "(II)I" } : Jvm.MethodName) ({ cls := "SelfSorting", name := "basin", desc := "(II)I" } : Jvm.MethodName)) ∈ lw_all := lw_g (lw_at lw_m5 86 rfl) rfl
theorem q1198 : (Jvm.Cond.code ({ cls := "SelfSorting", name := "basin", desc := "(II)I" } : Jvm.MethodName) prog_1_method_59_code (4 : Nat) (Option.some Jvm.ClassFile.FieldType.int)) ∈ lw_all := lw_g (lw_at lw_m5 87 rfl) rfl
theorem q1199 : (Jvm.Cond.methodLink "SelfSorting" (354 : Nat) ({ cls := "SelfSorting", name := "leadTo", desc := "(I)I" } : Jvm.MethodName)) ∈ lw_all := lw_g (lw_at lw_m5 88 rfl) rfl
theorem q1200 : (Jvm.Cond.privateMethod ({ cls := "SelfSorting", name := "leadTo", desc := "(I)I" } : Jvm.MethodName)) ∈ lw_tbl := lw_at lw_m5 89 rfl
theorem q1201 : (Jvm.Cond.instanceMethod ({ cls := "SelfSorting", name := "leadTo", desc := "(I)I" } : Jvm.MethodName)) ∈ lw_all := lw_g (lw_at lw_m5 90 rfl) rfl
theorem q1202 : (Jvm.Cond.code ({ cls := "SelfSorting", name := "leadTo", desc := "(I)I" } : Jvm.MethodName) prog_1_method_58_code (4 : Nat) (Option.some Jvm.ClassFile.FieldType.int)) ∈ lw_all := lw_g (lw_at lw_m5 91 rfl) rfl
theorem q1203 : (Jvm.Cond.methodLink "SelfSorting" (351 : Nat) ({ cls := "SelfSorting", name := "endOf", desc := "()I" } : Jvm.MethodName)) ∈ lw_all := lw_g (lw_at lw_m5 92 rfl) rfl
theorem q1204 : (Jvm.Cond.privateMethod ({ cls := "SelfSorting", name := "endOf", desc := "()I" } : Jvm.MethodName)) ∈ lw_tbl := lw_at lw_m5 93 rfl
theorem q1205 : (Jvm.Cond.instanceMethod ({ cls := "SelfSorting", name := "endOf", desc := "()I" } : Jvm.MethodName)) ∈ lw_all := lw_g (lw_at lw_m5 94 rfl) rfl
theorem q1206 : (Jvm.Cond.code ({ cls := "SelfSorting", name := "endOf", desc := "()I" } : Jvm.MethodName) prog_1_method_57_code (4 : Nat) (Option.some Jvm.ClassFile.FieldType.int)) ∈ lw_all := lw_g (lw_at lw_m5 95 rfl) rfl
theorem q1207 : (Jvm.Cond.methodLink "SelfSorting" (348 : Nat) ({ cls := "SelfSorting", name := "numberOf", desc := "()I" } : Jvm.MethodName)) ∈ lw_all := lw_g (lw_at lw_m5 96 rfl) rfl
theorem q1208 : (Jvm.Cond.privateMethod ({ cls := "SelfSorting", name := "numberOf", desc := "()I" } : Jvm.MethodName)) ∈ lw_tbl := lw_at lw_m5 97 rfl
theorem q1209 : (Jvm.Cond.instanceMethod ({ cls := "SelfSorting", name := "numberOf", desc := "()I" } : Jvm.MethodName)) ∈ lw_all := lw_g (lw_at lw_m5 98 rfl) rfl
theorem q1210 : (Jvm.Cond.code ({ cls := "SelfSorting", name := "numberOf", desc := "()I" } : Jvm.MethodName) prog_1_method_54_code (5 : Nat) (Option.some Jvm.ClassFile.FieldType.int)) ∈ lw_all := lw_g (lw_at lw_m5 99 rfl) rfl
theorem q1211 : (Jvm.Cond.methodLink "SelfSortingLaw" (123 : Nat) ({ cls := "SelfSorting", name := "never", desc := "(I)I" } : Jvm.MethodName)) ∈ lw_all := lw_g (lw_at lw_m5 100 rfl) rfl
theorem q1212 : (Jvm.Cond.instanceMethod ({ cls := "SelfSorting", name := "never", desc := "(I)I" } : Jvm.MethodName)) ∈ lw_all := lw_g (lw_at lw_m5 101 rfl) rfl
theorem q1213 : (Jvm.Cond.selects "SelfSorting" ({ cls := "SelfSorting", name := "never", desc := "(I)I" } : Jvm.MethodName) ({ cls := "SelfSorting", name := "never", desc := "(I)I" } : Jvm.MethodName)) ∈ lw_all := lw_g (lw_at lw_m5 102 rfl) rfl
theorem q1214 : (Jvm.Cond.code ({ cls := "SelfSorting", name := "never", desc := "(I)I" } : Jvm.MethodName) prog_1_method_60_code (2 : Nat) (Option.some Jvm.ClassFile.FieldType.int)) ∈ lw_all := lw_g (lw_at lw_m5 103 rfl) rfl
theorem q1215 : (Jvm.Cond.methodLink "SelfSortingLaw" (127 : Nat) ({ cls := "SelfSorting", name := "trouble", desc := "()I" } : Jvm.MethodName)) ∈ lw_all := lw_g (lw_at lw_m5 104 rfl) rfl
theorem q1216 : (Jvm.Cond.instanceMethod ({ cls := "SelfSorting", name := "trouble", desc := "()I" } : Jvm.MethodName)) ∈ lw_all := lw_g (lw_at lw_m5 105 rfl) rfl
theorem q1217 : (Jvm.Cond.selects "SelfSorting" ({ cls := "SelfSorting", name := "trouble", desc := "()I" } : Jvm.MethodName) ({ cls := "SelfSorting", name := "trouble", desc := "()I" } : Jvm.MethodName)) ∈ lw_all := lw_g (lw_at lw_m5 106 rfl) rfl
theorem q1218 : (Jvm.Cond.code ({ cls := "SelfSorting", name := "trouble", desc := "()I" } : Jvm.MethodName) prog_1_method_62_code (3 : Nat) (Option.some Jvm.ClassFile.FieldType.int)) ∈ lw_all := lw_g (lw_at lw_m5 107 rfl) rfl
theorem q1219 : (Jvm.Cond.methodLink "SelfSorting" (357 : Nat) ({ cls := "SelfSorting", name := "isTrouble", desc := "()Z" } : Jvm.MethodName)) ∈ lw_all := lw_g (lw_at lw_m5 108 rfl) rfl
theorem q1220 : (Jvm.Cond.privateMethod ({ cls := "SelfSorting", name := "isTrouble", desc := "()Z" } : Jvm.MethodName)) ∈ lw_tbl := lw_at lw_m5 109 rfl
theorem q1221 : (Jvm.Cond.instanceMethod ({ cls := "SelfSorting", name := "isTrouble", desc := "()Z" } : Jvm.MethodName)) ∈ lw_all := lw_g (lw_at lw_m5 110 rfl) rfl
theorem q1222 : (Jvm.Cond.code ({ cls := "SelfSorting", name := "isTrouble", desc := "()Z" } : Jvm.MethodName) prog_1_method_61_code (2 : Nat) (Option.some Jvm.ClassFile.FieldType.boolean)) ∈ lw_all := lw_g (lw_at lw_m5 111 rfl) rfl
theorem q1223 : (Jvm.Cond.methodLink "SelfSortingLaw" (131 : Nat) ({ cls := "SelfSorting", name := "rank", desc := "(II)I" } : Jvm.MethodName)) ∈ lw_all := lw_g (lw_at lw_m5 112 rfl) rfl
theorem q1224 : (Jvm.Cond.instanceMethod ({ cls := "SelfSorting", name := "rank", desc := "(II)I" } : Jvm.MethodName)) ∈ lw_all := lw_g (lw_at lw_m5 113 rfl) rfl
theorem q1225 : (Jvm.Cond.selects "SelfSorting" ({ cls := "SelfSorting", name := "rank", desc := "(II)I" } : Jvm.MethodName) ({ cls := "SelfSorting", name := "rank", desc := "(II)I" } : Jvm.MethodName)) ∈ lw_all := lw_g (lw_at lw_m5 114 rfl) rfl
theorem q1226 : (Jvm.Cond.code ({ cls := "SelfSorting", name := "rank", desc := "(II)I" } : Jvm.MethodName) prog_1_method_64_code (4 : Nat) (Option.some Jvm.ClassFile.FieldType.int)) ∈ lw_all := lw_g (lw_at lw_m5 115 rfl) rfl
theorem q1227 : (Jvm.Cond.methodLink "SelfSorting" (361 : Nat) ({ cls := "SelfSorting", name := "isRank", desc := "()Z" } : Jvm.MethodName)) ∈ lw_all := lw_g (lw_at lw_m5 116 rfl) rfl
theorem q1228 : (Jvm.Cond.privateMethod ({ cls := "SelfSorting", name := "isRank", desc := "()Z" } : Jvm.MethodName)) ∈ lw_tbl := lw_at lw_m5 117 rfl
theorem q1229 : (Jvm.Cond.instanceMethod ({ cls := "SelfSorting", name := "isRank", desc := "()Z" } : Jvm.MethodName)) ∈ lw_all := lw_g (lw_at lw_m5 118 rfl) rfl
theorem q1230 : (Jvm.Cond.code ({ cls := "SelfSorting", name := "isRank", desc := "()Z" } : Jvm.MethodName) prog_1_method_63_code (3 : Nat) (Option.some Jvm.ClassFile.FieldType.boolean)) ∈ lw_all := lw_g (lw_at lw_m5 119 rfl) rfl
theorem q1231 : (Jvm.Cond.methodLink "SelfSortingLaw" (135 : Nat) ({ cls := "SelfSorting", name := "nudges", desc := "(IIIII)I" } : Jvm.MethodName)) ∈ lw_all := lw_g (lw_at lw_m5 120 rfl) rfl
theorem q1232 : (Jvm.Cond.instanceMethod ({ cls := "SelfSorting", name := "nudges", desc := "(IIIII)I" } : Jvm.MethodName)) ∈ lw_all := lw_g (lw_at lw_m5 121 rfl) rfl
theorem q1233 : (Jvm.Cond.selects "SelfSorting" ({ cls := "SelfSorting", name := "nudges", desc := "(IIIII)I" } : Jvm.MethodName) ({ cls := "SelfSorting", name := "nudges", desc := "(IIIII)I" } : Jvm.MethodName)) ∈ lw_all := lw_g (lw_at lw_m5 122 rfl) rfl
theorem q1234 : (Jvm.Cond.code ({ cls := "SelfSorting", name := "nudges", desc := "(IIIII)I" } : Jvm.MethodName) prog_1_method_69_code (10 : Nat) (Option.some Jvm.ClassFile.FieldType.int)) ∈ lw_all := lw_g (lw_at lw_m5 123 rfl) rfl
theorem q1235 : (Jvm.Cond.methodLink "SelfSorting" (364 : Nat) ({ cls := "SelfSorting", name := "isPlaced", desc := "(III)Z" } : Jvm.MethodName)) ∈ lw_all := lw_g (lw_at lw_m5 124 rfl) rfl
theorem q1236 : (Jvm.Cond.privateMethod ({ cls := "SelfSorting", name := "isPlaced", desc := "(III)Z" } : Jvm.MethodName)) ∈ lw_tbl := lw_at lw_m5 125 rfl
theorem q1237 : (Jvm.Cond.instanceMethod ({ cls := "SelfSorting", name := "isPlaced", desc := "(III)Z" } : Jvm.MethodName)) ∈ lw_all := lw_g (lw_at lw_m5 126 rfl) rfl
theorem q1238 : (Jvm.Cond.code ({ cls := "SelfSorting", name := "isPlaced", desc := "(III)Z" } : Jvm.MethodName) prog_1_method_68_code (4 : Nat) (Option.some Jvm.ClassFile.FieldType.boolean)) ∈ lw_all := lw_g (lw_at lw_m5 127 rfl) rfl
theorem q1239 : (Jvm.Cond.methodLink "SelfSorting" (367 : Nat) ({ cls := "SelfSorting", name := "setOf", desc := "(I)I" } : Jvm.MethodName)) ∈ lw_all := lw_g (lw_at lw_m5 128 rfl) rfl
theorem q1240 : (Jvm.Cond.privateMethod ({ cls := "SelfSorting", name := "setOf", desc := "(I)I" } : Jvm.MethodName)) ∈ lw_tbl := lw_at lw_m5 129 rfl
theorem q1241 : (Jvm.Cond.instanceMethod ({ cls := "SelfSorting", name := "setOf", desc := "(I)I" } : Jvm.MethodName)) ∈ lw_all := lw_g (lw_at lw_m5 130 rfl) rfl
theorem q1242 : (Jvm.Cond.code ({ cls := "SelfSorting", name := "setOf", desc := "(I)I" } : Jvm.MethodName) prog_1_method_65_code (4 : Nat) (Option.some Jvm.ClassFile.FieldType.int)) ∈ lw_all := lw_g (lw_at lw_m5 131 rfl) rfl
theorem q1243 : (Jvm.Cond.methodLink "SelfSorting" (370 : Nat) ({ cls := "java/util/Arrays", name := "fill", desc := "([II)V" } : Jvm.MethodName)) ∈ lw_all := lw_g (lw_at lw_m5 132 rfl) rfl
theorem q1244 : (Jvm.Cond.methodLink "SelfSorting" (376 : Nat) ({ cls := "SelfSorting", name := "stands", desc := "(II)Z" } : Jvm.MethodName)) ∈ lw_all := lw_g (lw_at lw_m5 133 rfl) rfl
theorem q1245 : (Jvm.Cond.privateMethod ({ cls := "SelfSorting", name := "stands", desc := "(II)Z" } : Jvm.MethodName)) ∈ lw_tbl := lw_at lw_m5 134 rfl
theorem q1246 : (Jvm.Cond.instanceMethod ({ cls := "SelfSorting", name := "stands", desc := "(II)Z" } : Jvm.MethodName)) ∈ lw_all := lw_g (lw_at lw_m5 135 rfl) rfl
theorem q1247 : (Jvm.Cond.code ({ cls := "SelfSorting", name := "stands", desc := "(II)Z" } : Jvm.MethodName) prog_1_method_66_code (3 : Nat) (Option.some Jvm.ClassFile.FieldType.boolean)) ∈ lw_all := lw_g (lw_at lw_m5 136 rfl) rfl
theorem q1248 : (Jvm.Cond.methodLink "SelfSorting" (379 : Nat) ({ cls := "SelfSorting", name := "swaps", desc := "(I)V" } : Jvm.MethodName)) ∈ lw_all := lw_g (lw_at lw_m5 137 rfl) rfl
theorem q1249 : (Jvm.Cond.privateMethod ({ cls := "SelfSorting", name := "swaps", desc := "(I)V" } : Jvm.MethodName)) ∈ lw_tbl := lw_at lw_m5 138 rfl
theorem q1250 : (Jvm.Cond.instanceMethod ({ cls := "SelfSorting", name := "swaps", desc := "(I)V" } : Jvm.MethodName)) ∈ lw_all := lw_g (lw_at lw_m5 139 rfl) rfl
theorem q1251 : (Jvm.Cond.code ({ cls := "SelfSorting", name := "swaps", desc := "(I)V" } : Jvm.MethodName) prog_1_method_67_code (3 : Nat) (Option.none : Option Jvm.ClassFile.FieldType)) ∈ lw_all := lw_g (lw_at lw_m5 140 rfl) rfl
theorem q1252 : (Jvm.Cond.methodLink "SelfSortingLaw" (139 : Nat) ({ cls := "SelfSorting", name := "game", desc := "(IIIZ)I" } : Jvm.MethodName)) ∈ lw_all := lw_g (lw_at lw_m5 141 rfl) rfl
theorem q1253 : (Jvm.Cond.instanceMethod ({ cls := "SelfSorting", name := "game", desc := "(IIIZ)I" } : Jvm.MethodName)) ∈ lw_all := lw_g (lw_at lw_m5 142 rfl) rfl
theorem q1254 : (Jvm.Cond.selects "SelfSorting" ({ cls := "SelfSorting", name := "game", desc := "(IIIZ)I" } : Jvm.MethodName) ({ cls := "SelfSorting", name := "game", desc := "(IIIZ)I" } : Jvm.MethodName)) ∈ lw_all := lw_g (lw_at lw_m5 143 rfl) rfl
theorem q1255 : (Jvm.Cond.code ({ cls := "SelfSorting", name := "game", desc := "(IIIZ)I" } : Jvm.MethodName) prog_1_method_73_code (7 : Nat) (Option.some Jvm.ClassFile.FieldType.int)) ∈ lw_all := lw_g (lw_at lw_m5 144 rfl) rfl
theorem q1256 : (Jvm.Cond.methodLink "SelfSorting" (389 : Nat) ({ cls := "SelfSorting", name := "plays", desc := "(III)I" } : Jvm.MethodName)) ∈ lw_all := lw_g (lw_at lw_m5 145 rfl) rfl
theorem q1257 : (Jvm.Cond.privateMethod ({ cls := "SelfSorting", name := "plays", desc := "(III)I" } : Jvm.MethodName)) ∈ lw_tbl := lw_at lw_m5 146 rfl
theorem q1258 : (Jvm.Cond.instanceMethod ({ cls := "SelfSorting", name := "plays", desc := "(III)I" } : Jvm.MethodName)) ∈ lw_all := lw_g (lw_at lw_m5 147 rfl) rfl
theorem q1259 : (Jvm.Cond.code ({ cls := "SelfSorting", name := "plays", desc := "(III)I" } : Jvm.MethodName) prog_1_method_72_code (7 : Nat) (Option.some Jvm.ClassFile.FieldType.int)) ∈ lw_all := lw_g (lw_at lw_m5 148 rfl) rfl
theorem q1260 : (Jvm.Cond.methodLink "SelfSorting" (382 : Nat) ({ cls := "SelfSorting", name := "placeIn", desc := "([II)I" } : Jvm.MethodName)) ∈ lw_all := lw_g (lw_at lw_m5 149 rfl) rfl
theorem q1261 : (Jvm.Cond.static ({ cls := "SelfSorting", name := "placeIn", desc := "([II)I" } : Jvm.MethodName)) ∈ lw_all := lw_g (lw_at lw_m5 150 rfl) rfl
theorem q1262 : (Jvm.Cond.code ({ cls := "SelfSorting", name := "placeIn", desc := "([II)I" } : Jvm.MethodName) prog_1_method_70_code (3 : Nat) (Option.some Jvm.ClassFile.FieldType.int)) ∈ lw_all := lw_g (lw_at lw_m5 151 rfl) rfl
theorem q1263 : (Jvm.Cond.methodLink "SelfSorting" (386 : Nat) ({ cls := "SelfSorting", name := "moves", desc := "(II)V" } : Jvm.MethodName)) ∈ lw_all := lw_g (lw_at lw_m5 152 rfl) rfl
theorem q1264 : (Jvm.Cond.privateMethod ({ cls := "SelfSorting", name := "moves", desc := "(II)V" } : Jvm.MethodName)) ∈ lw_tbl := lw_at lw_m5 153 rfl
theorem q1265 : (Jvm.Cond.instanceMethod ({ cls := "SelfSorting", name := "moves", desc := "(II)V" } : Jvm.MethodName)) ∈ lw_all := lw_g (lw_at lw_m5 154 rfl) rfl
theorem q1266 : (Jvm.Cond.code ({ cls := "SelfSorting", name := "moves", desc := "(II)V" } : Jvm.MethodName) prog_1_method_71_code (4 : Nat) (Option.none : Option Jvm.ClassFile.FieldType)) ∈ lw_all := lw_g (lw_at lw_m5 155 rfl) rfl
theorem q1267 : (Jvm.Cond.methodLink "SelfSortingLaw" (144 : Nat) ({ cls := "SelfSorting", name := "catalogue", desc := "(IIIZ)I" } : Jvm.MethodName)) ∈ lw_all := lw_g (lw_at lw_m5 156 rfl) rfl
theorem q1268 : (Jvm.Cond.instanceMethod ({ cls := "SelfSorting", name := "catalogue", desc := "(IIIZ)I" } : Jvm.MethodName)) ∈ lw_all := lw_g (lw_at lw_m5 157 rfl) rfl
theorem q1269 : (Jvm.Cond.selects "SelfSorting" ({ cls := "SelfSorting", name := "catalogue", desc := "(IIIZ)I" } : Jvm.MethodName) ({ cls := "SelfSorting", name := "catalogue", desc := "(IIIZ)I" } : Jvm.MethodName)) ∈ lw_all := lw_g (lw_at lw_m5 158 rfl) rfl
theorem q1270 : (Jvm.Cond.code ({ cls := "SelfSorting", name := "catalogue", desc := "(IIIZ)I" } : Jvm.MethodName) prog_1_method_74_code (7 : Nat) (Option.some Jvm.ClassFile.FieldType.int)) ∈ lw_all := lw_g (lw_at lw_m5 159 rfl) rfl
theorem q1271 : (Jvm.Cond.methodLink "SelfSorting" (392 : Nat) ({ cls := "SelfSorting", name := "looks", desc := "(I)I" } : Jvm.MethodName)) ∈ lw_all := lw_g (lw_at lw_m5 160 rfl) rfl
theorem q1272 : (Jvm.Cond.privateMethod ({ cls := "SelfSorting", name := "looks", desc := "(I)I" } : Jvm.MethodName)) ∈ lw_tbl := lw_at lw_m5 161 rfl
theorem q1273 : (Jvm.Cond.instanceMethod ({ cls := "SelfSorting", name := "looks", desc := "(I)I" } : Jvm.MethodName)) ∈ lw_all := lw_g (lw_at lw_m5 162 rfl) rfl
theorem q1274 : (Jvm.Cond.code ({ cls := "SelfSorting", name := "looks", desc := "(I)I" } : Jvm.MethodName) prog_1_method_75_code (5 : Nat) (Option.some Jvm.ClassFile.FieldType.int)) ∈ lw_all := lw_g (lw_at lw_m5 163 rfl) rfl
theorem q1275 : (Jvm.Cond.methodLink "SelfSortingLaw" (148 : Nat) ({ cls := "SelfSorting", name := "theft", desc := "(I)I" } : Jvm.MethodName)) ∈ lw_all := lw_g (lw_at lw_m5 164 rfl) rfl
theorem q1276 : (Jvm.Cond.instanceMethod ({ cls := "SelfSorting", name := "theft", desc := "(I)I" } : Jvm.MethodName)) ∈ lw_all := lw_g (lw_at lw_m5 165 rfl) rfl
theorem q1277 : (Jvm.Cond.selects "SelfSorting" ({ cls := "SelfSorting", name := "theft", desc := "(I)I" } : Jvm.MethodName) ({ cls := "SelfSorting", name := "theft", desc := "(I)I" } : Jvm.MethodName)) ∈ lw_all := lw_g (lw_at lw_m5 166 rfl) rfl
theorem q1278 : (Jvm.Cond.code ({ cls := "SelfSorting", name := "theft", desc := "(I)I" } : Jvm.MethodName) prog_1_method_77_code (2 : Nat) (Option.some Jvm.ClassFile.FieldType.int)) ∈ lw_all := lw_g (lw_at lw_m5 167 rfl) rfl
theorem q1279 : (Jvm.Cond.methodLink "SelfSorting" (395 : Nat) ({ cls := "SelfSorting", name := "theftOf", desc := "(I)I" } : Jvm.MethodName)) ∈ lw_all := lw_g (lw_at lw_m5 168 rfl) rfl
theorem q1280 : (Jvm.Cond.privateMethod ({ cls := "SelfSorting", name := "theftOf", desc := "(I)I" } : Jvm.MethodName)) ∈ lw_tbl := lw_at lw_m5 169 rfl
theorem q1281 : (Jvm.Cond.instanceMethod ({ cls := "SelfSorting", name := "theftOf", desc := "(I)I" } : Jvm.MethodName)) ∈ lw_all := lw_g (lw_at lw_m5 170 rfl) rfl
theorem q1282 : (Jvm.Cond.code ({ cls := "SelfSorting", name := "theftOf", desc := "(I)I" } : Jvm.MethodName) prog_1_method_76_code (6 : Nat) (Option.some Jvm.ClassFile.FieldType.int)) ∈ lw_all := lw_g (lw_at lw_m5 171 rfl) rfl
theorem q1283 : (Jvm.Cond.methodLink "SelfSortingLaw" (152 : Nat) ({ cls := "SelfSorting", name := "cheapest", desc := "(I)I" } : Jvm.MethodName)) ∈ lw_all := lw_g (lw_at lw_m5 172 rfl) rfl
theorem q1284 : (Jvm.Cond.instanceMethod ({ cls := "SelfSorting", name := "cheapest", desc := "(I)I" } : Jvm.MethodName)) ∈ lw_all := lw_g (lw_at lw_m5 173 rfl) rfl
theorem q1285 : (Jvm.Cond.selects "SelfSorting" ({ cls := "SelfSorting", name := "cheapest", desc := "(I)I" } : Jvm.MethodName) ({ cls := "SelfSorting", name := "cheapest", desc := "(I)I" } : Jvm.MethodName)) ∈ lw_all := lw_g (lw_at lw_m5 174 rfl) rfl
theorem q1286 : (Jvm.Cond.code ({ cls := "SelfSorting", name := "cheapest", desc := "(I)I" } : Jvm.MethodName) prog_1_method_78_code (6 : Nat) (Option.some Jvm.ClassFile.FieldType.int)) ∈ lw_all := lw_g (lw_at lw_m5 175 rfl) rfl
theorem q1287 : (Jvm.Cond.methodLink "SelfSortingLaw" (156 : Nat) ({ cls := "SelfSorting", name := "dust", desc := "(IIZZ)I" } : Jvm.MethodName)) ∈ lw_all := lw_g (lw_at lw_m5 176 rfl) rfl
theorem q1288 : (Jvm.Cond.instanceMethod ({ cls := "SelfSorting", name := "dust", desc := "(IIZZ)I" } : Jvm.MethodName)) ∈ lw_all := lw_g (lw_at lw_m5 177 rfl) rfl
theorem q1289 : (Jvm.Cond.selects "SelfSorting" ({ cls := "SelfSorting", name := "dust", desc := "(IIZZ)I" } : Jvm.MethodName) ({ cls := "SelfSorting", name := "dust", desc := "(IIZZ)I" } : Jvm.MethodName)) ∈ lw_all := lw_g (lw_at lw_m5 178 rfl) rfl
theorem q1290 : (Jvm.Cond.code ({ cls := "SelfSorting", name := "dust", desc := "(IIZZ)I" } : Jvm.MethodName) prog_1_method_79_code (6 : Nat) (Option.some Jvm.ClassFile.FieldType.int)) ∈ lw_all := lw_g (lw_at lw_m5 179 rfl) rfl
theorem q1291 : (Jvm.Cond.methodLink "SelfSortingLaw" (161 : Nat) ({ cls := "SelfSorting", name := "laws", desc := "(I)I" } : Jvm.MethodName)) ∈ lw_all := lw_g (lw_at lw_m5 180 rfl) rfl
theorem q1292 : (Jvm.Cond.instanceMethod ({ cls := "SelfSorting", name := "laws", desc := "(I)I" } : Jvm.MethodName)) ∈ lw_all := lw_g (lw_at lw_m5 181 rfl) rfl
theorem q1293 : (Jvm.Cond.selects "SelfSorting" ({ cls := "SelfSorting", name := "laws", desc := "(I)I" } : Jvm.MethodName) ({ cls := "SelfSorting", name := "laws", desc := "(I)I" } : Jvm.MethodName)) ∈ lw_all := lw_g (lw_at lw_m5 182 rfl) rfl
theorem q1294 : (Jvm.Cond.code ({ cls := "SelfSorting", name := "laws", desc := "(I)I" } : Jvm.MethodName) prog_1_method_82_code (2 : Nat) (Option.some Jvm.ClassFile.FieldType.int)) ∈ lw_all := lw_g (lw_at lw_m5 183 rfl) rfl
theorem q1295 : (Jvm.Cond.methodLink "SelfSorting" (404 : Nat) ({ cls := "SelfSorting", name := "lawsOf", desc := "(I)I" } : Jvm.MethodName)) ∈ lw_all := lw_g (lw_at lw_m5 184 rfl) rfl
theorem q1296 : (Jvm.Cond.privateMethod ({ cls := "SelfSorting", name := "lawsOf", desc := "(I)I" } : Jvm.MethodName)) ∈ lw_tbl := lw_at lw_m5 185 rfl
theorem q1297 : (Jvm.Cond.instanceMethod ({ cls := "SelfSorting", name := "lawsOf", desc := "(I)I" } : Jvm.MethodName)) ∈ lw_all := lw_g (lw_at lw_m5 186 rfl) rfl
theorem q1298 : (Jvm.Cond.code ({ cls := "SelfSorting", name := "lawsOf", desc := "(I)I" } : Jvm.MethodName) prog_1_method_81_code (4 : Nat) (Option.some Jvm.ClassFile.FieldType.int)) ∈ lw_all := lw_g (lw_at lw_m5 187 rfl) rfl
theorem q1299 : (Jvm.Cond.methodLink "SelfSorting" (401 : Nat) ({ cls := "SelfSorting", name := "fitsDust", desc := "(II)Z" } : Jvm.MethodName)) ∈ lw_all := lw_g (lw_at lw_m5 188 rfl) rfl
theorem q1300 : (Jvm.Cond.privateMethod ({ cls := "SelfSorting", name := "fitsDust", desc := "(II)Z" } : Jvm.MethodName)) ∈ lw_tbl := lw_at lw_m5 189 rfl
theorem q1301 : (Jvm.Cond.instanceMethod ({ cls := "SelfSorting", name := "fitsDust", desc := "(II)Z" } : Jvm.MethodName)) ∈ lw_all := lw_g (lw_at lw_m5 190 rfl) rfl
theorem q1302 : (Jvm.Cond.code ({ cls := "SelfSorting", name := "fitsDust", desc := "(II)Z" } : Jvm.MethodName) prog_1_method_80_code (5 : Nat) (Option.some Jvm.ClassFile.FieldType.boolean)) ∈ lw_all := lw_g (lw_at lw_m5 191 rfl) rfl
theorem q1303 : (Jvm.Cond.methodLink "SelfSortingLaw" (165 : Nat) ({ cls := "SelfSorting", name := "tells", desc := "(I)I" } : Jvm.MethodName)) ∈ lw_all := lw_g (lw_at lw_m5 192 rfl) rfl
theorem q1304 : (Jvm.Cond.instanceMethod ({ cls := "SelfSorting", name := "tells", desc := "(I)I" } : Jvm.MethodName)) ∈ lw_all := lw_g (lw_at lw_m5 193 rfl) rfl
theorem q1305 : (Jvm.Cond.selects "SelfSorting" ({ cls := "SelfSorting", name := "tells", desc := "(I)I" } : Jvm.MethodName) ({ cls := "SelfSorting", name := "tells", desc := "(I)I" } : Jvm.MethodName)) ∈ lw_all := lw_g (lw_at lw_m5 194 rfl) rfl
theorem q1306 : (Jvm.Cond.code ({ cls := "SelfSorting", name := "tells", desc := "(I)I" } : Jvm.MethodName) prog_1_method_84_code (7 : Nat) (Option.some Jvm.ClassFile.FieldType.int)) ∈ lw_all := lw_g (lw_at lw_m5 195 rfl) rfl
theorem q1307 : (Jvm.Cond.methodLink "SelfSorting" (409 : Nat) ({ cls := "SelfSorting", name := "laws", desc := "(I)I" } : Jvm.MethodName)) ∈ lw_all := lw_g (lw_at lw_m5 196 rfl) rfl
theorem q1308 : (Jvm.Cond.methodLink "SelfSorting" (412 : Nat) ({ cls := "SelfSorting", name := "mostAlike", desc := "(IIIZ)I" } : Jvm.MethodName)) ∈ lw_all := lw_g (lw_at lw_m5 197 rfl) rfl
theorem q1309 : (Jvm.Cond.privateMethod ({ cls := "SelfSorting", name := "mostAlike", desc := "(IIIZ)I" } : Jvm.MethodName)) ∈ lw_tbl := lw_at lw_m5 198 rfl
theorem q1310 : (Jvm.Cond.instanceMethod ({ cls := "SelfSorting", name := "mostAlike", desc := "(IIIZ)I" } : Jvm.MethodName)) ∈ lw_all := lw_g (lw_at lw_m5 199 rfl) rfl
theorem q1311 : (Jvm.Cond.code ({ cls := "SelfSorting", name := "mostAlike", desc := "(IIIZ)I" } : Jvm.MethodName) prog_1_method_83_code (7 : Nat) (Option.some Jvm.ClassFile.FieldType.int)) ∈ lw_all := lw_g (lw_at lw_m5 200 rfl) rfl
theorem q1312 : (Jvm.Cond.methodLink "SelfSorting" (407 : Nat) ({ cls := "java/lang/Math", name := "max", desc := "(II)I" } : Jvm.MethodName)) ∈ lw_all := lw_g (lw_at lw_m5 201 rfl) rfl
theorem q1313 : (Jvm.Cond.methodLink "SelfSortingLaw" (169 : Nat) ({ cls := "SelfSorting", name := "fits", desc := "(I)I" } : Jvm.MethodName)) ∈ lw_all := lw_g (lw_at lw_m5 202 rfl) rfl
theorem q1314 : (Jvm.Cond.instanceMethod ({ cls := "SelfSorting", name := "fits", desc := "(I)I" } : Jvm.MethodName)) ∈ lw_all := lw_g (lw_at lw_m5 203 rfl) rfl
theorem q1315 : (Jvm.Cond.selects "SelfSorting" ({ cls := "SelfSorting", name := "fits", desc := "(I)I" } : Jvm.MethodName) ({ cls := "SelfSorting", name := "fits", desc := "(I)I" } : Jvm.MethodName)) ∈ lw_all := lw_g (lw_at lw_m5 204 rfl) rfl
theorem q1316 : (Jvm.Cond.code ({ cls := "SelfSorting", name := "fits", desc := "(I)I" } : Jvm.MethodName) prog_1_method_85_code (9 : Nat) (Option.some Jvm.ClassFile.FieldType.int)) ∈ lw_all := lw_g (lw_at lw_m5 205 rfl) rfl
theorem q1317 : (Jvm.Cond.methodLink "SelfSorting" (416 : Nat) ({ cls := "SelfSorting", name := "thickOf", desc := "(I)I" } : Jvm.MethodName)) ∈ lw_all := lw_g (lw_at lw_m5 206 rfl) rfl
theorem q1318 : (Jvm.Cond.privateMethod ({ cls := "SelfSorting", name := "thickOf", desc := "(I)I" } : Jvm.MethodName)) ∈ lw_tbl := lw_at lw_m5 207 rfl
theorem q1319 : (Jvm.Cond.instanceMethod ({ cls := "SelfSorting", name := "thickOf", desc := "(I)I" } : Jvm.MethodName)) ∈ lw_all := lw_g (lw_at lw_m5 208 rfl) rfl
theorem q1320 : (Jvm.Cond.code ({ cls := "SelfSorting", name := "thickOf", desc := "(I)I" } : Jvm.MethodName) prog_1_method_86_code (4 : Nat) (Option.some Jvm.ClassFile.FieldType.int)) ∈ lw_all := lw_g (lw_at lw_m5 209 rfl) rfl
theorem q1321 : (Jvm.Cond.methodLink "SelfSortingLaw" (173 : Nat) ({ cls := "SelfSorting", name := "image", desc := "()I" } : Jvm.MethodName)) ∈ lw_all := lw_g (lw_at lw_m5 210 rfl) rfl
theorem q1322 : (Jvm.Cond.instanceMethod ({ cls := "SelfSorting", name := "image", desc := "()I" } : Jvm.MethodName)) ∈ lw_all := lw_g (lw_at lw_m5 211 rfl) rfl
theorem q1323 : (Jvm.Cond.selects "SelfSorting" ({ cls := "SelfSorting", name := "image", desc := "()I" } : Jvm.MethodName) ({ cls := "SelfSorting", name := "image", desc := "()I" } : Jvm.MethodName)) ∈ lw_all := lw_g (lw_at lw_m5 212 rfl) rfl
theorem q1324 : (Jvm.Cond.code ({ cls := "SelfSorting", name := "image", desc := "()I" } : Jvm.MethodName) prog_1_method_87_code (1 : Nat) (Option.some Jvm.ClassFile.FieldType.int)) ∈ lw_all := lw_g (lw_at lw_m5 213 rfl) rfl
theorem q1325 : (Jvm.Cond.methodLink "SelfSortingLaw" (177 : Nat) ({ cls := "SelfSorting", name := "back", desc := "()I" } : Jvm.MethodName)) ∈ lw_all := lw_g (lw_at lw_m5 214 rfl) rfl
theorem q1326 : (Jvm.Cond.instanceMethod ({ cls := "SelfSorting", name := "back", desc := "()I" } : Jvm.MethodName)) ∈ lw_all := lw_g (lw_at lw_m5 215 rfl) rfl
theorem q1327 : (Jvm.Cond.selects "SelfSorting" ({ cls := "SelfSorting", name := "back", desc := "()I" } : Jvm.MethodName) ({ cls := "SelfSorting", name := "back", desc := "()I" } : Jvm.MethodName)) ∈ lw_all := lw_g (lw_at lw_m5 216 rfl) rfl
theorem q1328 : (Jvm.Cond.code ({ cls := "SelfSorting", name := "back", desc := "()I" } : Jvm.MethodName) prog_1_method_88_code (1 : Nat) (Option.some Jvm.ClassFile.FieldType.int)) ∈ lw_all := lw_g (lw_at lw_m5 217 rfl) rfl
theorem q1329 : (Jvm.Cond.methodLink "SelfSortingLaw" (181 : Nat) ({ cls := "SelfSorting", name := "about", desc := "(I)I" } : Jvm.MethodName)) ∈ lw_all := lw_g (lw_at lw_m5 218 rfl) rfl
theorem q1330 : (Jvm.Cond.instanceMethod ({ cls := "SelfSorting", name := "about", desc := "(I)I" } : Jvm.MethodName)) ∈ lw_all := lw_g (lw_at lw_m5 219 rfl) rfl
theorem q1331 : (Jvm.Cond.selects "SelfSorting" ({ cls := "SelfSorting", name := "about", desc := "(I)I" } : Jvm.MethodName) ({ cls := "SelfSorting", name := "about", desc := "(I)I" } : Jvm.MethodName)) ∈ lw_all := lw_g (lw_at lw_m5 220 rfl) rfl
theorem q1332 : (Jvm.Cond.code ({ cls := "SelfSorting", name := "about", desc := "(I)I" } : Jvm.MethodName) prog_1_method_90_code (2 : Nat) (Option.some Jvm.ClassFile.FieldType.int)) ∈ lw_all := lw_g (lw_at lw_m5 221 rfl) rfl
theorem q1333 : (Jvm.Cond.methodLink "SelfSorting" (419 : Nat) ({ cls := "SelfSorting", name := "onFloor", desc := "()I" } : Jvm.MethodName)) ∈ lw_all := lw_g (lw_at lw_m5 222 rfl) rfl
theorem q1334 : (Jvm.Cond.privateMethod ({ cls := "SelfSorting", name := "onFloor", desc := "()I" } : Jvm.MethodName)) ∈ lw_tbl := lw_at lw_m5 223 rfl
theorem q1335 : (Jvm.Cond.instanceMethod ({ cls := "SelfSorting", name := "onFloor", desc := "()I" } : Jvm.MethodName)) ∈ lw_all := lw_g (lw_at lw_m5 224 rfl) rfl
theorem q1336 : (Jvm.Cond.code ({ cls := "SelfSorting", name := "onFloor", desc := "()I" } : Jvm.MethodName) prog_1_method_89_code (3 : Nat) (Option.some Jvm.ClassFile.FieldType.int)) ∈ lw_all := lw_g (lw_at lw_m5 225 rfl) rfl
theorem q1337 : (Jvm.Cond.classLink "SelfSortingLaw" (10 : Nat) "SelfSortingModel") ∈ lw_all := lw_g (lw_at lw_m5 226 rfl) rfl
theorem q1338 : (Jvm.Cond.instantiable "SelfSortingModel" (43 : Nat)) ∈ lw_all := lw_g (lw_at lw_m5 227 rfl) rfl
theorem q1339 : (Jvm.Cond.methodLink "SelfSortingLaw" (12 : Nat) ({ cls := "SelfSortingModel", name := "<init>", desc := "()V" } : Jvm.MethodName)) ∈ lw_all := lw_g (lw_at lw_m5 228 rfl) rfl
theorem q1340 : (Jvm.Cond.instanceMethod ({ cls := "SelfSortingModel", name := "<init>", desc := "()V" } : Jvm.MethodName)) ∈ lw_all := lw_g (lw_at lw_m5 229 rfl) rfl
theorem q1341 : (Jvm.Cond.code ({ cls := "SelfSortingModel", name := "<init>", desc := "()V" } : Jvm.MethodName) prog_17_method_1_code (2 : Nat) (Option.none : Option Jvm.ClassFile.FieldType)) ∈ lw_all := lw_g (lw_at lw_m5 230 rfl) rfl
theorem q1342 : (Jvm.Cond.methodLink "SelfSortingModel" (1 : Nat) ({ cls := "java/lang/Object", name := "<init>", desc := "()V" } : Jvm.MethodName)) ∈ lw_all := lw_g (lw_at lw_m5 231 rfl) rfl
theorem q1343 : (Jvm.Cond.methodLink "SelfSortingModel" (85 : Nat) ({ cls := "SelfSortingModel", name := "copy", desc := "([I[I)V" } : Jvm.MethodName)) ∈ lw_all := lw_g (lw_at lw_m5 232 rfl) rfl
theorem q1344 : (Jvm.Cond.static ({ cls := "SelfSortingModel", name := "copy", desc := "([I[I)V" } : Jvm.MethodName)) ∈ lw_all := lw_g (lw_at lw_m5 233 rfl) rfl
theorem q1345 : (Jvm.Cond.code ({ cls := "SelfSortingModel", name := "copy", desc := "([I[I)V" } : Jvm.MethodName) prog_17_method_2_code (3 : Nat) (Option.none : Option Jvm.ClassFile.FieldType)) ∈ lw_all := lw_g (lw_at lw_m5 234 rfl) rfl
theorem q1346 : (Jvm.Cond.fieldLink "SelfSortingModel" (7 : Nat) "SelfSortingModel" "a" "[I") ∈ lw_all := lw_g (lw_at lw_m5 235 rfl) rfl
theorem q1347 : (Jvm.Cond.fieldLink "SelfSortingModel" (13 : Nat) "SelfSortingModel" "image" "[I") ∈ lw_all := lw_g (lw_at lw_m5 236 rfl) rfl
theorem q1348 : (Jvm.Cond.fieldLink "SelfSortingModel" (16 : Nat) "SelfSortingModel" "texts" "[I") ∈ lw_all := lw_g (lw_at lw_m5 237 rfl) rfl
theorem q1349 : (Jvm.Cond.fieldLink "SelfSortingModel" (19 : Nat) "SelfSortingModel" "tape" "[I") ∈ lw_all := lw_g (lw_at lw_m5 238 rfl) rfl
theorem q1350 : (Jvm.Cond.fieldLink "SelfSortingModel" (108 : Nat) "SelfSortingModel" "taped" "I") ∈ lw_all := lw_g (lw_at lw_m5 239 rfl) rfl
theorem q1351 : (Jvm.Cond.fieldLink "SelfSortingModel" (22 : Nat) "SelfSortingModel" "fault" "I") ∈ lw_all := lw_g (lw_at lw_m6 0 rfl) rfl
theorem q1352 : (Jvm.Cond.fieldLink "SelfSortingModel" (26 : Nat) "SelfSortingModel" "faultPlace" "I") ∈ lw_all := lw_g (lw_at lw_m6 1 rfl) rfl
theorem q1353 : (Jvm.Cond.fieldLink "SelfSortingModel" (115 : Nat) "SelfSortingModel" "at" "I") ∈ lw_all := lw_g (lw_at lw_m6 2 rfl) rfl
theorem q1354 : (Jvm.Cond.fieldLink "SelfSortingModel" (122 : Nat) "SelfSortingModel" "place" "I") ∈ lw_all := lw_g (lw_at lw_m6 3 rfl) rfl
theorem q1355 : (Jvm.Cond.fieldLink "SelfSortingModel" (125 : Nat) "SelfSortingModel" "token" "I") ∈ lw_all := lw_g (lw_at lw_m6 4 rfl) rfl
theorem q1356 : (Jvm.Cond.fieldLink "SelfSortingModel" (131 : Nat) "SelfSortingModel" "number" "I") ∈ lw_all := lw_g (lw_at lw_m6 5 rfl) rfl
theorem q1357 : (Jvm.Cond.fieldLink "SelfSortingModel" (138 : Nat) "SelfSortingModel" "word" "J") ∈ lw_all := lw_g (lw_at lw_m6 6 rfl) rfl
theorem q1358 : (Jvm.Cond.fieldLink "SelfSortingModel" (150 : Nat) "SelfSortingModel" "text0" "I") ∈ lw_all := lw_g (lw_at lw_m6 7 rfl) rfl
theorem q1359 : (Jvm.Cond.fieldLink "SelfSortingModel" (153 : Nat) "SelfSortingModel" "written" "I") ∈ lw_all := lw_g (lw_at lw_m6 8 rfl) rfl
theorem q1360 : (Jvm.Cond.fieldLink "SelfSortingModel" (29 : Nat) "SelfSortingModel" "pile" "[I") ∈ lw_all := lw_g (lw_at lw_m6 9 rfl) rfl
theorem q1361 : (Jvm.Cond.fieldLink "SelfSortingModel" (156 : Nat) "SelfSortingModel" "piled" "I") ∈ lw_all := lw_g (lw_at lw_m6 10 rfl) rfl
theorem q1362 : (Jvm.Cond.fieldLink "SelfSortingModel" (163 : Nat) "SelfSortingModel" "opens" "I") ∈ lw_all := lw_g (lw_at lw_m6 11 rfl) rfl
theorem q1363 : (Jvm.Cond.fieldLink "SelfSortingModel" (159 : Nat) "SelfSortingModel" "isWhole" "Z") ∈ lw_all := lw_g (lw_at lw_m6 12 rfl) rfl
theorem q1364 : (Jvm.Cond.fieldLink "SelfSortingModel" (182 : Nat) "SelfSortingModel" "sort0" "I") ∈ lw_all := lw_g (lw_at lw_m6 13 rfl) rfl
theorem q1365 : (Jvm.Cond.fieldLink "SelfSortingModel" (257 : Nat) "SelfSortingModel" "once" "I") ∈ lw_all := lw_g (lw_at lw_m6 14 rfl) rfl
theorem q1366 : (Jvm.Cond.fieldLink "SelfSortingModel" (32 : Nat) "SelfSortingModel" "named" "[I") ∈ lw_all := lw_g (lw_at lw_m6 15 rfl) rfl
theorem q1367 : (Jvm.Cond.fieldLink "SelfSortingModel" (35 : Nat) "SelfSortingModel" "values" "[J") ∈ lw_all := lw_g (lw_at lw_m6 16 rfl) rfl
theorem q1368 : (Jvm.Cond.fieldLink "SelfSortingModel" (39 : Nat) "SelfSortingModel" "truth" "[Z") ∈ lw_all := lw_g (lw_at lw_m6 17 rfl) rfl
theorem q1369 : (Jvm.Cond.fieldLink "SelfSortingModel" (345 : Nat) "SelfSortingModel" "fell" "I") ∈ lw_all := lw_g (lw_at lw_m6 18 rfl) rfl
theorem q1370 : (Jvm.Cond.fieldLink "SelfSortingModel" (43 : Nat) "SelfSortingModel" "change" "[Z") ∈ lw_all := lw_g (lw_at lw_m6 19 rfl) rfl
theorem q1371 : (Jvm.Cond.fieldLink "SelfSortingModel" (46 : Nat) "SelfSortingModel" "row" "[I") ∈ lw_all := lw_g (lw_at lw_m6 20 rfl) rfl
theorem q1372 : (Jvm.Cond.fieldLink "SelfSortingModel" (388 : Nat) "SelfSortingModel" "rowMany" "I") ∈ lw_all := lw_g (lw_at lw_m6 21 rfl) rfl
theorem q1373 : (Jvm.Cond.fieldLink "SelfSortingModel" (49 : Nat) "SelfSortingModel" "stands" "[J") ∈ lw_all := lw_g (lw_at lw_m6 22 rfl) rfl
theorem q1374 : (Jvm.Cond.fieldLink "SelfSortingModel" (52 : Nat) "SelfSortingModel" "orders" "[I") ∈ lw_all := lw_g (lw_at lw_m6 23 rfl) rfl
theorem q1375 : (Jvm.Cond.fieldLink "SelfSortingModel" (55 : Nat) "SelfSortingModel" "leads" "[I") ∈ lw_all := lw_g (lw_at lw_m6 24 rfl) rfl
theorem q1376 : (Jvm.Cond.fieldLink "SelfSortingModel" (58 : Nat) "SelfSortingModel" "calm" "[Z") ∈ lw_all := lw_g (lw_at lw_m6 25 rfl) rfl
theorem q1377 : (Jvm.Cond.fieldLink "SelfSortingModel" (61 : Nat) "SelfSortingModel" "element" "[I") ∈ lw_all := lw_g (lw_at lw_m6 26 rfl) rfl
theorem q1378 : (Jvm.Cond.fieldLink "SelfSortingModel" (412 : Nat) "SelfSortingModel" "elements" "I") ∈ lw_all := lw_g (lw_at lw_m6 27 rfl) rfl
theorem q1379 : (Jvm.Cond.fieldLink "SelfSortingModel" (418 : Nat) "SelfSortingModel" "all" "I") ∈ lw_all := lw_g (lw_at lw_m6 28 rfl) rfl
theorem q1380 : (Jvm.Cond.fieldLink "SelfSortingModel" (64 : Nat) "SelfSortingModel" "work6" "[I") ∈ lw_all := lw_g (lw_at lw_m6 29 rfl) rfl
theorem q1381 : (Jvm.Cond.fieldLink "SelfSortingModel" (67 : Nat) "SelfSortingModel" "queue" "[I") ∈ lw_all := lw_g (lw_at lw_m6 30 rfl) rfl
theorem q1382 : (Jvm.Cond.fieldLink "SelfSortingModel" (70 : Nat) "SelfSortingModel" "took" "[I") ∈ lw_all := lw_g (lw_at lw_m6 31 rfl) rfl
theorem q1383 : (Jvm.Cond.fieldLink "SelfSortingModel" (73 : Nat) "SelfSortingModel" "worth" "[I") ∈ lw_all := lw_g (lw_at lw_m6 32 rfl) rfl
theorem q1384 : (Jvm.Cond.fieldLink "SelfSortingModel" (76 : Nat) "SelfSortingModel" "worthThen" "[I") ∈ lw_all := lw_g (lw_at lw_m6 33 rfl) rfl
theorem q1385 : (Jvm.Cond.fieldLink "SelfSortingModel" (79 : Nat) "SelfSortingModel" "there" "[I") ∈ lw_all := lw_g (lw_at lw_m6 34 rfl) rfl
theorem q1386 : (Jvm.Cond.fieldLink "SelfSortingModel" (82 : Nat) "SelfSortingModel" "rests" "[I") ∈ lw_all := lw_g (lw_at lw_m6 35 rfl) rfl
theorem q1387 : (Jvm.Cond.laysFinal "SelfSortingModel" "SelfSortingModel" "a" "[I") ∈ lw_all := lw_g (lw_at lw_m6 36 rfl) rfl
theorem q1388 : (Jvm.Cond.soleField "SelfSortingModel" "a") ∈ lw_all := lw_g (lw_at lw_m6 37 rfl) rfl
theorem q1389 : (Jvm.Cond.laysFinal "SelfSortingModel" "SelfSortingModel" "image" "[I") ∈ lw_all := lw_g (lw_at lw_m6 38 rfl) rfl
theorem q1390 : (Jvm.Cond.soleField "SelfSortingModel" "image") ∈ lw_all := lw_g (lw_at lw_m6 39 rfl) rfl
theorem q1391 : (Jvm.Cond.laysFinal "SelfSortingModel" "SelfSortingModel" "texts" "[I") ∈ lw_all := lw_g (lw_at lw_m6 40 rfl) rfl
theorem q1392 : (Jvm.Cond.soleField "SelfSortingModel" "texts") ∈ lw_all := lw_g (lw_at lw_m6 41 rfl) rfl
theorem q1393 : (Jvm.Cond.laysFinal "SelfSortingModel" "SelfSortingModel" "tape" "[I") ∈ lw_all := lw_g (lw_at lw_m6 42 rfl) rfl
theorem q1394 : (Jvm.Cond.soleField "SelfSortingModel" "tape") ∈ lw_all := lw_g (lw_at lw_m6 43 rfl) rfl
theorem q1395 : (Jvm.Cond.lays "SelfSortingModel" "SelfSortingModel" "taped" "I") ∈ lw_all := lw_g (lw_at lw_m6 44 rfl) rfl
theorem q1396 : (Jvm.Cond.soleField "SelfSortingModel" "taped") ∈ lw_all := lw_g (lw_at lw_m6 45 rfl) rfl
theorem q1397 : (Jvm.Cond.lays "SelfSortingModel" "SelfSortingModel" "fault" "I") ∈ lw_all := lw_g (lw_at lw_m6 46 rfl) rfl
theorem q1398 : (Jvm.Cond.soleField "SelfSortingModel" "fault") ∈ lw_all := lw_g (lw_at lw_m6 47 rfl) rfl
theorem q1399 : (Jvm.Cond.lays "SelfSortingModel" "SelfSortingModel" "faultPlace" "I") ∈ lw_all := lw_g (lw_at lw_m6 48 rfl) rfl
theorem q1400 : (Jvm.Cond.soleField "SelfSortingModel" "faultPlace") ∈ lw_all := lw_g (lw_at lw_m6 49 rfl) rfl
theorem q1401 : (Jvm.Cond.lays "SelfSortingModel" "SelfSortingModel" "at" "I") ∈ lw_all := lw_g (lw_at lw_m6 50 rfl) rfl
theorem q1402 : (Jvm.Cond.soleField "SelfSortingModel" "at") ∈ lw_all := lw_g (lw_at lw_m6 51 rfl) rfl
theorem q1403 : (Jvm.Cond.lays "SelfSortingModel" "SelfSortingModel" "place" "I") ∈ lw_all := lw_g (lw_at lw_m6 52 rfl) rfl
theorem q1404 : (Jvm.Cond.soleField "SelfSortingModel" "place") ∈ lw_all := lw_g (lw_at lw_m6 53 rfl) rfl
theorem q1405 : (Jvm.Cond.lays "SelfSortingModel" "SelfSortingModel" "token" "I") ∈ lw_all := lw_g (lw_at lw_m6 54 rfl) rfl
theorem q1406 : (Jvm.Cond.soleField "SelfSortingModel" "token") ∈ lw_all := lw_g (lw_at lw_m6 55 rfl) rfl
theorem q1407 : (Jvm.Cond.lays "SelfSortingModel" "SelfSortingModel" "number" "I") ∈ lw_all := lw_g (lw_at lw_m6 56 rfl) rfl
theorem q1408 : (Jvm.Cond.soleField "SelfSortingModel" "number") ∈ lw_all := lw_g (lw_at lw_m6 57 rfl) rfl
theorem q1409 : (Jvm.Cond.lays "SelfSortingModel" "SelfSortingModel" "word" "J") ∈ lw_all := lw_g (lw_at lw_m6 58 rfl) rfl
theorem q1410 : (Jvm.Cond.soleField "SelfSortingModel" "word") ∈ lw_all := lw_g (lw_at lw_m6 59 rfl) rfl
theorem q1411 : (Jvm.Cond.lays "SelfSortingModel" "SelfSortingModel" "text0" "I") ∈ lw_all := lw_g (lw_at lw_m6 60 rfl) rfl
theorem q1412 : (Jvm.Cond.soleField "SelfSortingModel" "text0") ∈ lw_all := lw_g (lw_at lw_m6 61 rfl) rfl
theorem q1413 : (Jvm.Cond.lays "SelfSortingModel" "SelfSortingModel" "clauses" "I") ∈ lw_all := lw_g (lw_at lw_m6 62 rfl) rfl
theorem q1414 : (Jvm.Cond.soleField "SelfSortingModel" "clauses") ∈ lw_all := lw_g (lw_at lw_m6 63 rfl) rfl
theorem q1415 : (Jvm.Cond.lays "SelfSortingModel" "SelfSortingModel" "written" "I") ∈ lw_all := lw_g (lw_at lw_m6 64 rfl) rfl
theorem q1416 : (Jvm.Cond.soleField "SelfSortingModel" "written") ∈ lw_all := lw_g (lw_at lw_m6 65 rfl) rfl
theorem q1417 : (Jvm.Cond.lays "SelfSortingModel" "SelfSortingModel" "came" "I") ∈ lw_all := lw_g (lw_at lw_m6 66 rfl) rfl
theorem q1418 : (Jvm.Cond.soleField "SelfSortingModel" "came") ∈ lw_all := lw_g (lw_at lw_m6 67 rfl) rfl
theorem q1419 : (Jvm.Cond.laysFinal "SelfSortingModel" "SelfSortingModel" "pile" "[I") ∈ lw_all := lw_g (lw_at lw_m6 68 rfl) rfl
theorem q1420 : (Jvm.Cond.soleField "SelfSortingModel" "pile") ∈ lw_all := lw_g (lw_at lw_m6 69 rfl) rfl
theorem q1421 : (Jvm.Cond.lays "SelfSortingModel" "SelfSortingModel" "piled" "I") ∈ lw_all := lw_g (lw_at lw_m6 70 rfl) rfl
theorem q1422 : (Jvm.Cond.soleField "SelfSortingModel" "piled") ∈ lw_all := lw_g (lw_at lw_m6 71 rfl) rfl
theorem q1423 : (Jvm.Cond.lays "SelfSortingModel" "SelfSortingModel" "opens" "I") ∈ lw_all := lw_g (lw_at lw_m6 72 rfl) rfl
theorem q1424 : (Jvm.Cond.soleField "SelfSortingModel" "opens") ∈ lw_all := lw_g (lw_at lw_m6 73 rfl) rfl
theorem q1425 : (Jvm.Cond.lays "SelfSortingModel" "SelfSortingModel" "isWhole" "Z") ∈ lw_all := lw_g (lw_at lw_m6 74 rfl) rfl
theorem q1426 : (Jvm.Cond.soleField "SelfSortingModel" "isWhole") ∈ lw_all := lw_g (lw_at lw_m6 75 rfl) rfl
theorem q1427 : (Jvm.Cond.lays "SelfSortingModel" "SelfSortingModel" "sort0" "I") ∈ lw_all := lw_g (lw_at lw_m6 76 rfl) rfl
theorem q1428 : (Jvm.Cond.soleField "SelfSortingModel" "sort0") ∈ lw_all := lw_g (lw_at lw_m6 77 rfl) rfl
theorem q1429 : (Jvm.Cond.lays "SelfSortingModel" "SelfSortingModel" "once" "I") ∈ lw_all := lw_g (lw_at lw_m6 78 rfl) rfl
theorem q1430 : (Jvm.Cond.soleField "SelfSortingModel" "once") ∈ lw_all := lw_g (lw_at lw_m6 79 rfl) rfl
theorem q1431 : (Jvm.Cond.laysFinal "SelfSortingModel" "SelfSortingModel" "named" "[I") ∈ lw_all := lw_g (lw_at lw_m6 80 rfl) rfl
theorem q1432 : (Jvm.Cond.soleField "SelfSortingModel" "named") ∈ lw_all := lw_g (lw_at lw_m6 81 rfl) rfl
theorem q1433 : (Jvm.Cond.laysFinal "SelfSortingModel" "SelfSortingModel" "values" "[J") ∈ lw_all := lw_g (lw_at lw_m6 82 rfl) rfl
theorem q1434 : (Jvm.Cond.soleField "SelfSortingModel" "values") ∈ lw_all := lw_g (lw_at lw_m6 83 rfl) rfl
theorem q1435 : (Jvm.Cond.laysFinal "SelfSortingModel" "SelfSortingModel" "truth" "[Z") ∈ lw_all := lw_g (lw_at lw_m6 84 rfl) rfl
theorem q1436 : (Jvm.Cond.soleField "SelfSortingModel" "truth") ∈ lw_all := lw_g (lw_at lw_m6 85 rfl) rfl
theorem q1437 : (Jvm.Cond.lays "SelfSortingModel" "SelfSortingModel" "fell" "I") ∈ lw_all := lw_g (lw_at lw_m6 86 rfl) rfl
theorem q1438 : (Jvm.Cond.soleField "SelfSortingModel" "fell") ∈ lw_all := lw_g (lw_at lw_m6 87 rfl) rfl
theorem q1439 : (Jvm.Cond.laysFinal "SelfSortingModel" "SelfSortingModel" "change" "[Z") ∈ lw_all := lw_g (lw_at lw_m6 88 rfl) rfl
theorem q1440 : (Jvm.Cond.soleField "SelfSortingModel" "change") ∈ lw_all := lw_g (lw_at lw_m6 89 rfl) rfl
theorem q1441 : (Jvm.Cond.laysFinal "SelfSortingModel" "SelfSortingModel" "row" "[I") ∈ lw_all := lw_g (lw_at lw_m6 90 rfl) rfl
theorem q1442 : (Jvm.Cond.soleField "SelfSortingModel" "row") ∈ lw_all := lw_g (lw_at lw_m6 91 rfl) rfl
theorem q1443 : (Jvm.Cond.lays "SelfSortingModel" "SelfSortingModel" "rowMany" "I") ∈ lw_all := lw_g (lw_at lw_m6 92 rfl) rfl
theorem q1444 : (Jvm.Cond.soleField "SelfSortingModel" "rowMany") ∈ lw_all := lw_g (lw_at lw_m6 93 rfl) rfl
theorem q1445 : (Jvm.Cond.laysFinal "SelfSortingModel" "SelfSortingModel" "stands" "[J") ∈ lw_all := lw_g (lw_at lw_m6 94 rfl) rfl
theorem q1446 : (Jvm.Cond.soleField "SelfSortingModel" "stands") ∈ lw_all := lw_g (lw_at lw_m6 95 rfl) rfl
theorem q1447 : (Jvm.Cond.laysFinal "SelfSortingModel" "SelfSortingModel" "orders" "[I") ∈ lw_all := lw_g (lw_at lw_m6 96 rfl) rfl
theorem q1448 : (Jvm.Cond.soleField "SelfSortingModel" "orders") ∈ lw_all := lw_g (lw_at lw_m6 97 rfl) rfl
theorem q1449 : (Jvm.Cond.laysFinal "SelfSortingModel" "SelfSortingModel" "leads" "[I") ∈ lw_all := lw_g (lw_at lw_m6 98 rfl) rfl
theorem q1450 : (Jvm.Cond.soleField "SelfSortingModel" "leads") ∈ lw_all := lw_g (lw_at lw_m6 99 rfl) rfl
theorem q1451 : (Jvm.Cond.laysFinal "SelfSortingModel" "SelfSortingModel" "calm" "[Z") ∈ lw_all := lw_g (lw_at lw_m6 100 rfl) rfl
theorem q1452 : (Jvm.Cond.soleField "SelfSortingModel" "calm") ∈ lw_all := lw_g (lw_at lw_m6 101 rfl) rfl
theorem q1453 : (Jvm.Cond.laysFinal "SelfSortingModel" "SelfSortingModel" "element" "[I") ∈ lw_all := lw_g (lw_at lw_m6 102 rfl) rfl
theorem q1454 : (Jvm.Cond.soleField "SelfSortingModel" "element") ∈ lw_all := lw_g (lw_at lw_m6 103 rfl) rfl
theorem q1455 : (Jvm.Cond.lays "SelfSortingModel" "SelfSortingModel" "elements" "I") ∈ lw_all := lw_g (lw_at lw_m6 104 rfl) rfl
theorem q1456 : (Jvm.Cond.soleField "SelfSortingModel" "elements") ∈ lw_all := lw_g (lw_at lw_m6 105 rfl) rfl
theorem q1457 : (Jvm.Cond.lays "SelfSortingModel" "SelfSortingModel" "all" "I") ∈ lw_all := lw_g (lw_at lw_m6 106 rfl) rfl
theorem q1458 : (Jvm.Cond.soleField "SelfSortingModel" "all") ∈ lw_all := lw_g (lw_at lw_m6 107 rfl) rfl
theorem q1459 : (Jvm.Cond.laysFinal "SelfSortingModel" "SelfSortingModel" "work6" "[I") ∈ lw_all := lw_g (lw_at lw_m6 108 rfl) rfl
theorem q1460 : (Jvm.Cond.soleField "SelfSortingModel" "work6") ∈ lw_all := lw_g (lw_at lw_m6 109 rfl) rfl
theorem q1461 : (Jvm.Cond.laysFinal "SelfSortingModel" "SelfSortingModel" "queue" "[I") ∈ lw_all := lw_g (lw_at lw_m6 110 rfl) rfl
theorem q1462 : (Jvm.Cond.soleField "SelfSortingModel" "queue") ∈ lw_all := lw_g (lw_at lw_m6 111 rfl) rfl
theorem q1463 : (Jvm.Cond.laysFinal "SelfSortingModel" "SelfSortingModel" "took" "[I") ∈ lw_all := lw_g (lw_at lw_m6 112 rfl) rfl
theorem q1464 : (Jvm.Cond.soleField "SelfSortingModel" "took") ∈ lw_all := lw_g (lw_at lw_m6 113 rfl) rfl
theorem q1465 : (Jvm.Cond.laysFinal "SelfSortingModel" "SelfSortingModel" "worth" "[I") ∈ lw_all := lw_g (lw_at lw_m6 114 rfl) rfl
theorem q1466 : (Jvm.Cond.soleField "SelfSortingModel" "worth") ∈ lw_all := lw_g (lw_at lw_m6 115 rfl) rfl
theorem q1467 : (Jvm.Cond.laysFinal "SelfSortingModel" "SelfSortingModel" "worthThen" "[I") ∈ lw_all := lw_g (lw_at lw_m6 116 rfl) rfl
theorem q1468 : (Jvm.Cond.soleField "SelfSortingModel" "worthThen") ∈ lw_all := lw_g (lw_at lw_m6 117 rfl) rfl
theorem q1469 : (Jvm.Cond.laysFinal "SelfSortingModel" "SelfSortingModel" "there" "[I") ∈ lw_all := lw_g (lw_at lw_m6 118 rfl) rfl
theorem q1470 : (Jvm.Cond.soleField "SelfSortingModel" "there") ∈ lw_all := lw_g (lw_at lw_m6 119 rfl) rfl
theorem q1471 : (Jvm.Cond.laysFinal "SelfSortingModel" "SelfSortingModel" "rests" "[I") ∈ lw_all := lw_g (lw_at lw_m6 120 rfl) rfl
theorem q1472 : (Jvm.Cond.soleField "SelfSortingModel" "rests") ∈ lw_all := lw_g (lw_at lw_m6 121 rfl) rfl
theorem q1473 : (Jvm.Cond.superclass "SelfSortingModel" "java/lang/Object") ∈ lw_all := lw_g (lw_at lw_m6 122 rfl) rfl
theorem q1474 : (Jvm.Cond.arrayClass Jvm.ClassFile.FieldType.boolean) ∈ lw_all := lw_g (lw_at lw_m6 123 rfl) rfl
theorem q1475 : (Jvm.Cond.methodLink "SelfSortingLaw" (22 : Nat) ({ cls := "SelfSortingModel", name := "book", desc := "(IIIII)I" } : Jvm.MethodName)) ∈ lw_all := lw_g (lw_at lw_m6 124 rfl) rfl
theorem q1476 : (Jvm.Cond.instanceMethod ({ cls := "SelfSortingModel", name := "book", desc := "(IIIII)I" } : Jvm.MethodName)) ∈ lw_all := lw_g (lw_at lw_m6 125 rfl) rfl
theorem q1477 : (Jvm.Cond.selects "SelfSortingModel" ({ cls := "SelfSortingModel", name := "book", desc := "(IIIII)I" } : Jvm.MethodName) ({ cls := "SelfSortingModel", name := "book", desc := "(IIIII)I" } : Jvm.MethodName)) ∈ lw_all := lw_g (lw_at lw_m6 126 rfl) rfl
theorem q1478 : (Jvm.Cond.code ({ cls := "SelfSortingModel", name := "book", desc := "(IIIII)I" } : Jvm.MethodName) prog_17_method_13_code (7 : Nat) (Option.some Jvm.ClassFile.FieldType.int)) ∈ lw_all := lw_g (lw_at lw_m6 127 rfl) rfl
theorem q1479 : (Jvm.Cond.methodLink "SelfSortingModel" (89 : Nat) ({ cls := "SelfSortingModel", name := "isIn", desc := "(III)Z" } : Jvm.MethodName)) ∈ lw_all := lw_g (lw_at lw_m6 128 rfl) rfl
theorem q1480 : (Jvm.Cond.static ({ cls := "SelfSortingModel", name := "isIn", desc := "(III)Z" } : Jvm.MethodName)) ∈ lw_all := lw_g (lw_at lw_m6 129 rfl) rfl
theorem q1481 : (Jvm.Cond.code ({ cls := "SelfSortingModel", name := "isIn", desc := "(III)Z" } : Jvm.MethodName) prog_17_method_3_code (3 : Nat) (Option.some Jvm.ClassFile.FieldType.boolean)) ∈ lw_all := lw_g (lw_at lw_m6 130 rfl) rfl
theorem q1482 : (Jvm.Cond.methodLink "SelfSortingModel" (104 : Nat) ({ cls := "SelfSortingModel", name := "set", desc := "(III)V" } : Jvm.MethodName)) ∈ lw_all := lw_g (lw_at lw_m6 131 rfl) rfl
theorem q1483 : (Jvm.Cond.privateMethod ({ cls := "SelfSortingModel", name := "set", desc := "(III)V" } : Jvm.MethodName)) ∈ lw_tbl := lw_at lw_m6 132 rfl
theorem q1484 : (Jvm.Cond.instanceMethod ({ cls := "SelfSortingModel", name := "set", desc := "(III)V" } : Jvm.MethodName)) ∈ lw_all := lw_g (lw_at lw_m6 133 rfl) rfl
theorem q1485 : (Jvm.Cond.code ({ cls := "SelfSortingModel", name := "set", desc := "(III)V" } : Jvm.MethodName) prog_17_method_9_code (4 : Nat) (Option.none : Option Jvm.ClassFile.FieldType)) ∈ lw_all := lw_g (lw_at lw_m6 134 rfl) rfl
theorem q1486 : (Jvm.Cond.methodLink "SelfSortingLaw" (27 : Nat) ({ cls := "SelfSortingModel", name := "need", desc := "(I)Z" } : Jvm.MethodName)) ∈ lw_all := lw_g (lw_at lw_m6 135 rfl) rfl
theorem q1487 : (Jvm.Cond.instanceMethod ({ cls := "SelfSortingModel", name := "need", desc := "(I)Z" } : Jvm.MethodName)) ∈ lw_all := lw_g (lw_at lw_m6 136 rfl) rfl
theorem q1488 : (Jvm.Cond.selects "SelfSortingModel" ({ cls := "SelfSortingModel", name := "need", desc := "(I)Z" } : Jvm.MethodName) ({ cls := "SelfSortingModel", name := "need", desc := "(I)Z" } : Jvm.MethodName)) ∈ lw_all := lw_g (lw_at lw_m6 137 rfl) rfl
theorem q1489 : (Jvm.Cond.code ({ cls := "SelfSortingModel", name := "need", desc := "(I)Z" } : Jvm.MethodName) prog_17_method_14_code (2 : Nat) (Option.some Jvm.ClassFile.FieldType.boolean)) ∈ lw_all := lw_g (lw_at lw_m6 138 rfl) rfl
theorem q1490 : (Jvm.Cond.methodLink "SelfSortingLaw" (31 : Nat) ({ cls := "SelfSortingModel", name := "feed", desc := "(IIIII)I" } : Jvm.MethodName)) ∈ lw_all := lw_g (lw_at lw_m6 139 rfl) rfl
theorem q1491 : (Jvm.Cond.instanceMethod ({ cls := "SelfSortingModel", name := "feed", desc := "(IIIII)I" } : Jvm.MethodName)) ∈ lw_all := lw_g (lw_at lw_m6 140 rfl) rfl
theorem q1492 : (Jvm.Cond.selects "SelfSortingModel" ({ cls := "SelfSortingModel", name := "feed", desc := "(IIIII)I" } : Jvm.MethodName) ({ cls := "SelfSortingModel", name := "feed", desc := "(IIIII)I" } : Jvm.MethodName)) ∈ lw_all := lw_g (lw_at lw_m6 141 rfl) rfl
theorem q1493 : (Jvm.Cond.code ({ cls := "SelfSortingModel", name := "feed", desc := "(IIIII)I" } : Jvm.MethodName) prog_17_method_16_code (6 : Nat) (Option.some Jvm.ClassFile.FieldType.int)) ∈ lw_all := lw_g (lw_at lw_m6 142 rfl) rfl
theorem q1494 : (Jvm.Cond.methodLink "SelfSortingModel" (111 : Nat) ({ cls := "SelfSortingModel", name := "four", desc := "(I)V" } : Jvm.MethodName)) ∈ lw_all := lw_g (lw_at lw_m6 143 rfl) rfl
theorem q1495 : (Jvm.Cond.privateMethod ({ cls := "SelfSortingModel", name := "four", desc := "(I)V" } : Jvm.MethodName)) ∈ lw_tbl := lw_at lw_m6 144 rfl
theorem q1496 : (Jvm.Cond.instanceMethod ({ cls := "SelfSortingModel", name := "four", desc := "(I)V" } : Jvm.MethodName)) ∈ lw_all := lw_g (lw_at lw_m6 145 rfl) rfl
theorem q1497 : (Jvm.Cond.code ({ cls := "SelfSortingModel", name := "four", desc := "(I)V" } : Jvm.MethodName) prog_17_method_15_code (3 : Nat) (Option.none : Option Jvm.ClassFile.FieldType)) ∈ lw_all := lw_g (lw_at lw_m6 146 rfl) rfl
theorem q1498 : (Jvm.Cond.methodLink "SelfSortingLaw" (36 : Nat) ({ cls := "SelfSortingModel", name := "end", desc := "(I)I" } : Jvm.MethodName)) ∈ lw_all := lw_g (lw_at lw_m6 147 rfl) rfl
theorem q1499 : (Jvm.Cond.instanceMethod ({ cls := "SelfSortingModel", name := "end", desc := "(I)I" } : Jvm.MethodName)) ∈ lw_all := lw_g (lw_at lw_m6 148 rfl) rfl
theorem q1500 : (Jvm.Cond.selects "SelfSortingModel" ({ cls := "SelfSortingModel", name := "end", desc := "(I)I" } : Jvm.MethodName) ({ cls := "SelfSortingModel", name := "end", desc := "(I)I" } : Jvm.MethodName)) ∈ lw_all := lw_g (lw_at lw_m6 149 rfl) rfl
theorem q1501 : (Jvm.Cond.code ({ cls := "SelfSortingModel", name := "end", desc := "(I)I" } : Jvm.MethodName) prog_17_method_17_code (2 : Nat) (Option.some Jvm.ClassFile.FieldType.int)) ∈ lw_all := lw_g (lw_at lw_m6 150 rfl) rfl
theorem q1502 : (Jvm.Cond.methodLink "SelfSortingLaw" (41 : Nat) ({ cls := "SelfSortingModel", name := "text", desc := "()I" } : Jvm.MethodName)) ∈ lw_all := lw_g (lw_at lw_m6 151 rfl) rfl
theorem q1503 : (Jvm.Cond.instanceMethod ({ cls := "SelfSortingModel", name := "text", desc := "()I" } : Jvm.MethodName)) ∈ lw_all := lw_g (lw_at lw_m6 152 rfl) rfl
theorem q1504 : (Jvm.Cond.selects "SelfSortingModel" ({ cls := "SelfSortingModel", name := "text", desc := "()I" } : Jvm.MethodName) ({ cls := "SelfSortingModel", name := "text", desc := "()I" } : Jvm.MethodName)) ∈ lw_all := lw_g (lw_at lw_m6 153 rfl) rfl
theorem q1505 : (Jvm.Cond.code ({ cls := "SelfSortingModel", name := "text", desc := "()I" } : Jvm.MethodName) prog_17_method_52_code (1 : Nat) (Option.some Jvm.ClassFile.FieldType.int)) ∈ lw_all := lw_g (lw_at lw_m6 154 rfl) rfl
theorem q1506 : (Jvm.Cond.methodLink "SelfSortingModel" (266 : Nat) ({ cls := "SelfSortingModel", name := "readText", desc := "()I" } : Jvm.MethodName)) ∈ lw_all := lw_g (lw_at lw_m6 155 rfl) rfl
theorem q1507 : (Jvm.Cond.privateMethod ({ cls := "SelfSortingModel", name := "readText", desc := "()I" } : Jvm.MethodName)) ∈ lw_tbl := lw_at lw_m6 156 rfl
theorem q1508 : (Jvm.Cond.instanceMethod ({ cls := "SelfSortingModel", name := "readText", desc := "()I" } : Jvm.MethodName)) ∈ lw_all := lw_g (lw_at lw_m6 157 rfl) rfl
theorem q1509 : (Jvm.Cond.code ({ cls := "SelfSortingModel", name := "readText", desc := "()I" } : Jvm.MethodName) prog_17_method_51_code (2 : Nat) (Option.some Jvm.ClassFile.FieldType.int)) ∈ lw_all := lw_g (lw_at lw_m6 158 rfl) rfl
theorem q1510 : (Jvm.Cond.methodLink "SelfSortingModel" (185 : Nat) ({ cls := "SelfSortingModel", name := "nextToken", desc := "()V" } : Jvm.MethodName)) ∈ lw_all := lw_g (lw_at lw_m6 159 rfl) rfl
theorem q1511 : (Jvm.Cond.privateMethod ({ cls := "SelfSortingModel", name := "nextToken", desc := "()V" } : Jvm.MethodName)) ∈ lw_tbl := lw_at lw_m6 160 rfl
theorem q1512 : (Jvm.Cond.instanceMethod ({ cls := "SelfSortingModel", name := "nextToken", desc := "()V" } : Jvm.MethodName)) ∈ lw_all := lw_g (lw_at lw_m6 161 rfl) rfl
theorem q1513 : (Jvm.Cond.code ({ cls := "SelfSortingModel", name := "nextToken", desc := "()V" } : Jvm.MethodName) prog_17_method_21_code (3 : Nat) (Option.none : Option Jvm.ClassFile.FieldType)) ∈ lw_all := lw_g (lw_at lw_m6 162 rfl) rfl
theorem q1514 : (Jvm.Cond.methodLink "SelfSortingModel" (118 : Nat) ({ cls := "SelfSortingModel", name := "byteAt", desc := "(I)I" } : Jvm.MethodName)) ∈ lw_all := lw_g (lw_at lw_m6 163 rfl) rfl
theorem q1515 : (Jvm.Cond.privateMethod ({ cls := "SelfSortingModel", name := "byteAt", desc := "(I)I" } : Jvm.MethodName)) ∈ lw_tbl := lw_at lw_m6 164 rfl
theorem q1516 : (Jvm.Cond.instanceMethod ({ cls := "SelfSortingModel", name := "byteAt", desc := "(I)I" } : Jvm.MethodName)) ∈ lw_all := lw_g (lw_at lw_m6 165 rfl) rfl
theorem q1517 : (Jvm.Cond.code ({ cls := "SelfSortingModel", name := "byteAt", desc := "(I)I" } : Jvm.MethodName) prog_17_method_18_code (2 : Nat) (Option.some Jvm.ClassFile.FieldType.int)) ∈ lw_all := lw_g (lw_at lw_m6 166 rfl) rfl
theorem q1518 : (Jvm.Cond.methodLink "SelfSortingModel" (128 : Nat) ({ cls := "SelfSortingModel", name := "isDigit", desc := "(I)Z" } : Jvm.MethodName)) ∈ lw_all := lw_g (lw_at lw_m6 167 rfl) rfl
theorem q1519 : (Jvm.Cond.static ({ cls := "SelfSortingModel", name := "isDigit", desc := "(I)Z" } : Jvm.MethodName)) ∈ lw_all := lw_g (lw_at lw_m6 168 rfl) rfl
theorem q1520 : (Jvm.Cond.code ({ cls := "SelfSortingModel", name := "isDigit", desc := "(I)Z" } : Jvm.MethodName) prog_17_method_20_code (1 : Nat) (Option.some Jvm.ClassFile.FieldType.boolean)) ∈ lw_all := lw_g (lw_at lw_m6 169 rfl) rfl
theorem q1521 : (Jvm.Cond.constant "SelfSortingModel" (134 : Nat) (100000 : Int32)) ∈ lw_all := lw_g (lw_at lw_m6 170 rfl) rfl
theorem q1522 : (Jvm.Cond.methodLink "SelfSortingModel" (135 : Nat) ({ cls := "SelfSortingModel", name := "isLetter", desc := "(I)Z" } : Jvm.MethodName)) ∈ lw_all := lw_g (lw_at lw_m6 171 rfl) rfl
theorem q1523 : (Jvm.Cond.static ({ cls := "SelfSortingModel", name := "isLetter", desc := "(I)Z" } : Jvm.MethodName)) ∈ lw_all := lw_g (lw_at lw_m6 172 rfl) rfl
theorem q1524 : (Jvm.Cond.code ({ cls := "SelfSortingModel", name := "isLetter", desc := "(I)Z" } : Jvm.MethodName) prog_17_method_19_code (1 : Nat) (Option.some Jvm.ClassFile.FieldType.boolean)) ∈ lw_all := lw_g (lw_at lw_m6 173 rfl) rfl
theorem q1525 : (Jvm.Cond.methodLink "SelfSortingModel" (263 : Nat) ({ cls := "SelfSortingModel", name := "clause", desc := "()I" } : Jvm.MethodName)) ∈ lw_all := lw_g (lw_at lw_m6 174 rfl) rfl
theorem q1526 : (Jvm.Cond.privateMethod ({ cls := "SelfSortingModel", name := "clause", desc := "()I" } : Jvm.MethodName)) ∈ lw_tbl := lw_at lw_m6 175 rfl
theorem q1527 : (Jvm.Cond.instanceMethod ({ cls := "SelfSortingModel", name := "clause", desc := "()I" } : Jvm.MethodName)) ∈ lw_all := lw_g (lw_at lw_m6 176 rfl) rfl
theorem q1528 : (Jvm.Cond.code ({ cls := "SelfSortingModel", name := "clause", desc := "()I" } : Jvm.MethodName) prog_17_method_50_code (6 : Nat) (Option.some Jvm.ClassFile.FieldType.int)) ∈ lw_all := lw_g (lw_at lw_m6 177 rfl) rfl
theorem q1529 : (Jvm.Cond.methodLink "SelfSortingModel" (254 : Nat) ({ cls := "SelfSortingModel", name := "sortOf", desc := "()I" } : Jvm.MethodName)) ∈ lw_all := lw_g (lw_at lw_m6 178 rfl) rfl
theorem q1530 : (Jvm.Cond.privateMethod ({ cls := "SelfSortingModel", name := "sortOf", desc := "()I" } : Jvm.MethodName)) ∈ lw_tbl := lw_at lw_m6 179 rfl
theorem q1531 : (Jvm.Cond.instanceMethod ({ cls := "SelfSortingModel", name := "sortOf", desc := "()I" } : Jvm.MethodName)) ∈ lw_all := lw_g (lw_at lw_m6 180 rfl) rfl
theorem q1532 : (Jvm.Cond.code ({ cls := "SelfSortingModel", name := "sortOf", desc := "()I" } : Jvm.MethodName) prog_17_method_42_code (1 : Nat) (Option.some Jvm.ClassFile.FieldType.int)) ∈ lw_all := lw_g (lw_at lw_m6 181 rfl) rfl
theorem q1533 : (Jvm.Cond.methodLink "SelfSortingModel" (142 : Nat) ({ cls := "SelfSortingModel", name := "w3", desc := "(III)J" } : Jvm.MethodName)) ∈ lw_all := lw_g (lw_at lw_m6 182 rfl) rfl
theorem q1534 : (Jvm.Cond.static ({ cls := "SelfSortingModel", name := "w3", desc := "(III)J" } : Jvm.MethodName)) ∈ lw_all := lw_g (lw_at lw_m6 183 rfl) rfl
theorem q1535 : (Jvm.Cond.code ({ cls := "SelfSortingModel", name := "w3", desc := "(III)J" } : Jvm.MethodName) prog_17_method_22_code (3 : Nat) (Option.some Jvm.ClassFile.FieldType.long)) ∈ lw_all := lw_g (lw_at lw_m6 184 rfl) rfl
theorem q1536 : (Jvm.Cond.methodLink "SelfSortingModel" (216 : Nat) ({ cls := "SelfSortingModel", name := "isWord", desc := "(J)Z" } : Jvm.MethodName)) ∈ lw_all := lw_g (lw_at lw_m6 185 rfl) rfl
theorem q1537 : (Jvm.Cond.privateMethod ({ cls := "SelfSortingModel", name := "isWord", desc := "(J)Z" } : Jvm.MethodName)) ∈ lw_tbl := lw_at lw_m6 186 rfl
theorem q1538 : (Jvm.Cond.instanceMethod ({ cls := "SelfSortingModel", name := "isWord", desc := "(J)Z" } : Jvm.MethodName)) ∈ lw_all := lw_g (lw_at lw_m6 187 rfl) rfl
theorem q1539 : (Jvm.Cond.code ({ cls := "SelfSortingModel", name := "isWord", desc := "(J)Z" } : Jvm.MethodName) prog_17_method_26_code (3 : Nat) (Option.some Jvm.ClassFile.FieldType.boolean)) ∈ lw_all := lw_g (lw_at lw_m6 188 rfl) rfl
theorem q1540 : (Jvm.Cond.methodLink "SelfSortingModel" (146 : Nat) ({ cls := "SelfSortingModel", name := "w5", desc := "(IIIII)J" } : Jvm.MethodName)) ∈ lw_all := lw_g (lw_at lw_m6 189 rfl) rfl
theorem q1541 : (Jvm.Cond.static ({ cls := "SelfSortingModel", name := "w5", desc := "(IIIII)J" } : Jvm.MethodName)) ∈ lw_all := lw_g (lw_at lw_m6 190 rfl) rfl
theorem q1542 : (Jvm.Cond.code ({ cls := "SelfSortingModel", name := "w5", desc := "(IIIII)J" } : Jvm.MethodName) prog_17_method_23_code (5 : Nat) (Option.some Jvm.ClassFile.FieldType.long)) ∈ lw_all := lw_g (lw_at lw_m6 191 rfl) rfl
theorem q1543 : (Jvm.Cond.methodLink "SelfSortingModel" (170 : Nat) ({ cls := "SelfSortingModel", name := "w4", desc := "(IIII)J" } : Jvm.MethodName)) ∈ lw_all := lw_g (lw_at lw_m6 192 rfl) rfl
theorem q1544 : (Jvm.Cond.static ({ cls := "SelfSortingModel", name := "w4", desc := "(IIII)J" } : Jvm.MethodName)) ∈ lw_all := lw_g (lw_at lw_m6 193 rfl) rfl
theorem q1545 : (Jvm.Cond.code ({ cls := "SelfSortingModel", name := "w4", desc := "(IIII)J" } : Jvm.MethodName) prog_17_method_24_code (4 : Nat) (Option.some Jvm.ClassFile.FieldType.long)) ∈ lw_all := lw_g (lw_at lw_m6 194 rfl) rfl
theorem q1546 : (Jvm.Cond.methodLink "SelfSortingModel" (260 : Nat) ({ cls := "SelfSortingModel", name := "body", desc := "(II)I" } : Jvm.MethodName)) ∈ lw_all := lw_g (lw_at lw_m6 195 rfl) rfl
theorem q1547 : (Jvm.Cond.privateMethod ({ cls := "SelfSortingModel", name := "body", desc := "(II)I" } : Jvm.MethodName)) ∈ lw_tbl := lw_at lw_m6 196 rfl
theorem q1548 : (Jvm.Cond.instanceMethod ({ cls := "SelfSortingModel", name := "body", desc := "(II)I" } : Jvm.MethodName)) ∈ lw_all := lw_g (lw_at lw_m6 197 rfl) rfl
theorem q1549 : (Jvm.Cond.code ({ cls := "SelfSortingModel", name := "body", desc := "(II)I" } : Jvm.MethodName) prog_17_method_49_code (4 : Nat) (Option.some Jvm.ClassFile.FieldType.int)) ∈ lw_all := lw_g (lw_at lw_m6 198 rfl) rfl
theorem q1550 : (Jvm.Cond.methodLink "SelfSortingModel" (245 : Nat) ({ cls := "SelfSortingModel", name := "lawClause", desc := "(I)I" } : Jvm.MethodName)) ∈ lw_all := lw_g (lw_at lw_m6 199 rfl) rfl
theorem q1551 : (Jvm.Cond.privateMethod ({ cls := "SelfSortingModel", name := "lawClause", desc := "(I)I" } : Jvm.MethodName)) ∈ lw_tbl := lw_at lw_m6 200 rfl
theorem q1552 : (Jvm.Cond.instanceMethod ({ cls := "SelfSortingModel", name := "lawClause", desc := "(I)I" } : Jvm.MethodName)) ∈ lw_all := lw_g (lw_at lw_m6 201 rfl) rfl
theorem q1553 : (Jvm.Cond.code ({ cls := "SelfSortingModel", name := "lawClause", desc := "(I)I" } : Jvm.MethodName) prog_17_method_46_code (3 : Nat) (Option.some Jvm.ClassFile.FieldType.int)) ∈ lw_all := lw_g (lw_at lw_m6 202 rfl) rfl
theorem q1554 : (Jvm.Cond.methodLink "SelfSortingModel" (235 : Nat) ({ cls := "SelfSortingModel", name := "hasLaw", desc := "(I)Z" } : Jvm.MethodName)) ∈ lw_all := lw_g (lw_at lw_m6 203 rfl) rfl
theorem q1555 : (Jvm.Cond.privateMethod ({ cls := "SelfSortingModel", name := "hasLaw", desc := "(I)Z" } : Jvm.MethodName)) ∈ lw_tbl := lw_at lw_m6 204 rfl
theorem q1556 : (Jvm.Cond.instanceMethod ({ cls := "SelfSortingModel", name := "hasLaw", desc := "(I)Z" } : Jvm.MethodName)) ∈ lw_all := lw_g (lw_at lw_m6 205 rfl) rfl
theorem q1557 : (Jvm.Cond.code ({ cls := "SelfSortingModel", name := "hasLaw", desc := "(I)Z" } : Jvm.MethodName) prog_17_method_45_code (3 : Nat) (Option.some Jvm.ClassFile.FieldType.boolean)) ∈ lw_all := lw_g (lw_at lw_m6 206 rfl) rfl
theorem q1558 : (Jvm.Cond.methodLink "SelfSortingModel" (231 : Nat) ({ cls := "SelfSortingModel", name := "figure", desc := "(III)I" } : Jvm.MethodName)) ∈ lw_all := lw_g (lw_at lw_m6 207 rfl) rfl
theorem q1559 : (Jvm.Cond.privateMethod ({ cls := "SelfSortingModel", name := "figure", desc := "(III)I" } : Jvm.MethodName)) ∈ lw_tbl := lw_at lw_m6 208 rfl
theorem q1560 : (Jvm.Cond.instanceMethod ({ cls := "SelfSortingModel", name := "figure", desc := "(III)I" } : Jvm.MethodName)) ∈ lw_all := lw_g (lw_at lw_m6 209 rfl) rfl
theorem q1561 : (Jvm.Cond.code ({ cls := "SelfSortingModel", name := "figure", desc := "(III)I" } : Jvm.MethodName) prog_17_method_43_code (4 : Nat) (Option.some Jvm.ClassFile.FieldType.int)) ∈ lw_all := lw_g (lw_at lw_m6 210 rfl) rfl
theorem q1562 : (Jvm.Cond.methodLink "SelfSortingModel" (238 : Nat) ({ cls := "SelfSortingModel", name := "either", desc := "()I" } : Jvm.MethodName)) ∈ lw_all := lw_g (lw_at lw_m6 211 rfl) rfl
theorem q1563 : (Jvm.Cond.privateMethod ({ cls := "SelfSortingModel", name := "either", desc := "()I" } : Jvm.MethodName)) ∈ lw_tbl := lw_at lw_m6 212 rfl
theorem q1564 : (Jvm.Cond.instanceMethod ({ cls := "SelfSortingModel", name := "either", desc := "()I" } : Jvm.MethodName)) ∈ lw_all := lw_g (lw_at lw_m6 213 rfl) rfl
theorem q1565 : (Jvm.Cond.code ({ cls := "SelfSortingModel", name := "either", desc := "()I" } : Jvm.MethodName) prog_17_method_41_code (6 : Nat) (Option.some Jvm.ClassFile.FieldType.int)) ∈ lw_all := lw_g (lw_at lw_m6 214 rfl) rfl
theorem q1566 : (Jvm.Cond.methodLink "SelfSortingModel" (226 : Nat) ({ cls := "SelfSortingModel", name := "asks", desc := "()I" } : Jvm.MethodName)) ∈ lw_all := lw_g (lw_at lw_m6 215 rfl) rfl
theorem q1567 : (Jvm.Cond.privateMethod ({ cls := "SelfSortingModel", name := "asks", desc := "()I" } : Jvm.MethodName)) ∈ lw_tbl := lw_at lw_m6 216 rfl
theorem q1568 : (Jvm.Cond.instanceMethod ({ cls := "SelfSortingModel", name := "asks", desc := "()I" } : Jvm.MethodName)) ∈ lw_all := lw_g (lw_at lw_m6 217 rfl) rfl
theorem q1569 : (Jvm.Cond.code ({ cls := "SelfSortingModel", name := "asks", desc := "()I" } : Jvm.MethodName) prog_17_method_40_code (5 : Nat) (Option.some Jvm.ClassFile.FieldType.int)) ∈ lw_all := lw_g (lw_at lw_m6 218 rfl) rfl
theorem q1570 : (Jvm.Cond.methodLink "SelfSortingModel" (220 : Nat) ({ cls := "SelfSortingModel", name := "summed", desc := "()I" } : Jvm.MethodName)) ∈ lw_all := lw_g (lw_at lw_m6 219 rfl) rfl
theorem q1571 : (Jvm.Cond.privateMethod ({ cls := "SelfSortingModel", name := "summed", desc := "()I" } : Jvm.MethodName)) ∈ lw_tbl := lw_at lw_m6 220 rfl
theorem q1572 : (Jvm.Cond.instanceMethod ({ cls := "SelfSortingModel", name := "summed", desc := "()I" } : Jvm.MethodName)) ∈ lw_all := lw_g (lw_at lw_m6 221 rfl) rfl
theorem q1573 : (Jvm.Cond.code ({ cls := "SelfSortingModel", name := "summed", desc := "()I" } : Jvm.MethodName) prog_17_method_38_code (2 : Nat) (Option.some Jvm.ClassFile.FieldType.int)) ∈ lw_all := lw_g (lw_at lw_m6 222 rfl) rfl
theorem q1574 : (Jvm.Cond.methodLink "SelfSortingModel" (207 : Nat) ({ cls := "SelfSortingModel", name := "goesOn", desc := "()Z" } : Jvm.MethodName)) ∈ lw_all := lw_g (lw_at lw_m6 223 rfl) rfl
theorem q1575 : (Jvm.Cond.privateMethod ({ cls := "SelfSortingModel", name := "goesOn", desc := "()Z" } : Jvm.MethodName)) ∈ lw_tbl := lw_at lw_m6 224 rfl
theorem q1576 : (Jvm.Cond.instanceMethod ({ cls := "SelfSortingModel", name := "goesOn", desc := "()Z" } : Jvm.MethodName)) ∈ lw_all := lw_g (lw_at lw_m6 225 rfl) rfl
theorem q1577 : (Jvm.Cond.code ({ cls := "SelfSortingModel", name := "goesOn", desc := "()Z" } : Jvm.MethodName) prog_17_method_36_code (1 : Nat) (Option.some Jvm.ClassFile.FieldType.boolean)) ∈ lw_all := lw_g (lw_at lw_m6 226 rfl) rfl
theorem q1578 : (Jvm.Cond.methodLink "SelfSortingModel" (200 : Nat) ({ cls := "SelfSortingModel", name := "hasParen", desc := "()Z" } : Jvm.MethodName)) ∈ lw_all := lw_g (lw_at lw_m6 227 rfl) rfl
theorem q1579 : (Jvm.Cond.privateMethod ({ cls := "SelfSortingModel", name := "hasParen", desc := "()Z" } : Jvm.MethodName)) ∈ lw_tbl := lw_at lw_m6 228 rfl
theorem q1580 : (Jvm.Cond.instanceMethod ({ cls := "SelfSortingModel", name := "hasParen", desc := "()Z" } : Jvm.MethodName)) ∈ lw_all := lw_g (lw_at lw_m6 229 rfl) rfl
theorem q1581 : (Jvm.Cond.code ({ cls := "SelfSortingModel", name := "hasParen", desc := "()Z" } : Jvm.MethodName) prog_17_method_35_code (2 : Nat) (Option.some Jvm.ClassFile.FieldType.boolean)) ∈ lw_all := lw_g (lw_at lw_m6 230 rfl) rfl
theorem q1582 : (Jvm.Cond.methodLink "SelfSortingModel" (210 : Nat) ({ cls := "SelfSortingModel", name := "behindOne", desc := "()I" } : Jvm.MethodName)) ∈ lw_all := lw_g (lw_at lw_m6 231 rfl) rfl
theorem q1583 : (Jvm.Cond.privateMethod ({ cls := "SelfSortingModel", name := "behindOne", desc := "()I" } : Jvm.MethodName)) ∈ lw_tbl := lw_at lw_m6 232 rfl
theorem q1584 : (Jvm.Cond.instanceMethod ({ cls := "SelfSortingModel", name := "behindOne", desc := "()I" } : Jvm.MethodName)) ∈ lw_all := lw_g (lw_at lw_m6 233 rfl) rfl
theorem q1585 : (Jvm.Cond.code ({ cls := "SelfSortingModel", name := "behindOne", desc := "()I" } : Jvm.MethodName) prog_17_method_37_code (2 : Nat) (Option.some Jvm.ClassFile.FieldType.int)) ∈ lw_all := lw_g (lw_at lw_m6 234 rfl) rfl
theorem q1586 : (Jvm.Cond.methodLink "SelfSortingModel" (204 : Nat) ({ cls := "SelfSortingModel", name := "settle", desc := "(I)V" } : Jvm.MethodName)) ∈ lw_all := lw_g (lw_at lw_m6 235 rfl) rfl
theorem q1587 : (Jvm.Cond.privateMethod ({ cls := "SelfSortingModel", name := "settle", desc := "(I)V" } : Jvm.MethodName)) ∈ lw_tbl := lw_at lw_m6 236 rfl
theorem q1588 : (Jvm.Cond.instanceMethod ({ cls := "SelfSortingModel", name := "settle", desc := "(I)V" } : Jvm.MethodName)) ∈ lw_all := lw_g (lw_at lw_m6 237 rfl) rfl
theorem q1589 : (Jvm.Cond.code ({ cls := "SelfSortingModel", name := "settle", desc := "(I)V" } : Jvm.MethodName) prog_17_method_30_code (2 : Nat) (Option.none : Option Jvm.ClassFile.FieldType)) ∈ lw_all := lw_g (lw_at lw_m6 238 rfl) rfl
theorem q1590 : (Jvm.Cond.methodLink "SelfSortingModel" (166 : Nat) ({ cls := "SelfSortingModel", name := "emit", desc := "(II)V" } : Jvm.MethodName)) ∈ lw_all := lw_g (lw_at lw_m6 239 rfl) rfl
theorem q1591 : (Jvm.Cond.privateMethod ({ cls := "SelfSortingModel", name := "emit", desc := "(II)V" } : Jvm.MethodName)) ∈ lw_tbl := lw_at lw_m7 0 rfl
theorem q1592 : (Jvm.Cond.instanceMethod ({ cls := "SelfSortingModel", name := "emit", desc := "(II)V" } : Jvm.MethodName)) ∈ lw_all := lw_g (lw_at lw_m7 1 rfl) rfl
theorem q1593 : (Jvm.Cond.code ({ cls := "SelfSortingModel", name := "emit", desc := "(II)V" } : Jvm.MethodName) prog_17_method_27_code (3 : Nat) (Option.none : Option Jvm.ClassFile.FieldType)) ∈ lw_all := lw_g (lw_at lw_m7 2 rfl) rfl
theorem q1594 : (Jvm.Cond.methodLink "SelfSortingModel" (197 : Nat) ({ cls := "SelfSortingModel", name := "push", desc := "(I)V" } : Jvm.MethodName)) ∈ lw_all := lw_g (lw_at lw_m7 3 rfl) rfl
theorem q1595 : (Jvm.Cond.privateMethod ({ cls := "SelfSortingModel", name := "push", desc := "(I)V" } : Jvm.MethodName)) ∈ lw_tbl := lw_at lw_m7 4 rfl
theorem q1596 : (Jvm.Cond.instanceMethod ({ cls := "SelfSortingModel", name := "push", desc := "(I)V" } : Jvm.MethodName)) ∈ lw_all := lw_g (lw_at lw_m7 5 rfl) rfl
theorem q1597 : (Jvm.Cond.code ({ cls := "SelfSortingModel", name := "push", desc := "(I)V" } : Jvm.MethodName) prog_17_method_28_code (2 : Nat) (Option.none : Option Jvm.ClassFile.FieldType)) ∈ lw_all := lw_g (lw_at lw_m7 6 rfl) rfl
theorem q1598 : (Jvm.Cond.methodLink "SelfSortingModel" (188 : Nat) ({ cls := "SelfSortingModel", name := "whole", desc := "()V" } : Jvm.MethodName)) ∈ lw_all := lw_g (lw_at lw_m7 7 rfl) rfl
theorem q1599 : (Jvm.Cond.privateMethod ({ cls := "SelfSortingModel", name := "whole", desc := "()V" } : Jvm.MethodName)) ∈ lw_tbl := lw_at lw_m7 8 rfl
theorem q1600 : (Jvm.Cond.instanceMethod ({ cls := "SelfSortingModel", name := "whole", desc := "()V" } : Jvm.MethodName)) ∈ lw_all := lw_g (lw_at lw_m7 9 rfl) rfl
theorem q1601 : (Jvm.Cond.code ({ cls := "SelfSortingModel", name := "whole", desc := "()V" } : Jvm.MethodName) prog_17_method_29_code (1 : Nat) (Option.none : Option Jvm.ClassFile.FieldType)) ∈ lw_all := lw_g (lw_at lw_m7 10 rfl) rfl
theorem q1602 : (Jvm.Cond.methodLink "SelfSortingModel" (213 : Nat) ({ cls := "SelfSortingModel", name := "beginOne", desc := "()I" } : Jvm.MethodName)) ∈ lw_all := lw_g (lw_at lw_m7 11 rfl) rfl
theorem q1603 : (Jvm.Cond.privateMethod ({ cls := "SelfSortingModel", name := "beginOne", desc := "()I" } : Jvm.MethodName)) ∈ lw_tbl := lw_at lw_m7 12 rfl
theorem q1604 : (Jvm.Cond.instanceMethod ({ cls := "SelfSortingModel", name := "beginOne", desc := "()I" } : Jvm.MethodName)) ∈ lw_all := lw_g (lw_at lw_m7 13 rfl) rfl
theorem q1605 : (Jvm.Cond.code ({ cls := "SelfSortingModel", name := "beginOne", desc := "()I" } : Jvm.MethodName) prog_17_method_34_code (2 : Nat) (Option.some Jvm.ClassFile.FieldType.int)) ∈ lw_all := lw_g (lw_at lw_m7 14 rfl) rfl
theorem q1606 : (Jvm.Cond.methodLink "SelfSortingModel" (191 : Nat) ({ cls := "SelfSortingModel", name := "nameOf", desc := "()I" } : Jvm.MethodName)) ∈ lw_all := lw_g (lw_at lw_m7 15 rfl) rfl
theorem q1607 : (Jvm.Cond.privateMethod ({ cls := "SelfSortingModel", name := "nameOf", desc := "()I" } : Jvm.MethodName)) ∈ lw_tbl := lw_at lw_m7 16 rfl
theorem q1608 : (Jvm.Cond.instanceMethod ({ cls := "SelfSortingModel", name := "nameOf", desc := "()I" } : Jvm.MethodName)) ∈ lw_all := lw_g (lw_at lw_m7 17 rfl) rfl
theorem q1609 : (Jvm.Cond.code ({ cls := "SelfSortingModel", name := "nameOf", desc := "()I" } : Jvm.MethodName) prog_17_method_32_code (1 : Nat) (Option.some Jvm.ClassFile.FieldType.int)) ∈ lw_all := lw_g (lw_at lw_m7 18 rfl) rfl
theorem q1610 : (Jvm.Cond.methodLink "SelfSortingModel" (178 : Nat) ({ cls := "SelfSortingModel", name := "ownName", desc := "()I" } : Jvm.MethodName)) ∈ lw_all := lw_g (lw_at lw_m7 19 rfl) rfl
theorem q1611 : (Jvm.Cond.privateMethod ({ cls := "SelfSortingModel", name := "ownName", desc := "()I" } : Jvm.MethodName)) ∈ lw_tbl := lw_at lw_m7 20 rfl
theorem q1612 : (Jvm.Cond.instanceMethod ({ cls := "SelfSortingModel", name := "ownName", desc := "()I" } : Jvm.MethodName)) ∈ lw_all := lw_g (lw_at lw_m7 21 rfl) rfl
theorem q1613 : (Jvm.Cond.code ({ cls := "SelfSortingModel", name := "ownName", desc := "()I" } : Jvm.MethodName) prog_17_method_31_code (1 : Nat) (Option.some Jvm.ClassFile.FieldType.int)) ∈ lw_all := lw_g (lw_at lw_m7 22 rfl) rfl
theorem q1614 : (Jvm.Cond.methodLink "SelfSortingModel" (174 : Nat) ({ cls := "SelfSortingModel", name := "w6", desc := "(IIIIII)J" } : Jvm.MethodName)) ∈ lw_all := lw_g (lw_at lw_m7 23 rfl) rfl
theorem q1615 : (Jvm.Cond.static ({ cls := "SelfSortingModel", name := "w6", desc := "(IIIIII)J" } : Jvm.MethodName)) ∈ lw_all := lw_g (lw_at lw_m7 24 rfl) rfl
theorem q1616 : (Jvm.Cond.code ({ cls := "SelfSortingModel", name := "w6", desc := "(IIIIII)J" } : Jvm.MethodName) prog_17_method_25_code (6 : Nat) (Option.some Jvm.ClassFile.FieldType.long)) ∈ lw_all := lw_g (lw_at lw_m7 25 rfl) rfl
theorem q1617 : (Jvm.Cond.methodLink "SelfSortingModel" (194 : Nat) ({ cls := "SelfSortingModel", name := "isBarred", desc := "(I)Z" } : Jvm.MethodName)) ∈ lw_all := lw_g (lw_at lw_m7 26 rfl) rfl
theorem q1618 : (Jvm.Cond.privateMethod ({ cls := "SelfSortingModel", name := "isBarred", desc := "(I)Z" } : Jvm.MethodName)) ∈ lw_tbl := lw_at lw_m7 27 rfl
theorem q1619 : (Jvm.Cond.instanceMethod ({ cls := "SelfSortingModel", name := "isBarred", desc := "(I)Z" } : Jvm.MethodName)) ∈ lw_all := lw_g (lw_at lw_m7 28 rfl) rfl
theorem q1620 : (Jvm.Cond.code ({ cls := "SelfSortingModel", name := "isBarred", desc := "(I)Z" } : Jvm.MethodName) prog_17_method_33_code (2 : Nat) (Option.some Jvm.ClassFile.FieldType.boolean)) ∈ lw_all := lw_g (lw_at lw_m7 29 rfl) rfl
theorem q1621 : (Jvm.Cond.methodLink "SelfSortingModel" (223 : Nat) ({ cls := "SelfSortingModel", name := "compareOf", desc := "()I" } : Jvm.MethodName)) ∈ lw_all := lw_g (lw_at lw_m7 30 rfl) rfl
theorem q1622 : (Jvm.Cond.privateMethod ({ cls := "SelfSortingModel", name := "compareOf", desc := "()I" } : Jvm.MethodName)) ∈ lw_tbl := lw_at lw_m7 31 rfl
theorem q1623 : (Jvm.Cond.instanceMethod ({ cls := "SelfSortingModel", name := "compareOf", desc := "()I" } : Jvm.MethodName)) ∈ lw_all := lw_g (lw_at lw_m7 32 rfl) rfl
theorem q1624 : (Jvm.Cond.code ({ cls := "SelfSortingModel", name := "compareOf", desc := "()I" } : Jvm.MethodName) prog_17_method_39_code (1 : Nat) (Option.some Jvm.ClassFile.FieldType.int)) ∈ lw_all := lw_g (lw_at lw_m7 33 rfl) rfl
theorem q1625 : (Jvm.Cond.constantLong "SelfSortingModel" (229 : Nat) (28530 : Int64)) ∈ lw_all := lw_g (lw_at lw_m7 34 rfl) rfl
theorem q1626 : (Jvm.Cond.methodLink "SelfSortingModel" (248 : Nat) ({ cls := "SelfSortingModel", name := "sumClause", desc := "(II)I" } : Jvm.MethodName)) ∈ lw_all := lw_g (lw_at lw_m7 35 rfl) rfl
theorem q1627 : (Jvm.Cond.privateMethod ({ cls := "SelfSortingModel", name := "sumClause", desc := "(II)I" } : Jvm.MethodName)) ∈ lw_tbl := lw_at lw_m7 36 rfl
theorem q1628 : (Jvm.Cond.instanceMethod ({ cls := "SelfSortingModel", name := "sumClause", desc := "(II)I" } : Jvm.MethodName)) ∈ lw_all := lw_g (lw_at lw_m7 37 rfl) rfl
theorem q1629 : (Jvm.Cond.code ({ cls := "SelfSortingModel", name := "sumClause", desc := "(II)I" } : Jvm.MethodName) prog_17_method_47_code (4 : Nat) (Option.some Jvm.ClassFile.FieldType.int)) ∈ lw_all := lw_g (lw_at lw_m7 38 rfl) rfl
theorem q1630 : (Jvm.Cond.methodLink "SelfSortingModel" (241 : Nat) ({ cls := "SelfSortingModel", name := "worded", desc := "(IIII)I" } : Jvm.MethodName)) ∈ lw_all := lw_g (lw_at lw_m7 39 rfl) rfl
theorem q1631 : (Jvm.Cond.privateMethod ({ cls := "SelfSortingModel", name := "worded", desc := "(IIII)I" } : Jvm.MethodName)) ∈ lw_tbl := lw_at lw_m7 40 rfl
theorem q1632 : (Jvm.Cond.instanceMethod ({ cls := "SelfSortingModel", name := "worded", desc := "(IIII)I" } : Jvm.MethodName)) ∈ lw_all := lw_g (lw_at lw_m7 41 rfl) rfl
theorem q1633 : (Jvm.Cond.code ({ cls := "SelfSortingModel", name := "worded", desc := "(IIII)I" } : Jvm.MethodName) prog_17_method_44_code (5 : Nat) (Option.some Jvm.ClassFile.FieldType.int)) ∈ lw_all := lw_g (lw_at lw_m7 42 rfl) rfl
theorem q1634 : (Jvm.Cond.methodLink "SelfSortingModel" (251 : Nat) ({ cls := "SelfSortingModel", name := "putClause", desc := "(I)I" } : Jvm.MethodName)) ∈ lw_all := lw_g (lw_at lw_m7 43 rfl) rfl
theorem q1635 : (Jvm.Cond.privateMethod ({ cls := "SelfSortingModel", name := "putClause", desc := "(I)I" } : Jvm.MethodName)) ∈ lw_tbl := lw_at lw_m7 44 rfl
theorem q1636 : (Jvm.Cond.instanceMethod ({ cls := "SelfSortingModel", name := "putClause", desc := "(I)I" } : Jvm.MethodName)) ∈ lw_all := lw_g (lw_at lw_m7 45 rfl) rfl
theorem q1637 : (Jvm.Cond.code ({ cls := "SelfSortingModel", name := "putClause", desc := "(I)I" } : Jvm.MethodName) prog_17_method_48_code (3 : Nat) (Option.some Jvm.ClassFile.FieldType.int)) ∈ lw_all := lw_g (lw_at lw_m7 46 rfl) rfl
theorem q1638 : (Jvm.Cond.methodLink "SelfSortingLaw" (45 : Nat) ({ cls := "SelfSortingModel", name := "fault", desc := "(I)I" } : Jvm.MethodName)) ∈ lw_all := lw_g (lw_at lw_m7 47 rfl) rfl
theorem q1639 : (Jvm.Cond.instanceMethod ({ cls := "SelfSortingModel", name := "fault", desc := "(I)I" } : Jvm.MethodName)) ∈ lw_all := lw_g (lw_at lw_m7 48 rfl) rfl
theorem q1640 : (Jvm.Cond.selects "SelfSortingModel" ({ cls := "SelfSortingModel", name := "fault", desc := "(I)I" } : Jvm.MethodName) ({ cls := "SelfSortingModel", name := "fault", desc := "(I)I" } : Jvm.MethodName)) ∈ lw_all := lw_g (lw_at lw_m7 49 rfl) rfl
theorem q1641 : (Jvm.Cond.code ({ cls := "SelfSortingModel", name := "fault", desc := "(I)I" } : Jvm.MethodName) prog_17_method_53_code (2 : Nat) (Option.some Jvm.ClassFile.FieldType.int)) ∈ lw_all := lw_g (lw_at lw_m7 50 rfl) rfl
theorem q1642 : (Jvm.Cond.methodLink "SelfSortingLaw" (49 : Nat) ({ cls := "SelfSortingModel", name := "by", desc := "(I)Z" } : Jvm.MethodName)) ∈ lw_all := lw_g (lw_at lw_m7 51 rfl) rfl
theorem q1643 : (Jvm.Cond.instanceMethod ({ cls := "SelfSortingModel", name := "by", desc := "(I)Z" } : Jvm.MethodName)) ∈ lw_all := lw_g (lw_at lw_m7 52 rfl) rfl
theorem q1644 : (Jvm.Cond.selects "SelfSortingModel" ({ cls := "SelfSortingModel", name := "by", desc := "(I)Z" } : Jvm.MethodName) ({ cls := "SelfSortingModel", name := "by", desc := "(I)Z" } : Jvm.MethodName)) ∈ lw_all := lw_g (lw_at lw_m7 53 rfl) rfl
theorem q1645 : (Jvm.Cond.code ({ cls := "SelfSortingModel", name := "by", desc := "(I)Z" } : Jvm.MethodName) prog_17_method_54_code (2 : Nat) (Option.some Jvm.ClassFile.FieldType.boolean)) ∈ lw_all := lw_g (lw_at lw_m7 54 rfl) rfl
theorem q1646 : (Jvm.Cond.methodLink "SelfSortingLaw" (101 : Nat) ({ cls := "SelfSortingModel", name := "pushes", desc := "(IIZ)Z" } : Jvm.MethodName)) ∈ lw_all := lw_g (lw_at lw_m7 55 rfl) rfl
theorem q1647 : (Jvm.Cond.instanceMethod ({ cls := "SelfSortingModel", name := "pushes", desc := "(IIZ)Z" } : Jvm.MethodName)) ∈ lw_all := lw_g (lw_at lw_m7 56 rfl) rfl
theorem q1648 : (Jvm.Cond.selects "SelfSortingModel" ({ cls := "SelfSortingModel", name := "pushes", desc := "(IIZ)Z" } : Jvm.MethodName) ({ cls := "SelfSortingModel", name := "pushes", desc := "(IIZ)Z" } : Jvm.MethodName)) ∈ lw_all := lw_g (lw_at lw_m7 57 rfl) rfl
theorem q1649 : (Jvm.Cond.code ({ cls := "SelfSortingModel", name := "pushes", desc := "(IIZ)Z" } : Jvm.MethodName) prog_17_method_67_code (4 : Nat) (Option.some Jvm.ClassFile.FieldType.boolean)) ∈ lw_all := lw_g (lw_at lw_m7 58 rfl) rfl
theorem q1650 : (Jvm.Cond.methodLink "SelfSortingModel" (93 : Nat) ({ cls := "SelfSortingModel", name := "isBook", desc := "(I)Z" } : Jvm.MethodName)) ∈ lw_all := lw_g (lw_at lw_m7 59 rfl) rfl
theorem q1651 : (Jvm.Cond.privateMethod ({ cls := "SelfSortingModel", name := "isBook", desc := "(I)Z" } : Jvm.MethodName)) ∈ lw_tbl := lw_at lw_m7 60 rfl
theorem q1652 : (Jvm.Cond.instanceMethod ({ cls := "SelfSortingModel", name := "isBook", desc := "(I)Z" } : Jvm.MethodName)) ∈ lw_all := lw_g (lw_at lw_m7 61 rfl) rfl
theorem q1653 : (Jvm.Cond.code ({ cls := "SelfSortingModel", name := "isBook", desc := "(I)Z" } : Jvm.MethodName) prog_17_method_6_code (2 : Nat) (Option.some Jvm.ClassFile.FieldType.boolean)) ∈ lw_all := lw_g (lw_at lw_m7 62 rfl) rfl
theorem q1654 : (Jvm.Cond.methodLink "SelfSortingModel" (303 : Nat) ({ cls := "SelfSortingModel", name := "doesPush", desc := "(IIZ)Z" } : Jvm.MethodName)) ∈ lw_all := lw_g (lw_at lw_m7 63 rfl) rfl
theorem q1655 : (Jvm.Cond.privateMethod ({ cls := "SelfSortingModel", name := "doesPush", desc := "(IIZ)Z" } : Jvm.MethodName)) ∈ lw_tbl := lw_at lw_m7 64 rfl
theorem q1656 : (Jvm.Cond.instanceMethod ({ cls := "SelfSortingModel", name := "doesPush", desc := "(IIZ)Z" } : Jvm.MethodName)) ∈ lw_all := lw_g (lw_at lw_m7 65 rfl) rfl
theorem q1657 : (Jvm.Cond.code ({ cls := "SelfSortingModel", name := "doesPush", desc := "(IIZ)Z" } : Jvm.MethodName) prog_17_method_65_code (4 : Nat) (Option.some Jvm.ClassFile.FieldType.boolean)) ∈ lw_all := lw_g (lw_at lw_m7 66 rfl) rfl
theorem q1658 : (Jvm.Cond.methodLink "SelfSortingModel" (97 : Nat) ({ cls := "SelfSortingModel", name := "get", desc := "(II)I" } : Jvm.MethodName)) ∈ lw_all := lw_g (lw_at lw_m7 67 rfl) rfl
theorem q1659 : (Jvm.Cond.privateMethod ({ cls := "SelfSortingModel", name := "get", desc := "(II)I" } : Jvm.MethodName)) ∈ lw_tbl := lw_at lw_m7 68 rfl
theorem q1660 : (Jvm.Cond.instanceMethod ({ cls := "SelfSortingModel", name := "get", desc := "(II)I" } : Jvm.MethodName)) ∈ lw_all := lw_g (lw_at lw_m7 69 rfl) rfl
theorem q1661 : (Jvm.Cond.code ({ cls := "SelfSortingModel", name := "get", desc := "(II)I" } : Jvm.MethodName) prog_17_method_8_code (3 : Nat) (Option.some Jvm.ClassFile.FieldType.int)) ∈ lw_all := lw_g (lw_at lw_m7 70 rfl) rfl
theorem q1662 : (Jvm.Cond.methodLink "SelfSortingModel" (299 : Nat) ({ cls := "SelfSortingModel", name := "pushesBy", desc := "(IIIZ)Z" } : Jvm.MethodName)) ∈ lw_all := lw_g (lw_at lw_m7 71 rfl) rfl
theorem q1663 : (Jvm.Cond.privateMethod ({ cls := "SelfSortingModel", name := "pushesBy", desc := "(IIIZ)Z" } : Jvm.MethodName)) ∈ lw_tbl := lw_at lw_m7 72 rfl
theorem q1664 : (Jvm.Cond.instanceMethod ({ cls := "SelfSortingModel", name := "pushesBy", desc := "(IIIZ)Z" } : Jvm.MethodName)) ∈ lw_all := lw_g (lw_at lw_m7 73 rfl) rfl
theorem q1665 : (Jvm.Cond.code ({ cls := "SelfSortingModel", name := "pushesBy", desc := "(IIIZ)Z" } : Jvm.MethodName) prog_17_method_64_code (7 : Nat) (Option.some Jvm.ClassFile.FieldType.boolean)) ∈ lw_all := lw_g (lw_at lw_m7 74 rfl) rfl
theorem q1666 : (Jvm.Cond.methodLink "SelfSortingModel" (285 : Nat) ({ cls := "SelfSortingModel", name := "clauseOf", desc := "(II)I" } : Jvm.MethodName)) ∈ lw_all := lw_g (lw_at lw_m7 75 rfl) rfl
theorem q1667 : (Jvm.Cond.privateMethod ({ cls := "SelfSortingModel", name := "clauseOf", desc := "(II)I" } : Jvm.MethodName)) ∈ lw_tbl := lw_at lw_m7 76 rfl
theorem q1668 : (Jvm.Cond.instanceMethod ({ cls := "SelfSortingModel", name := "clauseOf", desc := "(II)I" } : Jvm.MethodName)) ∈ lw_all := lw_g (lw_at lw_m7 77 rfl) rfl
theorem q1669 : (Jvm.Cond.code ({ cls := "SelfSortingModel", name := "clauseOf", desc := "(II)I" } : Jvm.MethodName) prog_17_method_59_code (5 : Nat) (Option.some Jvm.ClassFile.FieldType.int)) ∈ lw_all := lw_g (lw_at lw_m7 78 rfl) rfl
theorem q1670 : (Jvm.Cond.methodLink "SelfSortingModel" (288 : Nat) ({ cls := "SelfSortingModel", name := "name", desc := "(I)V" } : Jvm.MethodName)) ∈ lw_all := lw_g (lw_at lw_m7 79 rfl) rfl
theorem q1671 : (Jvm.Cond.privateMethod ({ cls := "SelfSortingModel", name := "name", desc := "(I)V" } : Jvm.MethodName)) ∈ lw_tbl := lw_at lw_m7 80 rfl
theorem q1672 : (Jvm.Cond.instanceMethod ({ cls := "SelfSortingModel", name := "name", desc := "(I)V" } : Jvm.MethodName)) ∈ lw_all := lw_g (lw_at lw_m7 81 rfl) rfl
theorem q1673 : (Jvm.Cond.code ({ cls := "SelfSortingModel", name := "name", desc := "(I)V" } : Jvm.MethodName) prog_17_method_61_code (3 : Nat) (Option.none : Option Jvm.ClassFile.FieldType)) ∈ lw_all := lw_g (lw_at lw_m7 82 rfl) rfl
theorem q1674 : (Jvm.Cond.methodLink "SelfSortingModel" (291 : Nat) ({ cls := "SelfSortingModel", name := "work", desc := "(I)V" } : Jvm.MethodName)) ∈ lw_all := lw_g (lw_at lw_m7 83 rfl) rfl
theorem q1675 : (Jvm.Cond.privateMethod ({ cls := "SelfSortingModel", name := "work", desc := "(I)V" } : Jvm.MethodName)) ∈ lw_tbl := lw_at lw_m7 84 rfl
theorem q1676 : (Jvm.Cond.instanceMethod ({ cls := "SelfSortingModel", name := "work", desc := "(I)V" } : Jvm.MethodName)) ∈ lw_all := lw_g (lw_at lw_m7 85 rfl) rfl
theorem q1677 : (Jvm.Cond.code ({ cls := "SelfSortingModel", name := "work", desc := "(I)V" } : Jvm.MethodName) prog_17_method_58_code (9 : Nat) (Option.none : Option Jvm.ClassFile.FieldType)) ∈ lw_all := lw_g (lw_at lw_m7 86 rfl) rfl
theorem q1678 : (Jvm.Cond.methodLink "SelfSortingModel" (277 : Nat) ({ cls := "SelfSortingModel", name := "two", desc := "(IJJ)J" } : Jvm.MethodName)) ∈ lw_all := lw_g (lw_at lw_m7 87 rfl) rfl
theorem q1679 : (Jvm.Cond.static ({ cls := "SelfSortingModel", name := "two", desc := "(IJJ)J" } : Jvm.MethodName)) ∈ lw_all := lw_g (lw_at lw_m7 88 rfl) rfl
theorem q1680 : (Jvm.Cond.code ({ cls := "SelfSortingModel", name := "two", desc := "(IJJ)J" } : Jvm.MethodName) prog_17_method_56_code (5 : Nat) (Option.some Jvm.ClassFile.FieldType.long)) ∈ lw_all := lw_g (lw_at lw_m7 89 rfl) rfl
theorem q1681 : (Jvm.Cond.methodLink "SelfSortingModel" (273 : Nat) ({ cls := "SelfSortingModel", name := "clip", desc := "(J)J" } : Jvm.MethodName)) ∈ lw_all := lw_g (lw_at lw_m7 90 rfl) rfl
theorem q1682 : (Jvm.Cond.static ({ cls := "SelfSortingModel", name := "clip", desc := "(J)J" } : Jvm.MethodName)) ∈ lw_all := lw_g (lw_at lw_m7 91 rfl) rfl
theorem q1683 : (Jvm.Cond.code ({ cls := "SelfSortingModel", name := "clip", desc := "(J)J" } : Jvm.MethodName) prog_17_method_55_code (2 : Nat) (Option.some Jvm.ClassFile.FieldType.long)) ∈ lw_all := lw_g (lw_at lw_m7 92 rfl) rfl
theorem q1684 : (Jvm.Cond.constantLong "SelfSortingModel" (269 : Nat) (1000000 : Int64)) ∈ lw_all := lw_g (lw_at lw_m7 93 rfl) rfl
theorem q1685 : (Jvm.Cond.constantLong "SelfSortingModel" (271 : Nat) (-1000000 : Int64)) ∈ lw_all := lw_g (lw_at lw_m7 94 rfl) rfl
theorem q1686 : (Jvm.Cond.methodLink "SelfSortingModel" (281 : Nat) ({ cls := "SelfSortingModel", name := "isAsked", desc := "(IJJ)Z" } : Jvm.MethodName)) ∈ lw_all := lw_g (lw_at lw_m7 95 rfl) rfl
theorem q1687 : (Jvm.Cond.static ({ cls := "SelfSortingModel", name := "isAsked", desc := "(IJJ)Z" } : Jvm.MethodName)) ∈ lw_all := lw_g (lw_at lw_m7 96 rfl) rfl
theorem q1688 : (Jvm.Cond.code ({ cls := "SelfSortingModel", name := "isAsked", desc := "(IJJ)Z" } : Jvm.MethodName) prog_17_method_57_code (5 : Nat) (Option.some Jvm.ClassFile.FieldType.boolean)) ∈ lw_all := lw_g (lw_at lw_m7 97 rfl) rfl
theorem q1689 : (Jvm.Cond.methodLink "SelfSortingLaw" (17 : Nat) ({ cls := "SelfSortingModel", name := "wide", desc := "(II)Z" } : Jvm.MethodName)) ∈ lw_all := lw_g (lw_at lw_m7 98 rfl) rfl
theorem q1690 : (Jvm.Cond.instanceMethod ({ cls := "SelfSortingModel", name := "wide", desc := "(II)Z" } : Jvm.MethodName)) ∈ lw_all := lw_g (lw_at lw_m7 99 rfl) rfl
theorem q1691 : (Jvm.Cond.selects "SelfSortingModel" ({ cls := "SelfSortingModel", name := "wide", desc := "(II)Z" } : Jvm.MethodName) ({ cls := "SelfSortingModel", name := "wide", desc := "(II)Z" } : Jvm.MethodName)) ∈ lw_all := lw_g (lw_at lw_m7 100 rfl) rfl
theorem q1692 : (Jvm.Cond.code ({ cls := "SelfSortingModel", name := "wide", desc := "(II)Z" } : Jvm.MethodName) prog_17_method_68_code (3 : Nat) (Option.some Jvm.ClassFile.FieldType.boolean)) ∈ lw_all := lw_g (lw_at lw_m7 101 rfl) rfl
theorem q1693 : (Jvm.Cond.methodLink "SelfSortingModel" (310 : Nat) ({ cls := "SelfSortingModel", name := "isShelf", desc := "(I)Z" } : Jvm.MethodName)) ∈ lw_all := lw_g (lw_at lw_m7 102 rfl) rfl
theorem q1694 : (Jvm.Cond.static ({ cls := "SelfSortingModel", name := "isShelf", desc := "(I)Z" } : Jvm.MethodName)) ∈ lw_all := lw_g (lw_at lw_m7 103 rfl) rfl
theorem q1695 : (Jvm.Cond.code ({ cls := "SelfSortingModel", name := "isShelf", desc := "(I)Z" } : Jvm.MethodName) prog_17_method_7_code (1 : Nat) (Option.some Jvm.ClassFile.FieldType.boolean)) ∈ lw_all := lw_g (lw_at lw_m7 104 rfl) rfl
theorem q1696 : (Jvm.Cond.methodLink "SelfSortingModel" (313 : Nat) ({ cls := "SelfSortingModel", name := "fullOf", desc := "(I)I" } : Jvm.MethodName)) ∈ lw_all := lw_g (lw_at lw_m7 105 rfl) rfl
theorem q1697 : (Jvm.Cond.privateMethod ({ cls := "SelfSortingModel", name := "fullOf", desc := "(I)I" } : Jvm.MethodName)) ∈ lw_tbl := lw_at lw_m7 106 rfl
theorem q1698 : (Jvm.Cond.instanceMethod ({ cls := "SelfSortingModel", name := "fullOf", desc := "(I)I" } : Jvm.MethodName)) ∈ lw_all := lw_g (lw_at lw_m7 107 rfl) rfl
theorem q1699 : (Jvm.Cond.code ({ cls := "SelfSortingModel", name := "fullOf", desc := "(I)I" } : Jvm.MethodName) prog_17_method_63_code (4 : Nat) (Option.some Jvm.ClassFile.FieldType.int)) ∈ lw_all := lw_g (lw_at lw_m7 108 rfl) rfl
theorem q1700 : (Jvm.Cond.methodLink "SelfSortingModel" (101 : Nat) ({ cls := "SelfSortingModel", name := "bookAt", desc := "(II)I" } : Jvm.MethodName)) ∈ lw_all := lw_g (lw_at lw_m7 109 rfl) rfl
theorem q1701 : (Jvm.Cond.privateMethod ({ cls := "SelfSortingModel", name := "bookAt", desc := "(II)I" } : Jvm.MethodName)) ∈ lw_tbl := lw_at lw_m7 110 rfl
theorem q1702 : (Jvm.Cond.instanceMethod ({ cls := "SelfSortingModel", name := "bookAt", desc := "(II)I" } : Jvm.MethodName)) ∈ lw_all := lw_g (lw_at lw_m7 111 rfl) rfl
theorem q1703 : (Jvm.Cond.code ({ cls := "SelfSortingModel", name := "bookAt", desc := "(II)I" } : Jvm.MethodName) prog_17_method_10_code (3 : Nat) (Option.some Jvm.ClassFile.FieldType.int)) ∈ lw_all := lw_g (lw_at lw_m7 112 rfl) rfl
theorem q1704 : (Jvm.Cond.methodLink "SelfSortingModel" (296 : Nat) ({ cls := "SelfSortingModel", name := "thickNow", desc := "(I)I" } : Jvm.MethodName)) ∈ lw_all := lw_g (lw_at lw_m7 113 rfl) rfl
theorem q1705 : (Jvm.Cond.privateMethod ({ cls := "SelfSortingModel", name := "thickNow", desc := "(I)I" } : Jvm.MethodName)) ∈ lw_tbl := lw_at lw_m7 114 rfl
theorem q1706 : (Jvm.Cond.instanceMethod ({ cls := "SelfSortingModel", name := "thickNow", desc := "(I)I" } : Jvm.MethodName)) ∈ lw_all := lw_g (lw_at lw_m7 115 rfl) rfl
theorem q1707 : (Jvm.Cond.code ({ cls := "SelfSortingModel", name := "thickNow", desc := "(I)I" } : Jvm.MethodName) prog_17_method_62_code (3 : Nat) (Option.some Jvm.ClassFile.FieldType.int)) ∈ lw_all := lw_g (lw_at lw_m7 116 rfl) rfl
theorem q1708 : (Jvm.Cond.constantLong "SelfSortingModel" (294 : Nat) (9 : Int64)) ∈ lw_all := lw_g (lw_at lw_m7 117 rfl) rfl
theorem q1709 : (Jvm.Cond.methodLink "SelfSortingLaw" (84 : Nat) ({ cls := "SelfSortingModel", name := "undo", desc := "()I" } : Jvm.MethodName)) ∈ lw_all := lw_g (lw_at lw_m7 118 rfl) rfl
theorem q1710 : (Jvm.Cond.instanceMethod ({ cls := "SelfSortingModel", name := "undo", desc := "()I" } : Jvm.MethodName)) ∈ lw_all := lw_g (lw_at lw_m7 119 rfl) rfl
theorem q1711 : (Jvm.Cond.selects "SelfSortingModel" ({ cls := "SelfSortingModel", name := "undo", desc := "()I" } : Jvm.MethodName) ({ cls := "SelfSortingModel", name := "undo", desc := "()I" } : Jvm.MethodName)) ∈ lw_all := lw_g (lw_at lw_m7 120 rfl) rfl
theorem q1712 : (Jvm.Cond.code ({ cls := "SelfSortingModel", name := "undo", desc := "()I" } : Jvm.MethodName) prog_17_method_70_code (3 : Nat) (Option.some Jvm.ClassFile.FieldType.int)) ∈ lw_all := lw_g (lw_at lw_m7 121 rfl) rfl
theorem q1713 : (Jvm.Cond.methodLink "SelfSortingLaw" (53 : Nat) ({ cls := "SelfSortingModel", name := "night", desc := "(I)I" } : Jvm.MethodName)) ∈ lw_all := lw_g (lw_at lw_m7 122 rfl) rfl
theorem q1714 : (Jvm.Cond.instanceMethod ({ cls := "SelfSortingModel", name := "night", desc := "(I)I" } : Jvm.MethodName)) ∈ lw_all := lw_g (lw_at lw_m7 123 rfl) rfl
theorem q1715 : (Jvm.Cond.selects "SelfSortingModel" ({ cls := "SelfSortingModel", name := "night", desc := "(I)I" } : Jvm.MethodName) ({ cls := "SelfSortingModel", name := "night", desc := "(I)I" } : Jvm.MethodName)) ∈ lw_all := lw_g (lw_at lw_m7 124 rfl) rfl
theorem q1716 : (Jvm.Cond.code ({ cls := "SelfSortingModel", name := "night", desc := "(I)I" } : Jvm.MethodName) prog_17_method_81_code (4 : Nat) (Option.some Jvm.ClassFile.FieldType.int)) ∈ lw_all := lw_g (lw_at lw_m7 125 rfl) rfl
theorem q1717 : (Jvm.Cond.methodLink "SelfSortingModel" (351 : Nat) ({ cls := "SelfSortingModel", name := "oneNight", desc := "()I" } : Jvm.MethodName)) ∈ lw_all := lw_g (lw_at lw_m7 126 rfl) rfl
theorem q1718 : (Jvm.Cond.privateMethod ({ cls := "SelfSortingModel", name := "oneNight", desc := "()I" } : Jvm.MethodName)) ∈ lw_tbl := lw_at lw_m7 127 rfl
theorem q1719 : (Jvm.Cond.instanceMethod ({ cls := "SelfSortingModel", name := "oneNight", desc := "()I" } : Jvm.MethodName)) ∈ lw_all := lw_g (lw_at lw_m7 128 rfl) rfl
theorem q1720 : (Jvm.Cond.code ({ cls := "SelfSortingModel", name := "oneNight", desc := "()I" } : Jvm.MethodName) prog_17_method_80_code (4 : Nat) (Option.some Jvm.ClassFile.FieldType.int)) ∈ lw_all := lw_g (lw_at lw_m7 129 rfl) rfl
theorem q1721 : (Jvm.Cond.methodLink "SelfSortingModel" (339 : Nat) ({ cls := "SelfSortingModel", name := "keep", desc := "()V" } : Jvm.MethodName)) ∈ lw_all := lw_g (lw_at lw_m7 130 rfl) rfl
theorem q1722 : (Jvm.Cond.privateMethod ({ cls := "SelfSortingModel", name := "keep", desc := "()V" } : Jvm.MethodName)) ∈ lw_tbl := lw_at lw_m7 131 rfl
theorem q1723 : (Jvm.Cond.instanceMethod ({ cls := "SelfSortingModel", name := "keep", desc := "()V" } : Jvm.MethodName)) ∈ lw_all := lw_g (lw_at lw_m7 132 rfl) rfl
theorem q1724 : (Jvm.Cond.code ({ cls := "SelfSortingModel", name := "keep", desc := "()V" } : Jvm.MethodName) prog_17_method_69_code (3 : Nat) (Option.none : Option Jvm.ClassFile.FieldType)) ∈ lw_all := lw_g (lw_at lw_m7 133 rfl) rfl
theorem q1725 : (Jvm.Cond.methodLink "SelfSortingModel" (342 : Nat) ({ cls := "SelfSortingModel", name := "changeAt", desc := "(II)I" } : Jvm.MethodName)) ∈ lw_all := lw_g (lw_at lw_m7 134 rfl) rfl
theorem q1726 : (Jvm.Cond.privateMethod ({ cls := "SelfSortingModel", name := "changeAt", desc := "(II)I" } : Jvm.MethodName)) ∈ lw_tbl := lw_at lw_m7 135 rfl
theorem q1727 : (Jvm.Cond.instanceMethod ({ cls := "SelfSortingModel", name := "changeAt", desc := "(II)I" } : Jvm.MethodName)) ∈ lw_all := lw_g (lw_at lw_m7 136 rfl) rfl
theorem q1728 : (Jvm.Cond.code ({ cls := "SelfSortingModel", name := "changeAt", desc := "(II)I" } : Jvm.MethodName) prog_17_method_76_code (5 : Nat) (Option.some Jvm.ClassFile.FieldType.int)) ∈ lw_all := lw_g (lw_at lw_m7 137 rfl) rfl
theorem q1729 : (Jvm.Cond.methodLink "SelfSortingModel" (319 : Nat) ({ cls := "SelfSortingModel", name := "doChange", desc := "(II)Z" } : Jvm.MethodName)) ∈ lw_all := lw_g (lw_at lw_m7 138 rfl) rfl
theorem q1730 : (Jvm.Cond.privateMethod ({ cls := "SelfSortingModel", name := "doChange", desc := "(II)Z" } : Jvm.MethodName)) ∈ lw_tbl := lw_at lw_m7 139 rfl
theorem q1731 : (Jvm.Cond.instanceMethod ({ cls := "SelfSortingModel", name := "doChange", desc := "(II)Z" } : Jvm.MethodName)) ∈ lw_all := lw_g (lw_at lw_m7 140 rfl) rfl
theorem q1732 : (Jvm.Cond.code ({ cls := "SelfSortingModel", name := "doChange", desc := "(II)Z" } : Jvm.MethodName) prog_17_method_66_code (4 : Nat) (Option.some Jvm.ClassFile.FieldType.boolean)) ∈ lw_all := lw_g (lw_at lw_m7 141 rfl) rfl
theorem q1733 : (Jvm.Cond.methodLink "SelfSortingModel" (307 : Nat) ({ cls := "SelfSortingModel", name := "needNow", desc := "()I" } : Jvm.MethodName)) ∈ lw_all := lw_g (lw_at lw_m7 142 rfl) rfl
theorem q1734 : (Jvm.Cond.privateMethod ({ cls := "SelfSortingModel", name := "needNow", desc := "()I" } : Jvm.MethodName)) ∈ lw_tbl := lw_at lw_m7 143 rfl
theorem q1735 : (Jvm.Cond.instanceMethod ({ cls := "SelfSortingModel", name := "needNow", desc := "()I" } : Jvm.MethodName)) ∈ lw_all := lw_g (lw_at lw_m7 144 rfl) rfl
theorem q1736 : (Jvm.Cond.code ({ cls := "SelfSortingModel", name := "needNow", desc := "()I" } : Jvm.MethodName) prog_17_method_60_code (2 : Nat) (Option.some Jvm.ClassFile.FieldType.int)) ∈ lw_all := lw_g (lw_at lw_m7 145 rfl) rfl
theorem q1737 : (Jvm.Cond.methodLink "SelfSortingModel" (323 : Nat) ({ cls := "SelfSortingModel", name := "write", desc := "(III)V" } : Jvm.MethodName)) ∈ lw_all := lw_g (lw_at lw_m7 146 rfl) rfl
theorem q1738 : (Jvm.Cond.privateMethod ({ cls := "SelfSortingModel", name := "write", desc := "(III)V" } : Jvm.MethodName)) ∈ lw_tbl := lw_at lw_m7 147 rfl
theorem q1739 : (Jvm.Cond.instanceMethod ({ cls := "SelfSortingModel", name := "write", desc := "(III)V" } : Jvm.MethodName)) ∈ lw_all := lw_g (lw_at lw_m7 148 rfl) rfl
theorem q1740 : (Jvm.Cond.code ({ cls := "SelfSortingModel", name := "write", desc := "(III)V" } : Jvm.MethodName) prog_17_method_75_code (5 : Nat) (Option.none : Option Jvm.ClassFile.FieldType)) ∈ lw_all := lw_g (lw_at lw_m7 149 rfl) rfl
theorem q1741 : (Jvm.Cond.methodLink "SelfSortingModel" (326 : Nat) ({ cls := "SelfSortingModel", name := "exchange", desc := "(II)V" } : Jvm.MethodName)) ∈ lw_all := lw_g (lw_at lw_m7 150 rfl) rfl
theorem q1742 : (Jvm.Cond.privateMethod ({ cls := "SelfSortingModel", name := "exchange", desc := "(II)V" } : Jvm.MethodName)) ∈ lw_tbl := lw_at lw_m7 151 rfl
theorem q1743 : (Jvm.Cond.instanceMethod ({ cls := "SelfSortingModel", name := "exchange", desc := "(II)V" } : Jvm.MethodName)) ∈ lw_all := lw_g (lw_at lw_m7 152 rfl) rfl
theorem q1744 : (Jvm.Cond.code ({ cls := "SelfSortingModel", name := "exchange", desc := "(II)V" } : Jvm.MethodName) prog_17_method_74_code (4 : Nat) (Option.none : Option Jvm.ClassFile.FieldType)) ∈ lw_all := lw_g (lw_at lw_m7 153 rfl) rfl
theorem q1745 : (Jvm.Cond.methodLink "SelfSortingModel" (316 : Nat) ({ cls := "SelfSortingModel", name := "lay", desc := "(III)V" } : Jvm.MethodName)) ∈ lw_all := lw_g (lw_at lw_m7 154 rfl) rfl
theorem q1746 : (Jvm.Cond.privateMethod ({ cls := "SelfSortingModel", name := "lay", desc := "(III)V" } : Jvm.MethodName)) ∈ lw_tbl := lw_at lw_m7 155 rfl
theorem q1747 : (Jvm.Cond.instanceMethod ({ cls := "SelfSortingModel", name := "lay", desc := "(III)V" } : Jvm.MethodName)) ∈ lw_all := lw_g (lw_at lw_m7 156 rfl) rfl
theorem q1748 : (Jvm.Cond.code ({ cls := "SelfSortingModel", name := "lay", desc := "(III)V" } : Jvm.MethodName) prog_17_method_71_code (4 : Nat) (Option.none : Option Jvm.ClassFile.FieldType)) ∈ lw_all := lw_g (lw_at lw_m7 157 rfl) rfl
theorem q1749 : (Jvm.Cond.methodLink "SelfSortingModel" (348 : Nat) ({ cls := "SelfSortingModel", name := "fall", desc := "()I" } : Jvm.MethodName)) ∈ lw_all := lw_g (lw_at lw_m7 158 rfl) rfl
theorem q1750 : (Jvm.Cond.privateMethod ({ cls := "SelfSortingModel", name := "fall", desc := "()I" } : Jvm.MethodName)) ∈ lw_tbl := lw_at lw_m7 159 rfl
theorem q1751 : (Jvm.Cond.instanceMethod ({ cls := "SelfSortingModel", name := "fall", desc := "()I" } : Jvm.MethodName)) ∈ lw_all := lw_g (lw_at lw_m7 160 rfl) rfl
theorem q1752 : (Jvm.Cond.code ({ cls := "SelfSortingModel", name := "fall", desc := "()I" } : Jvm.MethodName) prog_17_method_79_code (3 : Nat) (Option.some Jvm.ClassFile.FieldType.int)) ∈ lw_all := lw_g (lw_at lw_m7 161 rfl) rfl
theorem q1753 : (Jvm.Cond.methodLink "SelfSortingModel" (336 : Nat) ({ cls := "SelfSortingModel", name := "fallFrom", desc := "(I)I" } : Jvm.MethodName)) ∈ lw_all := lw_g (lw_at lw_m7 162 rfl) rfl
theorem q1754 : (Jvm.Cond.privateMethod ({ cls := "SelfSortingModel", name := "fallFrom", desc := "(I)I" } : Jvm.MethodName)) ∈ lw_tbl := lw_at lw_m7 163 rfl
theorem q1755 : (Jvm.Cond.instanceMethod ({ cls := "SelfSortingModel", name := "fallFrom", desc := "(I)I" } : Jvm.MethodName)) ∈ lw_all := lw_g (lw_at lw_m7 164 rfl) rfl
theorem q1756 : (Jvm.Cond.code ({ cls := "SelfSortingModel", name := "fallFrom", desc := "(I)I" } : Jvm.MethodName) prog_17_method_78_code (6 : Nat) (Option.some Jvm.ClassFile.FieldType.int)) ∈ lw_all := lw_g (lw_at lw_m7 165 rfl) rfl
theorem q1757 : (Jvm.Cond.methodLink "SelfSortingModel" (329 : Nat) ({ cls := "SelfSortingModel", name := "isFalling", desc := "(IIIII)Z" } : Jvm.MethodName)) ∈ lw_all := lw_g (lw_at lw_m7 166 rfl) rfl
theorem q1758 : (Jvm.Cond.privateMethod ({ cls := "SelfSortingModel", name := "isFalling", desc := "(IIIII)Z" } : Jvm.MethodName)) ∈ lw_tbl := lw_at lw_m7 167 rfl
theorem q1759 : (Jvm.Cond.instanceMethod ({ cls := "SelfSortingModel", name := "isFalling", desc := "(IIIII)Z" } : Jvm.MethodName)) ∈ lw_all := lw_g (lw_at lw_m7 168 rfl) rfl
theorem q1760 : (Jvm.Cond.code ({ cls := "SelfSortingModel", name := "isFalling", desc := "(IIIII)Z" } : Jvm.MethodName) prog_17_method_77_code (6 : Nat) (Option.some Jvm.ClassFile.FieldType.boolean)) ∈ lw_all := lw_g (lw_at lw_m7 169 rfl) rfl
theorem q1761 : (Jvm.Cond.methodLink "SelfSortingModel" (333 : Nat) ({ cls := "SelfSortingModel", name := "pull", desc := "(III)V" } : Jvm.MethodName)) ∈ lw_all := lw_g (lw_at lw_m7 170 rfl) rfl
theorem q1762 : (Jvm.Cond.privateMethod ({ cls := "SelfSortingModel", name := "pull", desc := "(III)V" } : Jvm.MethodName)) ∈ lw_tbl := lw_at lw_m7 171 rfl
theorem q1763 : (Jvm.Cond.instanceMethod ({ cls := "SelfSortingModel", name := "pull", desc := "(III)V" } : Jvm.MethodName)) ∈ lw_all := lw_g (lw_at lw_m7 172 rfl) rfl
theorem q1764 : (Jvm.Cond.code ({ cls := "SelfSortingModel", name := "pull", desc := "(III)V" } : Jvm.MethodName) prog_17_method_72_code (5 : Nat) (Option.none : Option Jvm.ClassFile.FieldType)) ∈ lw_all := lw_g (lw_at lw_m7 173 rfl) rfl
theorem q1765 : (Jvm.Cond.methodLink "SelfSortingLaw" (58 : Nat) ({ cls := "SelfSortingModel", name := "nudge", desc := "(II)I" } : Jvm.MethodName)) ∈ lw_all := lw_g (lw_at lw_m7 174 rfl) rfl
theorem q1766 : (Jvm.Cond.instanceMethod ({ cls := "SelfSortingModel", name := "nudge", desc := "(II)I" } : Jvm.MethodName)) ∈ lw_all := lw_g (lw_at lw_m7 175 rfl) rfl
theorem q1767 : (Jvm.Cond.selects "SelfSortingModel" ({ cls := "SelfSortingModel", name := "nudge", desc := "(II)I" } : Jvm.MethodName) ({ cls := "SelfSortingModel", name := "nudge", desc := "(II)I" } : Jvm.MethodName)) ∈ lw_all := lw_g (lw_at lw_m7 176 rfl) rfl
theorem q1768 : (Jvm.Cond.code ({ cls := "SelfSortingModel", name := "nudge", desc := "(II)I" } : Jvm.MethodName) prog_17_method_82_code (3 : Nat) (Option.some Jvm.ClassFile.FieldType.int)) ∈ lw_all := lw_g (lw_at lw_m7 177 rfl) rfl
theorem q1769 : (Jvm.Cond.methodLink "SelfSortingLaw" (62 : Nat) ({ cls := "SelfSortingModel", name := "take", desc := "(I)I" } : Jvm.MethodName)) ∈ lw_all := lw_g (lw_at lw_m7 178 rfl) rfl
theorem q1770 : (Jvm.Cond.instanceMethod ({ cls := "SelfSortingModel", name := "take", desc := "(I)I" } : Jvm.MethodName)) ∈ lw_all := lw_g (lw_at lw_m7 179 rfl) rfl
theorem q1771 : (Jvm.Cond.selects "SelfSortingModel" ({ cls := "SelfSortingModel", name := "take", desc := "(I)I" } : Jvm.MethodName) ({ cls := "SelfSortingModel", name := "take", desc := "(I)I" } : Jvm.MethodName)) ∈ lw_all := lw_g (lw_at lw_m7 180 rfl) rfl
theorem q1772 : (Jvm.Cond.code ({ cls := "SelfSortingModel", name := "take", desc := "(I)I" } : Jvm.MethodName) prog_17_method_83_code (3 : Nat) (Option.some Jvm.ClassFile.FieldType.int)) ∈ lw_all := lw_g (lw_at lw_m7 181 rfl) rfl
theorem q1773 : (Jvm.Cond.methodLink "SelfSortingModel" (354 : Nat) ({ cls := "SelfSortingModel", name := "placeOf", desc := "(I)I" } : Jvm.MethodName)) ∈ lw_all := lw_g (lw_at lw_m7 182 rfl) rfl
theorem q1774 : (Jvm.Cond.privateMethod ({ cls := "SelfSortingModel", name := "placeOf", desc := "(I)I" } : Jvm.MethodName)) ∈ lw_tbl := lw_at lw_m7 183 rfl
theorem q1775 : (Jvm.Cond.instanceMethod ({ cls := "SelfSortingModel", name := "placeOf", desc := "(I)I" } : Jvm.MethodName)) ∈ lw_all := lw_g (lw_at lw_m7 184 rfl) rfl
theorem q1776 : (Jvm.Cond.code ({ cls := "SelfSortingModel", name := "placeOf", desc := "(I)I" } : Jvm.MethodName) prog_17_method_12_code (3 : Nat) (Option.some Jvm.ClassFile.FieldType.int)) ∈ lw_all := lw_g (lw_at lw_m7 185 rfl) rfl
theorem q1777 : (Jvm.Cond.methodLink "SelfSortingLaw" (67 : Nat) ({ cls := "SelfSortingModel", name := "put", desc := "(III)I" } : Jvm.MethodName)) ∈ lw_all := lw_g (lw_at lw_m7 186 rfl) rfl
theorem q1778 : (Jvm.Cond.instanceMethod ({ cls := "SelfSortingModel", name := "put", desc := "(III)I" } : Jvm.MethodName)) ∈ lw_all := lw_g (lw_at lw_m7 187 rfl) rfl
theorem q1779 : (Jvm.Cond.selects "SelfSortingModel" ({ cls := "SelfSortingModel", name := "put", desc := "(III)I" } : Jvm.MethodName) ({ cls := "SelfSortingModel", name := "put", desc := "(III)I" } : Jvm.MethodName)) ∈ lw_all := lw_g (lw_at lw_m7 188 rfl) rfl
theorem q1780 : (Jvm.Cond.code ({ cls := "SelfSortingModel", name := "put", desc := "(III)I" } : Jvm.MethodName) prog_17_method_84_code (4 : Nat) (Option.some Jvm.ClassFile.FieldType.int)) ∈ lw_all := lw_g (lw_at lw_m7 189 rfl) rfl
theorem q1781 : (Jvm.Cond.methodLink "SelfSortingModel" (357 : Nat) ({ cls := "SelfSortingModel", name := "setAt", desc := "(III)V" } : Jvm.MethodName)) ∈ lw_all := lw_g (lw_at lw_m7 190 rfl) rfl
theorem q1782 : (Jvm.Cond.privateMethod ({ cls := "SelfSortingModel", name := "setAt", desc := "(III)V" } : Jvm.MethodName)) ∈ lw_tbl := lw_at lw_m7 191 rfl
theorem q1783 : (Jvm.Cond.instanceMethod ({ cls := "SelfSortingModel", name := "setAt", desc := "(III)V" } : Jvm.MethodName)) ∈ lw_all := lw_g (lw_at lw_m7 192 rfl) rfl
theorem q1784 : (Jvm.Cond.code ({ cls := "SelfSortingModel", name := "setAt", desc := "(III)V" } : Jvm.MethodName) prog_17_method_73_code (5 : Nat) (Option.none : Option Jvm.ClassFile.FieldType)) ∈ lw_all := lw_g (lw_at lw_m7 193 rfl) rfl
theorem q1785 : (Jvm.Cond.methodLink "SelfSortingLaw" (72 : Nat) ({ cls := "SelfSortingModel", name := "wet", desc := "(Z)I" } : Jvm.MethodName)) ∈ lw_all := lw_g (lw_at lw_m7 194 rfl) rfl
theorem q1786 : (Jvm.Cond.instanceMethod ({ cls := "SelfSortingModel", name := "wet", desc := "(Z)I" } : Jvm.MethodName)) ∈ lw_all := lw_g (lw_at lw_m7 195 rfl) rfl
theorem q1787 : (Jvm.Cond.selects "SelfSortingModel" ({ cls := "SelfSortingModel", name := "wet", desc := "(Z)I" } : Jvm.MethodName) ({ cls := "SelfSortingModel", name := "wet", desc := "(Z)I" } : Jvm.MethodName)) ∈ lw_all := lw_g (lw_at lw_m7 196 rfl) rfl
theorem q1788 : (Jvm.Cond.code ({ cls := "SelfSortingModel", name := "wet", desc := "(Z)I" } : Jvm.MethodName) prog_17_method_85_code (2 : Nat) (Option.some Jvm.ClassFile.FieldType.int)) ∈ lw_all := lw_g (lw_at lw_m7 197 rfl) rfl
theorem q1789 : (Jvm.Cond.methodLink "SelfSortingLaw" (76 : Nat) ({ cls := "SelfSortingModel", name := "played", desc := "(I)I" } : Jvm.MethodName)) ∈ lw_all := lw_g (lw_at lw_m7 198 rfl) rfl
theorem q1790 : (Jvm.Cond.instanceMethod ({ cls := "SelfSortingModel", name := "played", desc := "(I)I" } : Jvm.MethodName)) ∈ lw_all := lw_g (lw_at lw_m7 199 rfl) rfl
theorem q1791 : (Jvm.Cond.selects "SelfSortingModel" ({ cls := "SelfSortingModel", name := "played", desc := "(I)I" } : Jvm.MethodName) ({ cls := "SelfSortingModel", name := "played", desc := "(I)I" } : Jvm.MethodName)) ∈ lw_all := lw_g (lw_at lw_m7 200 rfl) rfl
theorem q1792 : (Jvm.Cond.code ({ cls := "SelfSortingModel", name := "played", desc := "(I)I" } : Jvm.MethodName) prog_17_method_87_code (3 : Nat) (Option.some Jvm.ClassFile.FieldType.int)) ∈ lw_all := lw_g (lw_at lw_m7 201 rfl) rfl
theorem q1793 : (Jvm.Cond.methodLink "SelfSortingModel" (376 : Nat) ({ cls := "SelfSortingModel", name := "isPlayed", desc := "(I)Z" } : Jvm.MethodName)) ∈ lw_all := lw_g (lw_at lw_m7 202 rfl) rfl
theorem q1794 : (Jvm.Cond.privateMethod ({ cls := "SelfSortingModel", name := "isPlayed", desc := "(I)Z" } : Jvm.MethodName)) ∈ lw_tbl := lw_at lw_m7 203 rfl
theorem q1795 : (Jvm.Cond.instanceMethod ({ cls := "SelfSortingModel", name := "isPlayed", desc := "(I)Z" } : Jvm.MethodName)) ∈ lw_all := lw_g (lw_at lw_m7 204 rfl) rfl
theorem q1796 : (Jvm.Cond.code ({ cls := "SelfSortingModel", name := "isPlayed", desc := "(I)Z" } : Jvm.MethodName) prog_17_method_86_code (2 : Nat) (Option.some Jvm.ClassFile.FieldType.boolean)) ∈ lw_all := lw_g (lw_at lw_m7 205 rfl) rfl
theorem q1797 : (Jvm.Cond.methodLink "SelfSortingModel" (360 : Nat) ({ cls := "SelfSortingModel", name := "night", desc := "(I)I" } : Jvm.MethodName)) ∈ lw_all := lw_g (lw_at lw_m7 206 rfl) rfl
theorem q1798 : (Jvm.Cond.methodLink "SelfSortingModel" (363 : Nat) ({ cls := "SelfSortingModel", name := "nudge", desc := "(II)I" } : Jvm.MethodName)) ∈ lw_all := lw_g (lw_at lw_m7 207 rfl) rfl
theorem q1799 : (Jvm.Cond.methodLink "SelfSortingModel" (366 : Nat) ({ cls := "SelfSortingModel", name := "take", desc := "(I)I" } : Jvm.MethodName)) ∈ lw_all := lw_g (lw_at lw_m7 208 rfl) rfl
theorem q1800 : (Jvm.Cond.methodLink "SelfSortingModel" (369 : Nat) ({ cls := "SelfSortingModel", name := "put", desc := "(III)I" } : Jvm.MethodName)) ∈ lw_all := lw_g (lw_at lw_m7 209 rfl) rfl
theorem q1801 : (Jvm.Cond.methodLink "SelfSortingModel" (372 : Nat) ({ cls := "SelfSortingModel", name := "wet", desc := "(Z)I" } : Jvm.MethodName)) ∈ lw_all := lw_g (lw_at lw_m7 210 rfl) rfl
theorem q1802 : (Jvm.Cond.methodLink "SelfSortingLaw" (80 : Nat) ({ cls := "SelfSortingModel", name := "year", desc := "(II)I" } : Jvm.MethodName)) ∈ lw_all := lw_g (lw_at lw_m7 211 rfl) rfl
theorem q1803 : (Jvm.Cond.instanceMethod ({ cls := "SelfSortingModel", name := "year", desc := "(II)I" } : Jvm.MethodName)) ∈ lw_all := lw_g (lw_at lw_m7 212 rfl) rfl
theorem q1804 : (Jvm.Cond.selects "SelfSortingModel" ({ cls := "SelfSortingModel", name := "year", desc := "(II)I" } : Jvm.MethodName) ({ cls := "SelfSortingModel", name := "year", desc := "(II)I" } : Jvm.MethodName)) ∈ lw_all := lw_g (lw_at lw_m7 213 rfl) rfl
theorem q1805 : (Jvm.Cond.code ({ cls := "SelfSortingModel", name := "year", desc := "(II)I" } : Jvm.MethodName) prog_17_method_89_code (10 : Nat) (Option.some Jvm.ClassFile.FieldType.int)) ∈ lw_all := lw_g (lw_at lw_m7 214 rfl) rfl
theorem q1806 : (Jvm.Cond.methodLink "SelfSortingModel" (379 : Nat) ({ cls := "SelfSortingModel", name := "anew", desc := "(I)I" } : Jvm.MethodName)) ∈ lw_all := lw_g (lw_at lw_m7 215 rfl) rfl
theorem q1807 : (Jvm.Cond.static ({ cls := "SelfSortingModel", name := "anew", desc := "(I)I" } : Jvm.MethodName)) ∈ lw_all := lw_g (lw_at lw_m7 216 rfl) rfl
theorem q1808 : (Jvm.Cond.code ({ cls := "SelfSortingModel", name := "anew", desc := "(I)I" } : Jvm.MethodName) prog_17_method_88_code (1 : Nat) (Option.some Jvm.ClassFile.FieldType.int)) ∈ lw_all := lw_g (lw_at lw_m7 217 rfl) rfl
theorem q1809 : (Jvm.Cond.methodLink "SelfSortingModel" (382 : Nat) ({ cls := "SelfSortingModel", name := "isOnShelf", desc := "(I)Z" } : Jvm.MethodName)) ∈ lw_all := lw_g (lw_at lw_m7 218 rfl) rfl
theorem q1810 : (Jvm.Cond.privateMethod ({ cls := "SelfSortingModel", name := "isOnShelf", desc := "(I)Z" } : Jvm.MethodName)) ∈ lw_tbl := lw_at lw_m7 219 rfl
theorem q1811 : (Jvm.Cond.instanceMethod ({ cls := "SelfSortingModel", name := "isOnShelf", desc := "(I)Z" } : Jvm.MethodName)) ∈ lw_all := lw_g (lw_at lw_m7 220 rfl) rfl
theorem q1812 : (Jvm.Cond.code ({ cls := "SelfSortingModel", name := "isOnShelf", desc := "(I)Z" } : Jvm.MethodName) prog_17_method_11_code (2 : Nat) (Option.some Jvm.ClassFile.FieldType.boolean)) ∈ lw_all := lw_g (lw_at lw_m7 221 rfl) rfl
theorem q1813 : (Jvm.Cond.methodLink "SelfSortingLaw" (88 : Nat) ({ cls := "SelfSortingModel", name := "at", desc := "(II)I" } : Jvm.MethodName)) ∈ lw_all := lw_g (lw_at lw_m7 222 rfl) rfl
theorem q1814 : (Jvm.Cond.instanceMethod ({ cls := "SelfSortingModel", name := "at", desc := "(II)I" } : Jvm.MethodName)) ∈ lw_all := lw_g (lw_at lw_m7 223 rfl) rfl
theorem q1815 : (Jvm.Cond.selects "SelfSortingModel" ({ cls := "SelfSortingModel", name := "at", desc := "(II)I" } : Jvm.MethodName) ({ cls := "SelfSortingModel", name := "at", desc := "(II)I" } : Jvm.MethodName)) ∈ lw_all := lw_g (lw_at lw_m7 224 rfl) rfl
theorem q1816 : (Jvm.Cond.code ({ cls := "SelfSortingModel", name := "at", desc := "(II)I" } : Jvm.MethodName) prog_17_method_90_code (3 : Nat) (Option.some Jvm.ClassFile.FieldType.int)) ∈ lw_all := lw_g (lw_at lw_m7 225 rfl) rfl
theorem q1817 : (Jvm.Cond.methodLink "SelfSortingLaw" (92 : Nat) ({ cls := "SelfSortingModel", name := "of", desc := "(II)I" } : Jvm.MethodName)) ∈ lw_all := lw_g (lw_at lw_m7 226 rfl) rfl
theorem q1818 : (Jvm.Cond.instanceMethod ({ cls := "SelfSortingModel", name := "of", desc := "(II)I" } : Jvm.MethodName)) ∈ lw_all := lw_g (lw_at lw_m7 227 rfl) rfl
theorem q1819 : (Jvm.Cond.selects "SelfSortingModel" ({ cls := "SelfSortingModel", name := "of", desc := "(II)I" } : Jvm.MethodName) ({ cls := "SelfSortingModel", name := "of", desc := "(II)I" } : Jvm.MethodName)) ∈ lw_all := lw_g (lw_at lw_m7 228 rfl) rfl
theorem q1820 : (Jvm.Cond.code ({ cls := "SelfSortingModel", name := "of", desc := "(II)I" } : Jvm.MethodName) prog_17_method_91_code (3 : Nat) (Option.some Jvm.ClassFile.FieldType.int)) ∈ lw_all := lw_g (lw_at lw_m7 229 rfl) rfl
theorem q1821 : (Jvm.Cond.methodLink "SelfSortingLaw" (96 : Nat) ({ cls := "SelfSortingModel", name := "shelf", desc := "(II)I" } : Jvm.MethodName)) ∈ lw_all := lw_g (lw_at lw_m7 230 rfl) rfl
theorem q1822 : (Jvm.Cond.instanceMethod ({ cls := "SelfSortingModel", name := "shelf", desc := "(II)I" } : Jvm.MethodName)) ∈ lw_all := lw_g (lw_at lw_m7 231 rfl) rfl
theorem q1823 : (Jvm.Cond.selects "SelfSortingModel" ({ cls := "SelfSortingModel", name := "shelf", desc := "(II)I" } : Jvm.MethodName) ({ cls := "SelfSortingModel", name := "shelf", desc := "(II)I" } : Jvm.MethodName)) ∈ lw_all := lw_g (lw_at lw_m7 232 rfl) rfl
theorem q1824 : (Jvm.Cond.code ({ cls := "SelfSortingModel", name := "shelf", desc := "(II)I" } : Jvm.MethodName) prog_17_method_92_code (3 : Nat) (Option.some Jvm.ClassFile.FieldType.int)) ∈ lw_all := lw_g (lw_at lw_m7 233 rfl) rfl
theorem q1825 : (Jvm.Cond.methodLink "SelfSortingLaw" (105 : Nat) ({ cls := "SelfSortingModel", name := "written", desc := "(II)I" } : Jvm.MethodName)) ∈ lw_all := lw_g (lw_at lw_m7 234 rfl) rfl
theorem q1826 : (Jvm.Cond.instanceMethod ({ cls := "SelfSortingModel", name := "written", desc := "(II)I" } : Jvm.MethodName)) ∈ lw_all := lw_g (lw_at lw_m7 235 rfl) rfl
theorem q1827 : (Jvm.Cond.selects "SelfSortingModel" ({ cls := "SelfSortingModel", name := "written", desc := "(II)I" } : Jvm.MethodName) ({ cls := "SelfSortingModel", name := "written", desc := "(II)I" } : Jvm.MethodName)) ∈ lw_all := lw_g (lw_at lw_m7 236 rfl) rfl
theorem q1828 : (Jvm.Cond.code ({ cls := "SelfSortingModel", name := "written", desc := "(II)I" } : Jvm.MethodName) prog_17_method_93_code (4 : Nat) (Option.some Jvm.ClassFile.FieldType.int)) ∈ lw_all := lw_g (lw_at lw_m7 237 rfl) rfl
theorem q1829 : (Jvm.Cond.methodLink "SelfSortingLaw" (109 : Nat) ({ cls := "SelfSortingModel", name := "rest", desc := "(I)I" } : Jvm.MethodName)) ∈ lw_all := lw_g (lw_at lw_m7 238 rfl) rfl
theorem q1830 : (Jvm.Cond.instanceMethod ({ cls := "SelfSortingModel", name := "rest", desc := "(I)I" } : Jvm.MethodName)) ∈ lw_all := lw_g (lw_at lw_m7 239 rfl) rfl
theorem q1831 : (Jvm.Cond.selects "SelfSortingModel" ({ cls := "SelfSortingModel", name := "rest", desc := "(I)I" } : Jvm.MethodName) ({ cls := "SelfSortingModel", name := "rest", desc := "(I)I" } : Jvm.MethodName)) ∈ lw_all := lw_g (lw_at lw_m8 0 rfl) rfl
theorem q1832 : (Jvm.Cond.code ({ cls := "SelfSortingModel", name := "rest", desc := "(I)I" } : Jvm.MethodName) prog_17_method_100_code (2 : Nat) (Option.some Jvm.ClassFile.FieldType.int)) ∈ lw_all := lw_g (lw_at lw_m8 1 rfl) rfl
theorem q1833 : (Jvm.Cond.methodLink "SelfSortingModel" (400 : Nat) ({ cls := "SelfSortingModel", name := "layRow", desc := "(II)V" } : Jvm.MethodName)) ∈ lw_all := lw_g (lw_at lw_m8 2 rfl) rfl
theorem q1834 : (Jvm.Cond.privateMethod ({ cls := "SelfSortingModel", name := "layRow", desc := "(II)V" } : Jvm.MethodName)) ∈ lw_tbl := lw_at lw_m8 3 rfl
theorem q1835 : (Jvm.Cond.instanceMethod ({ cls := "SelfSortingModel", name := "layRow", desc := "(II)V" } : Jvm.MethodName)) ∈ lw_all := lw_g (lw_at lw_m8 4 rfl) rfl
theorem q1836 : (Jvm.Cond.code ({ cls := "SelfSortingModel", name := "layRow", desc := "(II)V" } : Jvm.MethodName) prog_17_method_95_code (4 : Nat) (Option.none : Option Jvm.ClassFile.FieldType)) ∈ lw_all := lw_g (lw_at lw_m8 5 rfl) rfl
theorem q1837 : (Jvm.Cond.methodLink "SelfSortingModel" (385 : Nat) ({ cls := "SelfSortingModel", name := "findChanges", desc := "()V" } : Jvm.MethodName)) ∈ lw_all := lw_g (lw_at lw_m8 6 rfl) rfl
theorem q1838 : (Jvm.Cond.privateMethod ({ cls := "SelfSortingModel", name := "findChanges", desc := "()V" } : Jvm.MethodName)) ∈ lw_tbl := lw_at lw_m8 7 rfl
theorem q1839 : (Jvm.Cond.instanceMethod ({ cls := "SelfSortingModel", name := "findChanges", desc := "()V" } : Jvm.MethodName)) ∈ lw_all := lw_g (lw_at lw_m8 8 rfl) rfl
theorem q1840 : (Jvm.Cond.code ({ cls := "SelfSortingModel", name := "findChanges", desc := "()V" } : Jvm.MethodName) prog_17_method_94_code (3 : Nat) (Option.none : Option Jvm.ClassFile.FieldType)) ∈ lw_all := lw_g (lw_at lw_m8 9 rfl) rfl
theorem q1841 : (Jvm.Cond.methodLink "SelfSortingModel" (403 : Nat) ({ cls := "SelfSortingModel", name := "goToRest", desc := "()I" } : Jvm.MethodName)) ∈ lw_all := lw_g (lw_at lw_m8 10 rfl) rfl
theorem q1842 : (Jvm.Cond.privateMethod ({ cls := "SelfSortingModel", name := "goToRest", desc := "()I" } : Jvm.MethodName)) ∈ lw_tbl := lw_at lw_m8 11 rfl
theorem q1843 : (Jvm.Cond.instanceMethod ({ cls := "SelfSortingModel", name := "goToRest", desc := "()I" } : Jvm.MethodName)) ∈ lw_all := lw_g (lw_at lw_m8 12 rfl) rfl
theorem q1844 : (Jvm.Cond.code ({ cls := "SelfSortingModel", name := "goToRest", desc := "()I" } : Jvm.MethodName) prog_17_method_99_code (2 : Nat) (Option.some Jvm.ClassFile.FieldType.int)) ∈ lw_all := lw_g (lw_at lw_m8 13 rfl) rfl
theorem q1845 : (Jvm.Cond.methodLink "SelfSortingModel" (394 : Nat) ({ cls := "SelfSortingModel", name := "isCalm", desc := "()Z" } : Jvm.MethodName)) ∈ lw_all := lw_g (lw_at lw_m8 14 rfl) rfl
theorem q1846 : (Jvm.Cond.privateMethod ({ cls := "SelfSortingModel", name := "isCalm", desc := "()Z" } : Jvm.MethodName)) ∈ lw_tbl := lw_at lw_m8 15 rfl
theorem q1847 : (Jvm.Cond.instanceMethod ({ cls := "SelfSortingModel", name := "isCalm", desc := "()Z" } : Jvm.MethodName)) ∈ lw_all := lw_g (lw_at lw_m8 16 rfl) rfl
theorem q1848 : (Jvm.Cond.code ({ cls := "SelfSortingModel", name := "isCalm", desc := "()Z" } : Jvm.MethodName) prog_17_method_96_code (2 : Nat) (Option.some Jvm.ClassFile.FieldType.boolean)) ∈ lw_all := lw_g (lw_at lw_m8 17 rfl) rfl
theorem q1849 : (Jvm.Cond.methodLink "SelfSortingModel" (397 : Nat) ({ cls := "SelfSortingModel", name := "nightOn", desc := "(I)V" } : Jvm.MethodName)) ∈ lw_all := lw_g (lw_at lw_m8 18 rfl) rfl
theorem q1850 : (Jvm.Cond.privateMethod ({ cls := "SelfSortingModel", name := "nightOn", desc := "(I)V" } : Jvm.MethodName)) ∈ lw_tbl := lw_at lw_m8 19 rfl
theorem q1851 : (Jvm.Cond.instanceMethod ({ cls := "SelfSortingModel", name := "nightOn", desc := "(I)V" } : Jvm.MethodName)) ∈ lw_all := lw_g (lw_at lw_m8 20 rfl) rfl
theorem q1852 : (Jvm.Cond.code ({ cls := "SelfSortingModel", name := "nightOn", desc := "(I)V" } : Jvm.MethodName) prog_17_method_98_code (3 : Nat) (Option.none : Option Jvm.ClassFile.FieldType)) ∈ lw_all := lw_g (lw_at lw_m8 21 rfl) rfl
theorem q1853 : (Jvm.Cond.methodLink "SelfSortingModel" (391 : Nat) ({ cls := "SelfSortingModel", name := "swapRow", desc := "(I)V" } : Jvm.MethodName)) ∈ lw_all := lw_g (lw_at lw_m8 22 rfl) rfl
theorem q1854 : (Jvm.Cond.privateMethod ({ cls := "SelfSortingModel", name := "swapRow", desc := "(I)V" } : Jvm.MethodName)) ∈ lw_tbl := lw_at lw_m8 23 rfl
theorem q1855 : (Jvm.Cond.instanceMethod ({ cls := "SelfSortingModel", name := "swapRow", desc := "(I)V" } : Jvm.MethodName)) ∈ lw_all := lw_g (lw_at lw_m8 24 rfl) rfl
theorem q1856 : (Jvm.Cond.code ({ cls := "SelfSortingModel", name := "swapRow", desc := "(I)V" } : Jvm.MethodName) prog_17_method_97_code (3 : Nat) (Option.none : Option Jvm.ClassFile.FieldType)) ∈ lw_all := lw_g (lw_at lw_m8 25 rfl) rfl
theorem q1857 : (Jvm.Cond.methodLink "SelfSortingLaw" (114 : Nat) ({ cls := "SelfSortingModel", name := "round", desc := "(IZ)I" } : Jvm.MethodName)) ∈ lw_all := lw_g (lw_at lw_m8 26 rfl) rfl
theorem q1858 : (Jvm.Cond.instanceMethod ({ cls := "SelfSortingModel", name := "round", desc := "(IZ)I" } : Jvm.MethodName)) ∈ lw_all := lw_g (lw_at lw_m8 27 rfl) rfl
theorem q1859 : (Jvm.Cond.selects "SelfSortingModel" ({ cls := "SelfSortingModel", name := "round", desc := "(IZ)I" } : Jvm.MethodName) ({ cls := "SelfSortingModel", name := "round", desc := "(IZ)I" } : Jvm.MethodName)) ∈ lw_all := lw_g (lw_at lw_m8 28 rfl) rfl
theorem q1860 : (Jvm.Cond.code ({ cls := "SelfSortingModel", name := "round", desc := "(IZ)I" } : Jvm.MethodName) prog_17_method_102_code (5 : Nat) (Option.some Jvm.ClassFile.FieldType.int)) ∈ lw_all := lw_g (lw_at lw_m8 29 rfl) rfl
theorem q1861 : (Jvm.Cond.methodLink "SelfSortingModel" (408 : Nat) ({ cls := "SelfSortingModel", name := "rowNumber", desc := "()J" } : Jvm.MethodName)) ∈ lw_all := lw_g (lw_at lw_m8 30 rfl) rfl
theorem q1862 : (Jvm.Cond.privateMethod ({ cls := "SelfSortingModel", name := "rowNumber", desc := "()J" } : Jvm.MethodName)) ∈ lw_tbl := lw_at lw_m8 31 rfl
theorem q1863 : (Jvm.Cond.instanceMethod ({ cls := "SelfSortingModel", name := "rowNumber", desc := "()J" } : Jvm.MethodName)) ∈ lw_all := lw_g (lw_at lw_m8 32 rfl) rfl
theorem q1864 : (Jvm.Cond.code ({ cls := "SelfSortingModel", name := "rowNumber", desc := "()J" } : Jvm.MethodName) prog_17_method_101_code (4 : Nat) (Option.some Jvm.ClassFile.FieldType.long)) ∈ lw_all := lw_g (lw_at lw_m8 33 rfl) rfl
theorem q1865 : (Jvm.Cond.constantLong "SelfSortingModel" (406 : Nat) (10 : Int64)) ∈ lw_all := lw_g (lw_at lw_m8 34 rfl) rfl
theorem q1866 : (Jvm.Cond.methodLink "SelfSortingLaw" (118 : Nat) ({ cls := "SelfSortingModel", name := "calm", desc := "(III)I" } : Jvm.MethodName)) ∈ lw_all := lw_g (lw_at lw_m8 35 rfl) rfl
theorem q1867 : (Jvm.Cond.instanceMethod ({ cls := "SelfSortingModel", name := "calm", desc := "(III)I" } : Jvm.MethodName)) ∈ lw_all := lw_g (lw_at lw_m8 36 rfl) rfl
theorem q1868 : (Jvm.Cond.selects "SelfSortingModel" ({ cls := "SelfSortingModel", name := "calm", desc := "(III)I" } : Jvm.MethodName) ({ cls := "SelfSortingModel", name := "calm", desc := "(III)I" } : Jvm.MethodName)) ∈ lw_all := lw_g (lw_at lw_m8 37 rfl) rfl
theorem q1869 : (Jvm.Cond.code ({ cls := "SelfSortingModel", name := "calm", desc := "(III)I" } : Jvm.MethodName) prog_17_method_114_code (6 : Nat) (Option.some Jvm.ClassFile.FieldType.int)) ∈ lw_all := lw_g (lw_at lw_m8 38 rfl) rfl
theorem q1870 : (Jvm.Cond.methodLink "SelfSortingModel" (448 : Nat) ({ cls := "SelfSortingModel", name := "isSet", desc := "(I)Z" } : Jvm.MethodName)) ∈ lw_all := lw_g (lw_at lw_m8 39 rfl) rfl
theorem q1871 : (Jvm.Cond.privateMethod ({ cls := "SelfSortingModel", name := "isSet", desc := "(I)Z" } : Jvm.MethodName)) ∈ lw_tbl := lw_at lw_m8 40 rfl
theorem q1872 : (Jvm.Cond.instanceMethod ({ cls := "SelfSortingModel", name := "isSet", desc := "(I)Z" } : Jvm.MethodName)) ∈ lw_all := lw_g (lw_at lw_m8 41 rfl) rfl
theorem q1873 : (Jvm.Cond.code ({ cls := "SelfSortingModel", name := "isSet", desc := "(I)Z" } : Jvm.MethodName) prog_17_method_111_code (2 : Nat) (Option.some Jvm.ClassFile.FieldType.boolean)) ∈ lw_all := lw_g (lw_at lw_m8 42 rfl) rfl
theorem q1874 : (Jvm.Cond.methodLink "SelfSortingModel" (442 : Nat) ({ cls := "SelfSortingModel", name := "bits", desc := "(I)I" } : Jvm.MethodName)) ∈ lw_all := lw_g (lw_at lw_m8 43 rfl) rfl
theorem q1875 : (Jvm.Cond.static ({ cls := "SelfSortingModel", name := "bits", desc := "(I)I" } : Jvm.MethodName)) ∈ lw_all := lw_g (lw_at lw_m8 44 rfl) rfl
theorem q1876 : (Jvm.Cond.code ({ cls := "SelfSortingModel", name := "bits", desc := "(I)I" } : Jvm.MethodName) prog_17_method_5_code (3 : Nat) (Option.some Jvm.ClassFile.FieldType.int)) ∈ lw_all := lw_g (lw_at lw_m8 45 rfl) rfl
theorem q1877 : (Jvm.Cond.methodLink "SelfSortingModel" (451 : Nat) ({ cls := "SelfSortingModel", name := "laySet", desc := "(I)V" } : Jvm.MethodName)) ∈ lw_all := lw_g (lw_at lw_m8 46 rfl) rfl
theorem q1878 : (Jvm.Cond.privateMethod ({ cls := "SelfSortingModel", name := "laySet", desc := "(I)V" } : Jvm.MethodName)) ∈ lw_tbl := lw_at lw_m8 47 rfl
theorem q1879 : (Jvm.Cond.instanceMethod ({ cls := "SelfSortingModel", name := "laySet", desc := "(I)V" } : Jvm.MethodName)) ∈ lw_all := lw_g (lw_at lw_m8 48 rfl) rfl
theorem q1880 : (Jvm.Cond.code ({ cls := "SelfSortingModel", name := "laySet", desc := "(I)V" } : Jvm.MethodName) prog_17_method_112_code (2 : Nat) (Option.none : Option Jvm.ClassFile.FieldType)) ∈ lw_all := lw_g (lw_at lw_m8 49 rfl) rfl
theorem q1881 : (Jvm.Cond.methodLink "SelfSortingModel" (445 : Nat) ({ cls := "SelfSortingModel", name := "layElements", desc := "(I)V" } : Jvm.MethodName)) ∈ lw_all := lw_g (lw_at lw_m8 50 rfl) rfl
theorem q1882 : (Jvm.Cond.privateMethod ({ cls := "SelfSortingModel", name := "layElements", desc := "(I)V" } : Jvm.MethodName)) ∈ lw_tbl := lw_at lw_m8 51 rfl
theorem q1883 : (Jvm.Cond.instanceMethod ({ cls := "SelfSortingModel", name := "layElements", desc := "(I)V" } : Jvm.MethodName)) ∈ lw_all := lw_g (lw_at lw_m8 52 rfl) rfl
theorem q1884 : (Jvm.Cond.code ({ cls := "SelfSortingModel", name := "layElements", desc := "(I)V" } : Jvm.MethodName) prog_17_method_110_code (3 : Nat) (Option.none : Option Jvm.ClassFile.FieldType)) ∈ lw_all := lw_g (lw_at lw_m8 53 rfl) rfl
theorem q1885 : (Jvm.Cond.methodLink "SelfSortingModel" (421 : Nat) ({ cls := "SelfSortingModel", name := "has", desc := "(II)Z" } : Jvm.MethodName)) ∈ lw_all := lw_g (lw_at lw_m8 54 rfl) rfl
theorem q1886 : (Jvm.Cond.static ({ cls := "SelfSortingModel", name := "has", desc := "(II)Z" } : Jvm.MethodName)) ∈ lw_all := lw_g (lw_at lw_m8 55 rfl) rfl
theorem q1887 : (Jvm.Cond.code ({ cls := "SelfSortingModel", name := "has", desc := "(II)Z" } : Jvm.MethodName) prog_17_method_4_code (2 : Nat) (Option.some Jvm.ClassFile.FieldType.boolean)) ∈ lw_all := lw_g (lw_at lw_m8 56 rfl) rfl
theorem q1888 : (Jvm.Cond.methodLink "SelfSortingModel" (436 : Nat) ({ cls := "SelfSortingModel", name := "findOrders", desc := "()V" } : Jvm.MethodName)) ∈ lw_all := lw_g (lw_at lw_m8 57 rfl) rfl
theorem q1889 : (Jvm.Cond.privateMethod ({ cls := "SelfSortingModel", name := "findOrders", desc := "()V" } : Jvm.MethodName)) ∈ lw_tbl := lw_at lw_m8 58 rfl
theorem q1890 : (Jvm.Cond.instanceMethod ({ cls := "SelfSortingModel", name := "findOrders", desc := "()V" } : Jvm.MethodName)) ∈ lw_all := lw_g (lw_at lw_m8 59 rfl) rfl
theorem q1891 : (Jvm.Cond.code ({ cls := "SelfSortingModel", name := "findOrders", desc := "()V" } : Jvm.MethodName) prog_17_method_108_code (8 : Nat) (Option.none : Option Jvm.ClassFile.FieldType)) ∈ lw_all := lw_g (lw_at lw_m8 60 rfl) rfl
theorem q1892 : (Jvm.Cond.methodLink "SelfSortingModel" (415 : Nat) ({ cls := "SelfSortingModel", name := "factorial", desc := "(I)I" } : Jvm.MethodName)) ∈ lw_all := lw_g (lw_at lw_m8 61 rfl) rfl
theorem q1893 : (Jvm.Cond.static ({ cls := "SelfSortingModel", name := "factorial", desc := "(I)I" } : Jvm.MethodName)) ∈ lw_all := lw_g (lw_at lw_m8 62 rfl) rfl
theorem q1894 : (Jvm.Cond.code ({ cls := "SelfSortingModel", name := "factorial", desc := "(I)I" } : Jvm.MethodName) prog_17_method_103_code (3 : Nat) (Option.some Jvm.ClassFile.FieldType.int)) ∈ lw_all := lw_g (lw_at lw_m8 63 rfl) rfl
theorem q1895 : (Jvm.Cond.methodLink "SelfSortingModel" (439 : Nat) ({ cls := "SelfSortingModel", name := "findLeads", desc := "()V" } : Jvm.MethodName)) ∈ lw_all := lw_g (lw_at lw_m8 64 rfl) rfl
theorem q1896 : (Jvm.Cond.privateMethod ({ cls := "SelfSortingModel", name := "findLeads", desc := "()V" } : Jvm.MethodName)) ∈ lw_tbl := lw_at lw_m8 65 rfl
theorem q1897 : (Jvm.Cond.instanceMethod ({ cls := "SelfSortingModel", name := "findLeads", desc := "()V" } : Jvm.MethodName)) ∈ lw_all := lw_g (lw_at lw_m8 66 rfl) rfl
theorem q1898 : (Jvm.Cond.code ({ cls := "SelfSortingModel", name := "findLeads", desc := "()V" } : Jvm.MethodName) prog_17_method_109_code (4 : Nat) (Option.none : Option Jvm.ClassFile.FieldType)) ∈ lw_all := lw_g (lw_at lw_m8 67 rfl) rfl
theorem q1899 : (Jvm.Cond.methodLink "SelfSortingModel" (424 : Nat) ({ cls := "SelfSortingModel", name := "takeOrder", desc := "(I)V" } : Jvm.MethodName)) ∈ lw_all := lw_g (lw_at lw_m8 68 rfl) rfl
theorem q1900 : (Jvm.Cond.privateMethod ({ cls := "SelfSortingModel", name := "takeOrder", desc := "(I)V" } : Jvm.MethodName)) ∈ lw_tbl := lw_at lw_m8 69 rfl
theorem q1901 : (Jvm.Cond.instanceMethod ({ cls := "SelfSortingModel", name := "takeOrder", desc := "(I)V" } : Jvm.MethodName)) ∈ lw_all := lw_g (lw_at lw_m8 70 rfl) rfl
theorem q1902 : (Jvm.Cond.code ({ cls := "SelfSortingModel", name := "takeOrder", desc := "(I)V" } : Jvm.MethodName) prog_17_method_105_code (3 : Nat) (Option.none : Option Jvm.ClassFile.FieldType)) ∈ lw_all := lw_g (lw_at lw_m8 71 rfl) rfl
theorem q1903 : (Jvm.Cond.methodLink "SelfSortingModel" (427 : Nat) ({ cls := "SelfSortingModel", name := "doOrder", desc := "(I)Z" } : Jvm.MethodName)) ∈ lw_all := lw_g (lw_at lw_m8 72 rfl) rfl
theorem q1904 : (Jvm.Cond.privateMethod ({ cls := "SelfSortingModel", name := "doOrder", desc := "(I)Z" } : Jvm.MethodName)) ∈ lw_tbl := lw_at lw_m8 73 rfl
theorem q1905 : (Jvm.Cond.instanceMethod ({ cls := "SelfSortingModel", name := "doOrder", desc := "(I)Z" } : Jvm.MethodName)) ∈ lw_all := lw_g (lw_at lw_m8 74 rfl) rfl
theorem q1906 : (Jvm.Cond.code ({ cls := "SelfSortingModel", name := "doOrder", desc := "(I)Z" } : Jvm.MethodName) prog_17_method_107_code (2 : Nat) (Option.some Jvm.ClassFile.FieldType.boolean)) ∈ lw_all := lw_g (lw_at lw_m8 75 rfl) rfl
theorem q1907 : (Jvm.Cond.methodLink "SelfSortingModel" (430 : Nat) ({ cls := "SelfSortingModel", name := "changeOrder", desc := "(I)V" } : Jvm.MethodName)) ∈ lw_all := lw_g (lw_at lw_m8 76 rfl) rfl
theorem q1908 : (Jvm.Cond.privateMethod ({ cls := "SelfSortingModel", name := "changeOrder", desc := "(I)V" } : Jvm.MethodName)) ∈ lw_tbl := lw_at lw_m8 77 rfl
theorem q1909 : (Jvm.Cond.instanceMethod ({ cls := "SelfSortingModel", name := "changeOrder", desc := "(I)V" } : Jvm.MethodName)) ∈ lw_all := lw_g (lw_at lw_m8 78 rfl) rfl
theorem q1910 : (Jvm.Cond.code ({ cls := "SelfSortingModel", name := "changeOrder", desc := "(I)V" } : Jvm.MethodName) prog_17_method_106_code (3 : Nat) (Option.none : Option Jvm.ClassFile.FieldType)) ∈ lw_all := lw_g (lw_at lw_m8 79 rfl) rfl
theorem q1911 : (Jvm.Cond.methodLink "SelfSortingModel" (433 : Nat) ({ cls := "SelfSortingModel", name := "orderOf", desc := "()I" } : Jvm.MethodName)) ∈ lw_all := lw_g (lw_at lw_m8 80 rfl) rfl
theorem q1912 : (Jvm.Cond.privateMethod ({ cls := "SelfSortingModel", name := "orderOf", desc := "()I" } : Jvm.MethodName)) ∈ lw_tbl := lw_at lw_m8 81 rfl
theorem q1913 : (Jvm.Cond.instanceMethod ({ cls := "SelfSortingModel", name := "orderOf", desc := "()I" } : Jvm.MethodName)) ∈ lw_all := lw_g (lw_at lw_m8 82 rfl) rfl
theorem q1914 : (Jvm.Cond.code ({ cls := "SelfSortingModel", name := "orderOf", desc := "()I" } : Jvm.MethodName) prog_17_method_104_code (5 : Nat) (Option.some Jvm.ClassFile.FieldType.int)) ∈ lw_all := lw_g (lw_at lw_m8 83 rfl) rfl
theorem q1915 : (Jvm.Cond.methodLink "SelfSortingModel" (454 : Nat) ({ cls := "SelfSortingModel", name := "calmOrder", desc := "(I)I" } : Jvm.MethodName)) ∈ lw_all := lw_g (lw_at lw_m8 84 rfl) rfl
theorem q1916 : (Jvm.Cond.privateMethod ({ cls := "SelfSortingModel", name := "calmOrder", desc := "(I)I" } : Jvm.MethodName)) ∈ lw_tbl := lw_at lw_m8 85 rfl
theorem q1917 : (Jvm.Cond.instanceMethod ({ cls := "SelfSortingModel", name := "calmOrder", desc := "(I)I" } : Jvm.MethodName)) ∈ lw_all := lw_g (lw_at lw_m8 86 rfl) rfl
theorem q1918 : (Jvm.Cond.code ({ cls := "SelfSortingModel", name := "calmOrder", desc := "(I)I" } : Jvm.MethodName) prog_17_method_113_code (4 : Nat) (Option.some Jvm.ClassFile.FieldType.int)) ∈ lw_all := lw_g (lw_at lw_m8 87 rfl) rfl
theorem q1919 : (Jvm.Cond.methodLink "SelfSortingLaw" (122 : Nat) ({ cls := "SelfSortingModel", name := "basin", desc := "(II)I" } : Jvm.MethodName)) ∈ lw_all := lw_g (lw_at lw_m8 88 rfl) rfl
theorem q1920 : (Jvm.Cond.instanceMethod ({ cls := "SelfSortingModel", name := "basin", desc := "(II)I" } : Jvm.MethodName)) ∈ lw_all := lw_g (lw_at lw_m8 89 rfl) rfl
theorem q1921 : (Jvm.Cond.selects "SelfSortingModel" ({ cls := "SelfSortingModel", name := "basin", desc := "(II)I" } : Jvm.MethodName) ({ cls := "SelfSortingModel", name := "basin", desc := "(II)I" } : Jvm.MethodName)) ∈ lw_all := lw_g (lw_at lw_m8 90 rfl) rfl
theorem q1922 : (Jvm.Cond.code ({ cls := "SelfSortingModel", name := "basin", desc := "(II)I" } : Jvm.MethodName) prog_17_method_116_code (6 : Nat) (Option.some Jvm.ClassFile.FieldType.int)) ∈ lw_all := lw_g (lw_at lw_m8 91 rfl) rfl
theorem q1923 : (Jvm.Cond.methodLink "SelfSortingModel" (457 : Nat) ({ cls := "SelfSortingModel", name := "endOf", desc := "(I)I" } : Jvm.MethodName)) ∈ lw_all := lw_g (lw_at lw_m8 92 rfl) rfl
theorem q1924 : (Jvm.Cond.privateMethod ({ cls := "SelfSortingModel", name := "endOf", desc := "(I)I" } : Jvm.MethodName)) ∈ lw_tbl := lw_at lw_m8 93 rfl
theorem q1925 : (Jvm.Cond.instanceMethod ({ cls := "SelfSortingModel", name := "endOf", desc := "(I)I" } : Jvm.MethodName)) ∈ lw_all := lw_g (lw_at lw_m8 94 rfl) rfl
theorem q1926 : (Jvm.Cond.code ({ cls := "SelfSortingModel", name := "endOf", desc := "(I)I" } : Jvm.MethodName) prog_17_method_115_code (4 : Nat) (Option.some Jvm.ClassFile.FieldType.int)) ∈ lw_all := lw_g (lw_at lw_m8 95 rfl) rfl
theorem q1927 : (Jvm.Cond.methodLink "SelfSortingLaw" (126 : Nat) ({ cls := "SelfSortingModel", name := "never", desc := "(I)I" } : Jvm.MethodName)) ∈ lw_all := lw_g (lw_at lw_m8 96 rfl) rfl
theorem q1928 : (Jvm.Cond.instanceMethod ({ cls := "SelfSortingModel", name := "never", desc := "(I)I" } : Jvm.MethodName)) ∈ lw_all := lw_g (lw_at lw_m8 97 rfl) rfl
theorem q1929 : (Jvm.Cond.selects "SelfSortingModel" ({ cls := "SelfSortingModel", name := "never", desc := "(I)I" } : Jvm.MethodName) ({ cls := "SelfSortingModel", name := "never", desc := "(I)I" } : Jvm.MethodName)) ∈ lw_all := lw_g (lw_at lw_m8 98 rfl) rfl
theorem q1930 : (Jvm.Cond.code ({ cls := "SelfSortingModel", name := "never", desc := "(I)I" } : Jvm.MethodName) prog_17_method_117_code (4 : Nat) (Option.some Jvm.ClassFile.FieldType.int)) ∈ lw_all := lw_g (lw_at lw_m8 99 rfl) rfl
theorem q1931 : (Jvm.Cond.methodLink "SelfSortingLaw" (130 : Nat) ({ cls := "SelfSortingModel", name := "trouble", desc := "()I" } : Jvm.MethodName)) ∈ lw_all := lw_g (lw_at lw_m8 100 rfl) rfl
theorem q1932 : (Jvm.Cond.instanceMethod ({ cls := "SelfSortingModel", name := "trouble", desc := "()I" } : Jvm.MethodName)) ∈ lw_all := lw_g (lw_at lw_m8 101 rfl) rfl
theorem q1933 : (Jvm.Cond.selects "SelfSortingModel" ({ cls := "SelfSortingModel", name := "trouble", desc := "()I" } : Jvm.MethodName) ({ cls := "SelfSortingModel", name := "trouble", desc := "()I" } : Jvm.MethodName)) ∈ lw_all := lw_g (lw_at lw_m8 102 rfl) rfl
theorem q1934 : (Jvm.Cond.code ({ cls := "SelfSortingModel", name := "trouble", desc := "()I" } : Jvm.MethodName) prog_17_method_119_code (3 : Nat) (Option.some Jvm.ClassFile.FieldType.int)) ∈ lw_all := lw_g (lw_at lw_m8 103 rfl) rfl
theorem q1935 : (Jvm.Cond.methodLink "SelfSortingModel" (460 : Nat) ({ cls := "SelfSortingModel", name := "hasNever", desc := "()Z" } : Jvm.MethodName)) ∈ lw_all := lw_g (lw_at lw_m8 104 rfl) rfl
theorem q1936 : (Jvm.Cond.privateMethod ({ cls := "SelfSortingModel", name := "hasNever", desc := "()Z" } : Jvm.MethodName)) ∈ lw_tbl := lw_at lw_m8 105 rfl
theorem q1937 : (Jvm.Cond.instanceMethod ({ cls := "SelfSortingModel", name := "hasNever", desc := "()Z" } : Jvm.MethodName)) ∈ lw_all := lw_g (lw_at lw_m8 106 rfl) rfl
theorem q1938 : (Jvm.Cond.code ({ cls := "SelfSortingModel", name := "hasNever", desc := "()Z" } : Jvm.MethodName) prog_17_method_118_code (2 : Nat) (Option.some Jvm.ClassFile.FieldType.boolean)) ∈ lw_all := lw_g (lw_at lw_m8 107 rfl) rfl
theorem q1939 : (Jvm.Cond.methodLink "SelfSortingLaw" (134 : Nat) ({ cls := "SelfSortingModel", name := "rank", desc := "(II)I" } : Jvm.MethodName)) ∈ lw_all := lw_g (lw_at lw_m8 108 rfl) rfl
theorem q1940 : (Jvm.Cond.instanceMethod ({ cls := "SelfSortingModel", name := "rank", desc := "(II)I" } : Jvm.MethodName)) ∈ lw_all := lw_g (lw_at lw_m8 109 rfl) rfl
theorem q1941 : (Jvm.Cond.selects "SelfSortingModel" ({ cls := "SelfSortingModel", name := "rank", desc := "(II)I" } : Jvm.MethodName) ({ cls := "SelfSortingModel", name := "rank", desc := "(II)I" } : Jvm.MethodName)) ∈ lw_all := lw_g (lw_at lw_m8 110 rfl) rfl
theorem q1942 : (Jvm.Cond.code ({ cls := "SelfSortingModel", name := "rank", desc := "(II)I" } : Jvm.MethodName) prog_17_method_121_code (4 : Nat) (Option.some Jvm.ClassFile.FieldType.int)) ∈ lw_all := lw_g (lw_at lw_m8 111 rfl) rfl
theorem q1943 : (Jvm.Cond.methodLink "SelfSortingModel" (463 : Nat) ({ cls := "SelfSortingModel", name := "isRank", desc := "(I)Z" } : Jvm.MethodName)) ∈ lw_all := lw_g (lw_at lw_m8 112 rfl) rfl
theorem q1944 : (Jvm.Cond.privateMethod ({ cls := "SelfSortingModel", name := "isRank", desc := "(I)Z" } : Jvm.MethodName)) ∈ lw_tbl := lw_at lw_m8 113 rfl
theorem q1945 : (Jvm.Cond.instanceMethod ({ cls := "SelfSortingModel", name := "isRank", desc := "(I)Z" } : Jvm.MethodName)) ∈ lw_all := lw_g (lw_at lw_m8 114 rfl) rfl
theorem q1946 : (Jvm.Cond.code ({ cls := "SelfSortingModel", name := "isRank", desc := "(I)Z" } : Jvm.MethodName) prog_17_method_120_code (6 : Nat) (Option.some Jvm.ClassFile.FieldType.boolean)) ∈ lw_all := lw_g (lw_at lw_m8 115 rfl) rfl
theorem q1947 : (Jvm.Cond.methodLink "SelfSortingLaw" (138 : Nat) ({ cls := "SelfSortingModel", name := "nudges", desc := "(IIIII)I" } : Jvm.MethodName)) ∈ lw_all := lw_g (lw_at lw_m8 116 rfl) rfl
theorem q1948 : (Jvm.Cond.instanceMethod ({ cls := "SelfSortingModel", name := "nudges", desc := "(IIIII)I" } : Jvm.MethodName)) ∈ lw_all := lw_g (lw_at lw_m8 117 rfl) rfl
theorem q1949 : (Jvm.Cond.selects "SelfSortingModel" ({ cls := "SelfSortingModel", name := "nudges", desc := "(IIIII)I" } : Jvm.MethodName) ({ cls := "SelfSortingModel", name := "nudges", desc := "(IIIII)I" } : Jvm.MethodName)) ∈ lw_all := lw_g (lw_at lw_m8 118 rfl) rfl
theorem q1950 : (Jvm.Cond.code ({ cls := "SelfSortingModel", name := "nudges", desc := "(IIIII)I" } : Jvm.MethodName) prog_17_method_126_code (12 : Nat) (Option.some Jvm.ClassFile.FieldType.int)) ∈ lw_all := lw_g (lw_at lw_m8 119 rfl) rfl
theorem q1951 : (Jvm.Cond.methodLink "SelfSortingModel" (466 : Nat) ({ cls := "SelfSortingModel", name := "isThere", desc := "(III)Z" } : Jvm.MethodName)) ∈ lw_all := lw_g (lw_at lw_m8 120 rfl) rfl
theorem q1952 : (Jvm.Cond.privateMethod ({ cls := "SelfSortingModel", name := "isThere", desc := "(III)Z" } : Jvm.MethodName)) ∈ lw_tbl := lw_at lw_m8 121 rfl
theorem q1953 : (Jvm.Cond.instanceMethod ({ cls := "SelfSortingModel", name := "isThere", desc := "(III)Z" } : Jvm.MethodName)) ∈ lw_all := lw_g (lw_at lw_m8 122 rfl) rfl
theorem q1954 : (Jvm.Cond.code ({ cls := "SelfSortingModel", name := "isThere", desc := "(III)Z" } : Jvm.MethodName) prog_17_method_125_code (4 : Nat) (Option.some Jvm.ClassFile.FieldType.boolean)) ∈ lw_all := lw_g (lw_at lw_m8 123 rfl) rfl
theorem q1955 : (Jvm.Cond.methodLink "SelfSortingModel" (469 : Nat) ({ cls := "SelfSortingModel", name := "layShelf", desc := "(I)I" } : Jvm.MethodName)) ∈ lw_all := lw_g (lw_at lw_m8 124 rfl) rfl
theorem q1956 : (Jvm.Cond.privateMethod ({ cls := "SelfSortingModel", name := "layShelf", desc := "(I)I" } : Jvm.MethodName)) ∈ lw_tbl := lw_at lw_m8 125 rfl
theorem q1957 : (Jvm.Cond.instanceMethod ({ cls := "SelfSortingModel", name := "layShelf", desc := "(I)I" } : Jvm.MethodName)) ∈ lw_all := lw_g (lw_at lw_m8 126 rfl) rfl
theorem q1958 : (Jvm.Cond.code ({ cls := "SelfSortingModel", name := "layShelf", desc := "(I)I" } : Jvm.MethodName) prog_17_method_122_code (5 : Nat) (Option.some Jvm.ClassFile.FieldType.int)) ∈ lw_all := lw_g (lw_at lw_m8 127 rfl) rfl
theorem q1959 : (Jvm.Cond.methodLink "SelfSortingModel" (472 : Nat) ({ cls := "SelfSortingModel", name := "isAt", desc := "(III)Z" } : Jvm.MethodName)) ∈ lw_all := lw_g (lw_at lw_m8 128 rfl) rfl
theorem q1960 : (Jvm.Cond.privateMethod ({ cls := "SelfSortingModel", name := "isAt", desc := "(III)Z" } : Jvm.MethodName)) ∈ lw_tbl := lw_at lw_m8 129 rfl
theorem q1961 : (Jvm.Cond.instanceMethod ({ cls := "SelfSortingModel", name := "isAt", desc := "(III)Z" } : Jvm.MethodName)) ∈ lw_all := lw_g (lw_at lw_m8 130 rfl) rfl
theorem q1962 : (Jvm.Cond.code ({ cls := "SelfSortingModel", name := "isAt", desc := "(III)Z" } : Jvm.MethodName) prog_17_method_123_code (4 : Nat) (Option.some Jvm.ClassFile.FieldType.boolean)) ∈ lw_all := lw_g (lw_at lw_m8 131 rfl) rfl
theorem q1963 : (Jvm.Cond.methodLink "SelfSortingModel" (475 : Nat) ({ cls := "SelfSortingModel", name := "nudged", desc := "(II)I" } : Jvm.MethodName)) ∈ lw_all := lw_g (lw_at lw_m8 132 rfl) rfl
theorem q1964 : (Jvm.Cond.privateMethod ({ cls := "SelfSortingModel", name := "nudged", desc := "(II)I" } : Jvm.MethodName)) ∈ lw_tbl := lw_at lw_m8 133 rfl
theorem q1965 : (Jvm.Cond.instanceMethod ({ cls := "SelfSortingModel", name := "nudged", desc := "(II)I" } : Jvm.MethodName)) ∈ lw_all := lw_g (lw_at lw_m8 134 rfl) rfl
theorem q1966 : (Jvm.Cond.code ({ cls := "SelfSortingModel", name := "nudged", desc := "(II)I" } : Jvm.MethodName) prog_17_method_124_code (3 : Nat) (Option.some Jvm.ClassFile.FieldType.int)) ∈ lw_all := lw_g (lw_at lw_m8 135 rfl) rfl
theorem q1967 : (Jvm.Cond.methodLink "SelfSortingLaw" (143 : Nat) ({ cls := "SelfSortingModel", name := "game", desc := "(IIIZ)I" } : Jvm.MethodName)) ∈ lw_all := lw_g (lw_at lw_m8 136 rfl) rfl
theorem q1968 : (Jvm.Cond.instanceMethod ({ cls := "SelfSortingModel", name := "game", desc := "(IIIZ)I" } : Jvm.MethodName)) ∈ lw_all := lw_g (lw_at lw_m8 137 rfl) rfl
theorem q1969 : (Jvm.Cond.selects "SelfSortingModel" ({ cls := "SelfSortingModel", name := "game", desc := "(IIIZ)I" } : Jvm.MethodName) ({ cls := "SelfSortingModel", name := "game", desc := "(IIIZ)I" } : Jvm.MethodName)) ∈ lw_all := lw_g (lw_at lw_m8 138 rfl) rfl
theorem q1970 : (Jvm.Cond.code ({ cls := "SelfSortingModel", name := "game", desc := "(IIIZ)I" } : Jvm.MethodName) prog_17_method_129_code (9 : Nat) (Option.some Jvm.ClassFile.FieldType.int)) ∈ lw_all := lw_g (lw_at lw_m8 139 rfl) rfl
theorem q1971 : (Jvm.Cond.methodLink "SelfSortingModel" (481 : Nat) ({ cls := "SelfSortingModel", name := "bestOf", desc := "(IIZ)I" } : Jvm.MethodName)) ∈ lw_all := lw_g (lw_at lw_m8 140 rfl) rfl
theorem q1972 : (Jvm.Cond.privateMethod ({ cls := "SelfSortingModel", name := "bestOf", desc := "(IIZ)I" } : Jvm.MethodName)) ∈ lw_tbl := lw_at lw_m8 141 rfl
theorem q1973 : (Jvm.Cond.instanceMethod ({ cls := "SelfSortingModel", name := "bestOf", desc := "(IIZ)I" } : Jvm.MethodName)) ∈ lw_all := lw_g (lw_at lw_m8 142 rfl) rfl
theorem q1974 : (Jvm.Cond.code ({ cls := "SelfSortingModel", name := "bestOf", desc := "(IIZ)I" } : Jvm.MethodName) prog_17_method_128_code (7 : Nat) (Option.some Jvm.ClassFile.FieldType.int)) ∈ lw_all := lw_g (lw_at lw_m8 143 rfl) rfl
theorem q1975 : (Jvm.Cond.methodLink "SelfSortingModel" (478 : Nat) ({ cls := "SelfSortingModel", name := "moved", desc := "(III)I" } : Jvm.MethodName)) ∈ lw_all := lw_g (lw_at lw_m8 144 rfl) rfl
theorem q1976 : (Jvm.Cond.privateMethod ({ cls := "SelfSortingModel", name := "moved", desc := "(III)I" } : Jvm.MethodName)) ∈ lw_tbl := lw_at lw_m8 145 rfl
theorem q1977 : (Jvm.Cond.instanceMethod ({ cls := "SelfSortingModel", name := "moved", desc := "(III)I" } : Jvm.MethodName)) ∈ lw_all := lw_g (lw_at lw_m8 146 rfl) rfl
theorem q1978 : (Jvm.Cond.code ({ cls := "SelfSortingModel", name := "moved", desc := "(III)I" } : Jvm.MethodName) prog_17_method_127_code (4 : Nat) (Option.some Jvm.ClassFile.FieldType.int)) ∈ lw_all := lw_g (lw_at lw_m8 147 rfl) rfl
theorem q1979 : (Jvm.Cond.methodLink "SelfSortingLaw" (147 : Nat) ({ cls := "SelfSortingModel", name := "catalogue", desc := "(IIIZ)I" } : Jvm.MethodName)) ∈ lw_all := lw_g (lw_at lw_m8 148 rfl) rfl
theorem q1980 : (Jvm.Cond.instanceMethod ({ cls := "SelfSortingModel", name := "catalogue", desc := "(IIIZ)I" } : Jvm.MethodName)) ∈ lw_all := lw_g (lw_at lw_m8 149 rfl) rfl
theorem q1981 : (Jvm.Cond.selects "SelfSortingModel" ({ cls := "SelfSortingModel", name := "catalogue", desc := "(IIIZ)I" } : Jvm.MethodName) ({ cls := "SelfSortingModel", name := "catalogue", desc := "(IIIZ)I" } : Jvm.MethodName)) ∈ lw_all := lw_g (lw_at lw_m8 150 rfl) rfl
theorem q1982 : (Jvm.Cond.code ({ cls := "SelfSortingModel", name := "catalogue", desc := "(IIIZ)I" } : Jvm.MethodName) prog_17_method_130_code (9 : Nat) (Option.some Jvm.ClassFile.FieldType.int)) ∈ lw_all := lw_g (lw_at lw_m8 151 rfl) rfl
theorem q1983 : (Jvm.Cond.methodLink "SelfSortingLaw" (151 : Nat) ({ cls := "SelfSortingModel", name := "theft", desc := "(I)I" } : Jvm.MethodName)) ∈ lw_all := lw_g (lw_at lw_m8 152 rfl) rfl
theorem q1984 : (Jvm.Cond.instanceMethod ({ cls := "SelfSortingModel", name := "theft", desc := "(I)I" } : Jvm.MethodName)) ∈ lw_all := lw_g (lw_at lw_m8 153 rfl) rfl
theorem q1985 : (Jvm.Cond.selects "SelfSortingModel" ({ cls := "SelfSortingModel", name := "theft", desc := "(I)I" } : Jvm.MethodName) ({ cls := "SelfSortingModel", name := "theft", desc := "(I)I" } : Jvm.MethodName)) ∈ lw_all := lw_g (lw_at lw_m8 154 rfl) rfl
theorem q1986 : (Jvm.Cond.code ({ cls := "SelfSortingModel", name := "theft", desc := "(I)I" } : Jvm.MethodName) prog_17_method_132_code (2 : Nat) (Option.some Jvm.ClassFile.FieldType.int)) ∈ lw_all := lw_g (lw_at lw_m8 155 rfl) rfl
theorem q1987 : (Jvm.Cond.methodLink "SelfSortingModel" (485 : Nat) ({ cls := "SelfSortingModel", name := "costOf", desc := "(I)I" } : Jvm.MethodName)) ∈ lw_all := lw_g (lw_at lw_m8 156 rfl) rfl
theorem q1988 : (Jvm.Cond.privateMethod ({ cls := "SelfSortingModel", name := "costOf", desc := "(I)I" } : Jvm.MethodName)) ∈ lw_tbl := lw_at lw_m8 157 rfl
theorem q1989 : (Jvm.Cond.instanceMethod ({ cls := "SelfSortingModel", name := "costOf", desc := "(I)I" } : Jvm.MethodName)) ∈ lw_all := lw_g (lw_at lw_m8 158 rfl) rfl
theorem q1990 : (Jvm.Cond.code ({ cls := "SelfSortingModel", name := "costOf", desc := "(I)I" } : Jvm.MethodName) prog_17_method_131_code (6 : Nat) (Option.some Jvm.ClassFile.FieldType.int)) ∈ lw_all := lw_g (lw_at lw_m8 159 rfl) rfl
theorem q1991 : (Jvm.Cond.methodLink "SelfSortingLaw" (155 : Nat) ({ cls := "SelfSortingModel", name := "cheapest", desc := "(I)I" } : Jvm.MethodName)) ∈ lw_all := lw_g (lw_at lw_m8 160 rfl) rfl
theorem q1992 : (Jvm.Cond.instanceMethod ({ cls := "SelfSortingModel", name := "cheapest", desc := "(I)I" } : Jvm.MethodName)) ∈ lw_all := lw_g (lw_at lw_m8 161 rfl) rfl
theorem q1993 : (Jvm.Cond.selects "SelfSortingModel" ({ cls := "SelfSortingModel", name := "cheapest", desc := "(I)I" } : Jvm.MethodName) ({ cls := "SelfSortingModel", name := "cheapest", desc := "(I)I" } : Jvm.MethodName)) ∈ lw_all := lw_g (lw_at lw_m8 162 rfl) rfl
theorem q1994 : (Jvm.Cond.code ({ cls := "SelfSortingModel", name := "cheapest", desc := "(I)I" } : Jvm.MethodName) prog_17_method_133_code (6 : Nat) (Option.some Jvm.ClassFile.FieldType.int)) ∈ lw_all := lw_g (lw_at lw_m8 163 rfl) rfl
theorem q1995 : (Jvm.Cond.constant "SelfSortingModel" (488 : Nat) (1000000 : Int32)) ∈ lw_all := lw_g (lw_at lw_m8 164 rfl) rfl
theorem q1996 : (Jvm.Cond.methodLink "SelfSortingLaw" (160 : Nat) ({ cls := "SelfSortingModel", name := "dust", desc := "(IIZZ)I" } : Jvm.MethodName)) ∈ lw_all := lw_g (lw_at lw_m8 165 rfl) rfl
theorem q1997 : (Jvm.Cond.instanceMethod ({ cls := "SelfSortingModel", name := "dust", desc := "(IIZZ)I" } : Jvm.MethodName)) ∈ lw_all := lw_g (lw_at lw_m8 166 rfl) rfl
theorem q1998 : (Jvm.Cond.selects "SelfSortingModel" ({ cls := "SelfSortingModel", name := "dust", desc := "(IIZZ)I" } : Jvm.MethodName) ({ cls := "SelfSortingModel", name := "dust", desc := "(IIZZ)I" } : Jvm.MethodName)) ∈ lw_all := lw_g (lw_at lw_m8 167 rfl) rfl
theorem q1999 : (Jvm.Cond.code ({ cls := "SelfSortingModel", name := "dust", desc := "(IIZZ)I" } : Jvm.MethodName) prog_17_method_134_code (6 : Nat) (Option.some Jvm.ClassFile.FieldType.int)) ∈ lw_all := lw_g (lw_at lw_m8 168 rfl) rfl
theorem q2000 : (Jvm.Cond.methodLink "SelfSortingLaw" (164 : Nat) ({ cls := "SelfSortingModel", name := "laws", desc := "(I)I" } : Jvm.MethodName)) ∈ lw_all := lw_g (lw_at lw_m8 169 rfl) rfl
theorem q2001 : (Jvm.Cond.instanceMethod ({ cls := "SelfSortingModel", name := "laws", desc := "(I)I" } : Jvm.MethodName)) ∈ lw_all := lw_g (lw_at lw_m8 170 rfl) rfl
theorem q2002 : (Jvm.Cond.selects "SelfSortingModel" ({ cls := "SelfSortingModel", name := "laws", desc := "(I)I" } : Jvm.MethodName) ({ cls := "SelfSortingModel", name := "laws", desc := "(I)I" } : Jvm.MethodName)) ∈ lw_all := lw_g (lw_at lw_m8 171 rfl) rfl
theorem q2003 : (Jvm.Cond.code ({ cls := "SelfSortingModel", name := "laws", desc := "(I)I" } : Jvm.MethodName) prog_17_method_137_code (2 : Nat) (Option.some Jvm.ClassFile.FieldType.int)) ∈ lw_all := lw_g (lw_at lw_m8 172 rfl) rfl
theorem q2004 : (Jvm.Cond.methodLink "SelfSortingModel" (492 : Nat) ({ cls := "SelfSortingModel", name := "lawsOf", desc := "(I)I" } : Jvm.MethodName)) ∈ lw_all := lw_g (lw_at lw_m8 173 rfl) rfl
theorem q2005 : (Jvm.Cond.privateMethod ({ cls := "SelfSortingModel", name := "lawsOf", desc := "(I)I" } : Jvm.MethodName)) ∈ lw_tbl := lw_at lw_m8 174 rfl
theorem q2006 : (Jvm.Cond.instanceMethod ({ cls := "SelfSortingModel", name := "lawsOf", desc := "(I)I" } : Jvm.MethodName)) ∈ lw_all := lw_g (lw_at lw_m8 175 rfl) rfl
theorem q2007 : (Jvm.Cond.code ({ cls := "SelfSortingModel", name := "lawsOf", desc := "(I)I" } : Jvm.MethodName) prog_17_method_136_code (4 : Nat) (Option.some Jvm.ClassFile.FieldType.int)) ∈ lw_all := lw_g (lw_at lw_m8 176 rfl) rfl
theorem q2008 : (Jvm.Cond.methodLink "SelfSortingModel" (489 : Nat) ({ cls := "SelfSortingModel", name := "isFit", desc := "(II)Z" } : Jvm.MethodName)) ∈ lw_all := lw_g (lw_at lw_m8 177 rfl) rfl
theorem q2009 : (Jvm.Cond.privateMethod ({ cls := "SelfSortingModel", name := "isFit", desc := "(II)Z" } : Jvm.MethodName)) ∈ lw_tbl := lw_at lw_m8 178 rfl
theorem q2010 : (Jvm.Cond.instanceMethod ({ cls := "SelfSortingModel", name := "isFit", desc := "(II)Z" } : Jvm.MethodName)) ∈ lw_all := lw_g (lw_at lw_m8 179 rfl) rfl
theorem q2011 : (Jvm.Cond.code ({ cls := "SelfSortingModel", name := "isFit", desc := "(II)Z" } : Jvm.MethodName) prog_17_method_135_code (5 : Nat) (Option.some Jvm.ClassFile.FieldType.boolean)) ∈ lw_all := lw_g (lw_at lw_m8 180 rfl) rfl
theorem q2012 : (Jvm.Cond.methodLink "SelfSortingLaw" (168 : Nat) ({ cls := "SelfSortingModel", name := "tells", desc := "(I)I" } : Jvm.MethodName)) ∈ lw_all := lw_g (lw_at lw_m8 181 rfl) rfl
theorem q2013 : (Jvm.Cond.instanceMethod ({ cls := "SelfSortingModel", name := "tells", desc := "(I)I" } : Jvm.MethodName)) ∈ lw_all := lw_g (lw_at lw_m8 182 rfl) rfl
theorem q2014 : (Jvm.Cond.selects "SelfSortingModel" ({ cls := "SelfSortingModel", name := "tells", desc := "(I)I" } : Jvm.MethodName) ({ cls := "SelfSortingModel", name := "tells", desc := "(I)I" } : Jvm.MethodName)) ∈ lw_all := lw_g (lw_at lw_m8 183 rfl) rfl
theorem q2015 : (Jvm.Cond.code ({ cls := "SelfSortingModel", name := "tells", desc := "(I)I" } : Jvm.MethodName) prog_17_method_138_code (8 : Nat) (Option.some Jvm.ClassFile.FieldType.int)) ∈ lw_all := lw_g (lw_at lw_m8 184 rfl) rfl
theorem q2016 : (Jvm.Cond.methodLink "SelfSortingLaw" (172 : Nat) ({ cls := "SelfSortingModel", name := "fits", desc := "(I)I" } : Jvm.MethodName)) ∈ lw_all := lw_g (lw_at lw_m8 185 rfl) rfl
theorem q2017 : (Jvm.Cond.instanceMethod ({ cls := "SelfSortingModel", name := "fits", desc := "(I)I" } : Jvm.MethodName)) ∈ lw_all := lw_g (lw_at lw_m8 186 rfl) rfl
theorem q2018 : (Jvm.Cond.selects "SelfSortingModel" ({ cls := "SelfSortingModel", name := "fits", desc := "(I)I" } : Jvm.MethodName) ({ cls := "SelfSortingModel", name := "fits", desc := "(I)I" } : Jvm.MethodName)) ∈ lw_all := lw_g (lw_at lw_m8 187 rfl) rfl
theorem q2019 : (Jvm.Cond.code ({ cls := "SelfSortingModel", name := "fits", desc := "(I)I" } : Jvm.MethodName) prog_17_method_139_code (8 : Nat) (Option.some Jvm.ClassFile.FieldType.int)) ∈ lw_all := lw_g (lw_at lw_m8 188 rfl) rfl
theorem q2020 : (Jvm.Cond.methodLink "SelfSortingLaw" (176 : Nat) ({ cls := "SelfSortingModel", name := "image", desc := "()I" } : Jvm.MethodName)) ∈ lw_all := lw_g (lw_at lw_m8 189 rfl) rfl
theorem q2021 : (Jvm.Cond.instanceMethod ({ cls := "SelfSortingModel", name := "image", desc := "()I" } : Jvm.MethodName)) ∈ lw_all := lw_g (lw_at lw_m8 190 rfl) rfl
theorem q2022 : (Jvm.Cond.selects "SelfSortingModel" ({ cls := "SelfSortingModel", name := "image", desc := "()I" } : Jvm.MethodName) ({ cls := "SelfSortingModel", name := "image", desc := "()I" } : Jvm.MethodName)) ∈ lw_all := lw_g (lw_at lw_m8 191 rfl) rfl
theorem q2023 : (Jvm.Cond.code ({ cls := "SelfSortingModel", name := "image", desc := "()I" } : Jvm.MethodName) prog_17_method_140_code (1 : Nat) (Option.some Jvm.ClassFile.FieldType.int)) ∈ lw_all := lw_g (lw_at lw_m8 192 rfl) rfl
theorem q2024 : (Jvm.Cond.methodLink "SelfSortingLaw" (180 : Nat) ({ cls := "SelfSortingModel", name := "back", desc := "()I" } : Jvm.MethodName)) ∈ lw_all := lw_g (lw_at lw_m8 193 rfl) rfl
theorem q2025 : (Jvm.Cond.instanceMethod ({ cls := "SelfSortingModel", name := "back", desc := "()I" } : Jvm.MethodName)) ∈ lw_all := lw_g (lw_at lw_m8 194 rfl) rfl
theorem q2026 : (Jvm.Cond.selects "SelfSortingModel" ({ cls := "SelfSortingModel", name := "back", desc := "()I" } : Jvm.MethodName) ({ cls := "SelfSortingModel", name := "back", desc := "()I" } : Jvm.MethodName)) ∈ lw_all := lw_g (lw_at lw_m8 195 rfl) rfl
theorem q2027 : (Jvm.Cond.code ({ cls := "SelfSortingModel", name := "back", desc := "()I" } : Jvm.MethodName) prog_17_method_141_code (1 : Nat) (Option.some Jvm.ClassFile.FieldType.int)) ∈ lw_all := lw_g (lw_at lw_m8 196 rfl) rfl
theorem q2028 : (Jvm.Cond.methodLink "SelfSortingLaw" (184 : Nat) ({ cls := "SelfSortingModel", name := "about", desc := "(I)I" } : Jvm.MethodName)) ∈ lw_all := lw_g (lw_at lw_m8 197 rfl) rfl
theorem q2029 : (Jvm.Cond.instanceMethod ({ cls := "SelfSortingModel", name := "about", desc := "(I)I" } : Jvm.MethodName)) ∈ lw_all := lw_g (lw_at lw_m8 198 rfl) rfl
theorem q2030 : (Jvm.Cond.selects "SelfSortingModel" ({ cls := "SelfSortingModel", name := "about", desc := "(I)I" } : Jvm.MethodName) ({ cls := "SelfSortingModel", name := "about", desc := "(I)I" } : Jvm.MethodName)) ∈ lw_all := lw_g (lw_at lw_m8 199 rfl) rfl
theorem q2031 : (Jvm.Cond.code ({ cls := "SelfSortingModel", name := "about", desc := "(I)I" } : Jvm.MethodName) prog_17_method_142_code (4 : Nat) (Option.some Jvm.ClassFile.FieldType.int)) ∈ lw_all := lw_g (lw_at lw_m8 200 rfl) rfl
theorem q2032 : (Jvm.Cond.sameMethod "java/lang/Throwable" "java/lang/Throwable" "fillInStackTrace" "(I)Ljava/lang/Throwable;") ∈ lw_all := lw_g (lw_at lw_m8 201 rfl) rfl
theorem q2033 : (Jvm.Cond.initialized "java/lang/Object") ∈ lw_all := lw_g (lw_at lw_m8 202 rfl) rfl
theorem q2034 : (Jvm.Cond.castable "SelfSorting$Text" "java/lang/Object") ∈ lw_tbl := lw_at lw_m8 203 rfl
theorem q2035 : (Jvm.Cond.castable "SelfSorting$Asked" "java/lang/Object") ∈ lw_tbl := lw_at lw_m8 204 rfl
theorem q2036 : (Jvm.Cond.castable "java/lang/String" "java/lang/Object") ∈ lw_tbl := lw_at lw_m8 205 rfl
theorem q2037 : (Jvm.Cond.castable "SelfSorting" "java/lang/Object") ∈ lw_tbl := lw_at lw_m8 206 rfl
theorem q2038 : (Jvm.Cond.castable "SelfSorting$State" "java/lang/Object") ∈ lw_tbl := lw_at lw_m8 207 rfl
theorem q2039 : (Jvm.Cond.castable "SelfSortingModel" "java/lang/Object") ∈ lw_tbl := lw_at lw_m8 208 rfl
theorem q2040 : (Jvm.Cond.castable "java/util/ArrayList" "java/lang/Object") ∈ lw_tbl := lw_at lw_m8 209 rfl
theorem q2041 : (Jvm.Cond.castable "SelfSorting$Tokens" "java/lang/Object") ∈ lw_tbl := lw_at lw_m8 210 rfl
theorem q2042 : (Jvm.Cond.castable "SelfSorting$Wrong" "java/lang/Object") ∈ lw_tbl := lw_at lw_m8 211 rfl
theorem q2043 : (Jvm.Cond.castable "SelfSorting$Not" "java/lang/Object") ∈ lw_tbl := lw_at lw_m8 212 rfl
theorem q2044 : (Jvm.Cond.castable "SelfSorting$Chain" "java/lang/Object") ∈ lw_tbl := lw_at lw_m8 213 rfl
theorem q2045 : (Jvm.Cond.castable "SelfSorting$Plain" "java/lang/Object") ∈ lw_tbl := lw_at lw_m8 214 rfl
theorem q2046 : (Jvm.Cond.castable "SelfSorting$Name" "java/lang/Object") ∈ lw_tbl := lw_at lw_m8 215 rfl
theorem q2047 : (Jvm.Cond.castable "SelfSorting$Minus" "java/lang/Object") ∈ lw_tbl := lw_at lw_m8 216 rfl
theorem q2048 : (Jvm.Cond.castable "java/lang/Integer" "java/lang/Object") ∈ lw_tbl := lw_at lw_m8 217 rfl
theorem q2049 : (Jvm.Cond.castable "SelfSorting$Compared" "java/lang/Object") ∈ lw_tbl := lw_at lw_m8 218 rfl
theorem q2050 : (Jvm.Cond.castable "SelfSorting$All" "java/lang/Object") ∈ lw_tbl := lw_at lw_m8 219 rfl
theorem q2051 : (Jvm.Cond.castable "SelfSorting$Doing" "java/lang/Object") ∈ lw_tbl := lw_at lw_m8 220 rfl
theorem q2052 : (Jvm.Cond.castable "java/lang/Throwable" "java/lang/Object") ∈ lw_tbl := lw_at lw_m8 221 rfl
theorem q2053 : (Jvm.Cond.sameMethod "[Ljava/lang/Object;" "java/lang/Object" "getClass" "()Ljava/lang/Class;") ∈ lw_all := lw_g (lw_at lw_m8 222 rfl) rfl
theorem q2054 : (Jvm.Cond.selects "[Ljava/lang/Object;" ({ cls := "java/lang/Object", name := "getClass", desc := "()Ljava/lang/Class;" } : Jvm.MethodName) ({ cls := "java/lang/Object", name := "getClass", desc := "()Ljava/lang/Class;" } : Jvm.MethodName)) ∈ lw_all := lw_g (lw_at lw_m8 223 rfl) rfl
theorem q2055 : (Jvm.Cond.declares ({ cls := "java/lang/Object", name := "getClass", desc := "()Ljava/lang/Class;" } : Jvm.MethodName)) ∈ lw_tbl := lw_at lw_m8 224 rfl
theorem q2056 : (Jvm.Cond.castable "[[I" "java/lang/Object") ∈ lw_tbl := lw_at lw_m8 225 rfl
theorem q2057 : (Jvm.Cond.castable "[LSelfSorting$Text;" "java/lang/Object") ∈ lw_tbl := lw_at lw_m8 226 rfl
theorem q2058 : (Jvm.Cond.castable "[I" "java/lang/Object") ∈ lw_tbl := lw_at lw_m8 227 rfl
theorem q2059 : (Jvm.Cond.castable "[B" "java/lang/Object") ∈ lw_tbl := lw_at lw_m8 228 rfl
theorem q2060 : (Jvm.Cond.castable "[J" "java/lang/Object") ∈ lw_tbl := lw_at lw_m8 229 rfl
theorem q2061 : (Jvm.Cond.castable "[LSelfSorting$Asked;" "java/lang/Object") ∈ lw_tbl := lw_at lw_m8 230 rfl
theorem q2062 : (Jvm.Cond.castable "[Ljava/lang/Object;" "java/lang/Object") ∈ lw_tbl := lw_at lw_m8 231 rfl
theorem q2063 : (Jvm.Cond.castable "[Z" "java/lang/Object") ∈ lw_tbl := lw_at lw_m8 232 rfl
theorem q2064 : (Jvm.Cond.castable "[Ljava/lang/String;" "java/lang/Object") ∈ lw_tbl := lw_at lw_m8 233 rfl
theorem q2065 : (Jvm.Cond.fieldLink "java/lang/String" (9 : Nat) "java/lang/String" "value" "[B") ∈ lw_all := lw_g (lw_at lw_m8 234 rfl) rfl
theorem q2066 : (Jvm.Cond.fieldLink "java/lang/String" (15 : Nat) "java/lang/String" "coder" "B") ∈ lw_all := lw_g (lw_at lw_m8 235 rfl) rfl
theorem q2067 : (Jvm.Cond.stringRef "SelfSorting$Tokens" (209 : Nat) "law") ∈ lw_tbl := lw_at lw_m8 236 rfl
theorem q2068 : (Jvm.Cond.stringRef "SelfSorting$Tokens" (210 : Nat) "falls") ∈ lw_tbl := lw_at lw_m8 237 rfl
theorem q2069 : (Jvm.Cond.stringRef "SelfSorting$Tokens" (211 : Nat) "swell") ∈ lw_tbl := lw_at lw_m8 238 rfl
theorem q2070 : (Jvm.Cond.stringRef "SelfSorting$Tokens" (212 : Nat) "need") ∈ lw_tbl := lw_at lw_m8 239 rfl
theorem q2071 : (Jvm.Cond.stringRef "SelfSorting$Tokens" (213 : Nat) "night") ∈ lw_tbl := lw_at lw_m9 0 rfl
theorem q2072 : (Jvm.Cond.stringRef "SelfSorting$Tokens" (215 : Nat) "nudge") ∈ lw_tbl := lw_at lw_m9 1 rfl
theorem q2073 : (Jvm.Cond.stringRef "SelfSorting$Tokens" (217 : Nat) "take") ∈ lw_tbl := lw_at lw_m9 2 rfl
theorem q2074 : (Jvm.Cond.stringRef "SelfSorting$Tokens" (219 : Nat) "put") ∈ lw_tbl := lw_at lw_m9 3 rfl
theorem q2075 : (Jvm.Cond.stringRef "SelfSorting$Tokens" (221 : Nat) "wet") ∈ lw_tbl := lw_at lw_m9 4 rfl
theorem q2076 : (Jvm.Cond.stringRef "SelfSorting$Tokens" (223 : Nat) "dry") ∈ lw_tbl := lw_at lw_m9 5 rfl
theorem q2077 : (Jvm.Cond.stringRef "SelfSorting$Tokens" (225 : Nat) "at") ∈ lw_tbl := lw_at lw_m9 6 rfl
theorem q2078 : (Jvm.Cond.stringRef "SelfSorting$Tokens" (226 : Nat) "on") ∈ lw_tbl := lw_at lw_m9 7 rfl
theorem q2079 : (Jvm.Cond.stringRef "SelfSorting$Tokens" (228 : Nat) "or") ∈ lw_tbl := lw_at lw_m9 8 rfl
theorem q2080 : (Jvm.Cond.stringRef "SelfSorting$Tokens" (230 : Nat) "and") ∈ lw_tbl := lw_at lw_m9 9 rfl
theorem q2081 : (Jvm.Cond.stringRef "SelfSorting$Tokens" (232 : Nat) "not") ∈ lw_tbl := lw_at lw_m9 10 rfl
theorem q2082 : (Jvm.Cond.stringRef "SelfSorting$Tokens" (234 : Nat) "book") ∈ lw_tbl := lw_at lw_m9 11 rfl
theorem q2083 : (Jvm.Cond.stringRef "SelfSorting$Tokens" (236 : Nat) "hue") ∈ lw_tbl := lw_at lw_m9 12 rfl
theorem q2084 : (Jvm.Cond.stringRef "SelfSorting$Tokens" (238 : Nat) "creed") ∈ lw_tbl := lw_at lw_m9 13 rfl
theorem q2085 : (Jvm.Cond.stringRef "SelfSorting$Tokens" (240 : Nat) "thick") ∈ lw_tbl := lw_at lw_m9 14 rfl
theorem q2086 : (Jvm.Cond.stringRef "SelfSorting$Tokens" (242 : Nat) "author") ∈ lw_tbl := lw_at lw_m9 15 rfl
theorem q2087 : (Jvm.Cond.stringRef "SelfSorting$Tokens" (244 : Nat) "right") ∈ lw_tbl := lw_at lw_m9 16 rfl
theorem q2088 : (Jvm.Cond.stringRef "SelfSorting$Tokens" (246 : Nat) "other") ∈ lw_tbl := lw_at lw_m9 17 rfl
theorem q2089 : (Jvm.Cond.stringRef "SelfSorting$Tokens" (248 : Nat) "ohue") ∈ lw_tbl := lw_at lw_m9 18 rfl
theorem q2090 : (Jvm.Cond.stringRef "SelfSorting$Tokens" (250 : Nat) "ocreed") ∈ lw_tbl := lw_at lw_m9 19 rfl
theorem q2091 : (Jvm.Cond.stringRef "SelfSorting$Tokens" (252 : Nat) "othick") ∈ lw_tbl := lw_at lw_m9 20 rfl
theorem q2092 : (Jvm.Cond.stringRef "SelfSorting$Tokens" (254 : Nat) "oauthor") ∈ lw_tbl := lw_at lw_m9 21 rfl
theorem q2093 : (Jvm.Cond.stringRef "SelfSorting$Tokens" (256 : Nat) "shelf") ∈ lw_tbl := lw_at lw_m9 22 rfl
theorem q2094 : (Jvm.Cond.stringRef "SelfSorting$Tokens" (258 : Nat) "place") ∈ lw_tbl := lw_at lw_m9 23 rfl
theorem q2095 : (Jvm.Cond.stringRef "SelfSorting$Tokens" (260 : Nat) "many") ∈ lw_tbl := lw_at lw_m9 24 rfl
theorem q2096 : (Jvm.Cond.arrayOver (Jvm.ClassFile.FieldType.object "java/lang/String")) ∈ lw_tbl := lw_at lw_m9 25 rfl
theorem in_J10 : ∀ w ∈ wsJ100, w ∈ lw_all := lw_in wsJ100 [624, 626, 628, 630, 632] (by decide +kernel) (by decide +kernel)
theorem in_J14 : ∀ w ∈ wsJ140, w ∈ lw_all := lw_in wsJ140 [814] (by decide +kernel) (by decide +kernel)
theorem in_J6 : ∀ w ∈ wsJ60, w ∈ lw_all := lw_in wsJ60 [514, 510, 512] (by decide +kernel) (by decide +kernel)
theorem in_X0 : ∀ w ∈ wsX00, w ∈ lw_all := lw_in wsX00 [275, 277, 279, 281, 283, 285, 287, 289, 291, 293, 295, 297, 299, 301, 303, 305, 307, 309, 311, 313] (by decide +kernel) (by decide +kernel)
theorem in_X1 : ∀ w ∈ wsX10, w ∈ lw_all := lw_in wsX10 [225, 227, 229, 231, 233, 235, 237] (by decide +kernel) (by decide +kernel)
theorem in_X10 : ∀ w ∈ wsX100, w ∈ lw_all := lw_in wsX100 [774] (by decide +kernel) (by decide +kernel)
theorem in_X11 : ∀ w ∈ wsX110, w ∈ lw_all := lw_in wsX110 [893, 895, 897] (by decide +kernel) (by decide +kernel)
theorem in_X12 : ∀ w ∈ wsX120, w ∈ lw_all := lw_in wsX120 [912, 914] (by decide +kernel) (by decide +kernel)
theorem in_X13 : ∀ w ∈ wsX130, w ∈ lw_all := lw_in wsX130 [932, 934, 936, 938, 940] (by decide +kernel) (by decide +kernel)
theorem in_X2 : ∀ w ∈ wsX20, w ∈ lw_all := lw_in wsX20 [1387, 1389, 1391, 1393, 1395, 1397, 1399, 1401, 1403, 1405, 1407, 1409, 1411, 1413, 1415, 1417, 1419, 1421, 1423, 1425, 1427, 1429, 1431, 1433, 1435, 1437, 1439, 1441, 1443, 1445, 1447, 1449, 1451, 1453, 1455, 1457, 1459, 1461, 1463, 1465, 1467, 1469, 1471] (by decide +kernel) (by decide +kernel)
theorem in_X3 : ∀ w ∈ wsX30, w ∈ lw_all := lw_in wsX30 [462, 464, 466, 468, 470, 472, 474, 476] (by decide +kernel) (by decide +kernel)
theorem in_X4 : ∀ w ∈ wsX40, w ∈ lw_all := lw_in wsX40 [530, 532, 534, 536, 538, 540] (by decide +kernel) (by decide +kernel)
theorem in_X5 : ∀ w ∈ wsX50, w ∈ lw_all := lw_in wsX50 [623, 625, 627, 629, 631, 674, 666, 668] (by decide +kernel) (by decide +kernel)
theorem in_X6 : ∀ w ∈ wsX60, w ∈ lw_all := lw_in wsX60 [718] (by decide +kernel) (by decide +kernel)
theorem in_X7 : ∀ w ∈ wsX70, w ∈ lw_all := lw_in wsX70 [786, 788, 790] (by decide +kernel) (by decide +kernel)
theorem in_X8 : ∀ w ∈ wsX80, w ∈ lw_all := lw_in wsX80 [742] (by decide +kernel) (by decide +kernel)
theorem in_X9 : ∀ w ∈ wsX90, w ∈ lw_all := lw_in wsX90 [760] (by decide +kernel) (by decide +kernel)
