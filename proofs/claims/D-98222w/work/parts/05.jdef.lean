/-! ===== the small machine: values are whole numbers, references small addresses; heap contents, types, next address ===== -/
set_option maxRecDepth 100000
def inI (z : Int) : Prop := -2147483648 ≤ z ∧ z < 2147483648
def inL (z : Int) : Prop := -9223372036854775808 ≤ z ∧ z < 9223372036854775808
abbrev jjV : Type := Int ⊕ Int ⊕ Int
abbrev vI (z : Int) : jjV := Sum.inl z
abbrev vL (z : Int) : jjV := Sum.inr (Sum.inl z)
abbrev vR (z : Int) : jjV := Sum.inr (Sum.inr z)
/-- types of cells: code (a class's number; below 0 arrays) and length; the next address -/
abbrev jjT : Type := (Int → Int × Int) × Int
abbrev jjH : Type := (Int → Int → Int) × jjT
abbrev jjP : Type := List (Option jjV) → List jjV → jjH → Nat → Nat → Prop
abbrev jjR : Type := Option jjV ⊕ Int
abbrev jjQ : Type := jjR → jjH → Prop
/-- launch, classes and slots, array classes, base, old cells' addresses, the heap at the start -/
abbrev jjG : Type := Launch × va_G × (Int → ClassId) × Nat × (Int → Nat) × Heap
abbrev jjE : Type := jjG × Nat × Nat × Nat × jjQ
abbrev jjM : Type := MethodName × ByteArray × Nat × Option FieldType
def up2 (v : Int → Int → Int) (a k z : Int) : Int → Int → Int := fun a' k' => if a' = a ∧ k' = k then z else v a' k'
def jok (T : jjT) (a c : Int) : Prop := 0 < a ∧ a < T.2 ∧ (T.1 a).1 = c
def jln (T : jjT) (a : Int) : Int := (T.1 a).2
/-- the classes: numbers 0 .. 15 (16: String, old cells alone) -/
def jT5 : u_T := fun k => match k with
  | 0 => ("SelfSorting$Wrong", "fault", "I", true)
  | _ => ("SelfSorting$Wrong", "place", "I", true)
def jT16 : u_T := fun k => match k with
  | 0 => ("java/lang/String", "value", "[B", true)
  | _ => ("java/lang/String", "coder", "B", true)
def jty16 : Nat → FieldType := fun k => match k with
  | 0 => .array .byte
  | _ => .byte
abbrev jcl : List vw_C := [(RX0, TX0, 20), (RX1, TX1, 7), (RX2, TX2, 43), (RX3, TX3, 8), (RX4, TX4, 6), (RX5, jT5, 2), (RX6, TX6, 1), (RX7, TX7, 3), (RX8, TX8, 1), (RX9, TX9, 1), (RX10, TX10, 1), (RX11, TX11, 3), (RX12, TX12, 2), (RX13, TX13, 5), (RJ6, TJ6, 3), (RJ14, TJ14, 1)]
abbrev jclR : List vw_C := jcl ++ [("java/lang/String", jT16, 2)]
def jtyl : List (Nat → FieldType) := [tyX0, tyX1, tyX2, tyX3, tyX4, fun _ => .int, tyX6, tyX7, tyX8, tyX9, tyX10, tyX11, tyX12, tyX13, tyJ6, tyJ14, jty16]
def jtyf (c : Int) : Nat → FieldType := jtyl.getD c.toNat (fun _ => .int)
/-- what arrays hold: code -1 int, -2 byte, -3 long, -4 boolean, -5 int[], -6 Text, -7 Asked, -8 Object; old ones alone: -9 String, -10 Integer -/
def jcomp : List FieldType := [.int, .byte, .long, .boolean, .array .int, .object "SelfSorting$Text", .object "SelfSorting$Asked", .object "java/lang/Object", .object "java/lang/String", .object "java/lang/Integer"]
def jcf (c : Int) : FieldType := jcomp.getD (-1 - c).toNat .int
def jadr (g : jjG) (a : Int) : Nat := if a < 400 then g.2.2.2.2.1 a else g.2.2.2.1 + (a - 400).toNat
def jrv (g : jjG) (z : Int) : Value := if z = 0 then .null else .ref (jadr g z)
def jtv (g : jjG) (v : jjV) : Value := match v with
  | .inl z => .int (Int32.ofInt z)
  | .inr (.inl z) => .long (Int64.ofInt z)
  | .inr (.inr z) => jrv g z
def jfv (g : jjG) (ty : FieldType) (z : Int) : Value := match ty with
  | .long => .long (Int64.ofInt z)
  | .object _ => jrv g z
  | .array _ => jrv g z
  | _ => .int (Int32.ofInt z)
def jokv (v : jjV) : Prop := match v with
  | .inl z => inI z
  | .inr (.inl z) => inL z
  | .inr (.inr _) => True
def jokf (ty : FieldType) (z : Int) : Prop := match ty with
  | .long => inL z
  | .object _ => True
  | .array _ => True
  | .boolean => 0 ≤ z ∧ z ≤ 1
  | .byte => -128 ≤ z ∧ z ≤ 127
  | .char => 0 ≤ z ∧ z < 65536
  | _ => inI z
/-- a cell of the run's own -/
def jcell (g : jjG) (h : jjH) (a : Int) (H : Heap) : Prop :=
  (0 ≤ (h.2.1 a).1 → ∃ r : vw_C, jcl[(h.2.1 a).1.toNat]? = some r ∧ t_OB (jadr g a) (g.2.1.1 (h.2.1 a).1.toNat) r.2.2 (g.2.1.2 (h.2.1 a).1.toNat) H (fun k => jfv g (jtyf (h.2.1 a).1 k) (h.1 a k)) ∧ ∀ k : Nat, k < r.2.2 → jokf (jtyf (h.2.1 a).1 k) (h.1 a k)) ∧
  ((h.2.1 a).1 < 0 → H[jadr g a]? = some (arrV (g.2.2.1 (h.2.1 a).1) (h.2.1 a).2.toNat (fun j => jfv g (jcf (h.2.1 a).1) (h.1 a j))) ∧ 0 ≤ (h.2.1 a).2 ∧ (h.2.1 a).2 < 2147483648 ∧ -8 ≤ (h.2.1 a).1 ∧ ∀ j : Nat, (j : Int) < (h.2.1 a).2 → jokf (jcf (h.2.1 a).1) (h.1 a j))
/-- an old cell: read alone -/
def jroc (g : jjG) (U : State) (h : jjH) (a : Int) : Prop :=
  (0 ≤ (h.2.1 a).1 → ∀ r : vw_C, jclR[(h.2.1 a).1.toNat]? = some r → va_O r.1 (jadr g a) (fun q => g.2.2.2.1 ≤ q) U g.2.2.2.2.2 ∧ ∀ k : Nat, k < r.2.2 → va_OF (r.2.1 k).1 (r.2.1 k).2.1 (r.2.1 k).2.2.1 (jfv g (jtyf (h.2.1 a).1 k) (h.1 a k)) (jadr g a) (fun q => g.2.2.2.1 ≤ q) U g.2.2.2.2.2 ∧ jokf (jtyf (h.2.1 a).1 k) (h.1 a k)) ∧
  ((h.2.1 a).1 < 0 → va_T (jcf (h.2.1 a).1) (jadr g a) (h.2.1 a).2.toNat (fun j => jfv g (jcf (h.2.1 a).1) (h.1 a j)) (fun q => g.2.2.2.1 ≤ q) U g.2.2.2.2.2 ∧ 0 ≤ (h.2.1 a).2 ∧ (h.2.1 a).2 < 2147483648 ∧ ∀ j : Nat, (j : Int) < (h.2.1 a).2 → jokf (jcf (h.2.1 a).1) (h.1 a j))
/-- the heap H holds the picture h -/
def jHR (g : jjG) (U : State) (h : jjH) (H : Heap) : Prop :=
  400 ≤ h.2.2 ∧ H.size = g.2.2.2.1 + (h.2.2 - 400).toNat ∧ (∀ q : Nat, q < g.2.2.2.1 → H[q]? = g.2.2.2.2.2[q]?) ∧ (∀ a : Int, 400 ≤ a → a < h.2.2 → jcell g h a H) ∧ (∀ a : Int, 0 < a → a < 400 → jroc g U h a ∧ jadr g a < g.2.2.2.1)
/-- the statics that are read, and what they hold -/
def jst (g : jjG) : List (String × String × String × Value) :=
  [("SelfSorting", "NOTHING", "LSelfSorting$Text;", .ref (jadr g 2)), ("SelfSorting$Tokens", "WORDS", "[Ljava/lang/String;", .ref (jadr g 5)), ("java/lang/Integer$IntegerCache", "high", "I", .int 127), ("java/lang/Integer$IntegerCache", "cache", "[Ljava/lang/Integer;", .ref (jadr g 6)), ("java/lang/String", "COMPACT_STRINGS", "Z", .int 1), ("java/util/ArrayList", "DEFAULTCAPACITY_EMPTY_ELEMENTDATA", "[Ljava/lang/Object;", .ref (jadr g 7))]
def jtys (g : jjG) : List (ClassId × FieldType) := (List.range 8).map fun (k : Nat) => (g.2.2.1 (-1 - (k : Int)), jcomp.getD k .int)
