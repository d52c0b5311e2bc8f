/-! ===== the small machine, computed: rules for simp only ===== -/
set_option maxRecDepth 100000
theorem jx_const {z : Int} {K : jjP} {ls : List (Option jjV)} {st : List jjV} {h : jjH} {nc : Nat} {ns : Nat} : ji_const z K ls (st) h nc ns = K ls (vI z :: st) h nc ns := rfl
theorem jx_lconst {z : Int} {K : jjP} {ls : List (Option jjV)} {st : List jjV} {h : jjH} {nc : Nat} {ns : Nat} : ji_lconst z K ls (st) h nc ns = K ls (vL z :: st) h nc ns := rfl
theorem jx_null  {K : jjP} {ls : List (Option jjV)} {st : List jjV} {h : jjH} {nc : Nat} {ns : Nat} : ji_null  K ls (st) h nc ns = K ls (vR 0 :: st) h nc ns := rfl
theorem jx_refc {z : Int} {K : jjP} {ls : List (Option jjV)} {st : List jjV} {h : jjH} {nc : Nat} {ns : Nat} : ji_refc z K ls (st) h nc ns = K ls (vR z :: st) h nc ns := rfl
theorem jx_iload0 {z : Int} {K : jjP} {ls : List (Option jjV)} {st : List jjV} {h : jjH} {nc : Nat} {ns : Nat} : ji_iload 0 K (some (vI z) :: ls) st h nc ns = K (some (vI z) :: ls) (vI z :: st) h nc ns := rfl
theorem jx_lload0 {z : Int} {K : jjP} {ls : List (Option jjV)} {st : List jjV} {h : jjH} {nc : Nat} {ns : Nat} : ji_lload 0 K (some (vL z) :: ls) st h nc ns = K (some (vL z) :: ls) (vL z :: st) h nc ns := rfl
theorem jx_aload0 {z : Int} {K : jjP} {ls : List (Option jjV)} {st : List jjV} {h : jjH} {nc : Nat} {ns : Nat} : ji_aload 0 K (some (vR z) :: ls) st h nc ns = K (some (vR z) :: ls) (vR z :: st) h nc ns := rfl
theorem jx_iinc0 {z n : Int} {K : jjP} {ls : List (Option jjV)} {st : List jjV} {h : jjH} {nc : Nat} {ns : Nat} : ji_iinc 0 n K (some (vI z) :: ls) st h nc ns = (inI (z + n) ∧ K (jset1 (some (vI z) :: ls) 0 (vI (z + n))) st h nc ns) := rfl
theorem jx_iload1 {a0 : Option jjV} {z : Int} {K : jjP} {ls : List (Option jjV)} {st : List jjV} {h : jjH} {nc : Nat} {ns : Nat} : ji_iload 1 K (a0 :: some (vI z) :: ls) st h nc ns = K (a0 :: some (vI z) :: ls) (vI z :: st) h nc ns := rfl
theorem jx_lload1 {a0 : Option jjV} {z : Int} {K : jjP} {ls : List (Option jjV)} {st : List jjV} {h : jjH} {nc : Nat} {ns : Nat} : ji_lload 1 K (a0 :: some (vL z) :: ls) st h nc ns = K (a0 :: some (vL z) :: ls) (vL z :: st) h nc ns := rfl
theorem jx_aload1 {a0 : Option jjV} {z : Int} {K : jjP} {ls : List (Option jjV)} {st : List jjV} {h : jjH} {nc : Nat} {ns : Nat} : ji_aload 1 K (a0 :: some (vR z) :: ls) st h nc ns = K (a0 :: some (vR z) :: ls) (vR z :: st) h nc ns := rfl
theorem jx_iinc1 {a0 : Option jjV} {z n : Int} {K : jjP} {ls : List (Option jjV)} {st : List jjV} {h : jjH} {nc : Nat} {ns : Nat} : ji_iinc 1 n K (a0 :: some (vI z) :: ls) st h nc ns = (inI (z + n) ∧ K (jset1 (a0 :: some (vI z) :: ls) 1 (vI (z + n))) st h nc ns) := rfl
theorem jx_iload2 {a0 a1 : Option jjV} {z : Int} {K : jjP} {ls : List (Option jjV)} {st : List jjV} {h : jjH} {nc : Nat} {ns : Nat} : ji_iload 2 K (a0 :: a1 :: some (vI z) :: ls) st h nc ns = K (a0 :: a1 :: some (vI z) :: ls) (vI z :: st) h nc ns := rfl
theorem jx_lload2 {a0 a1 : Option jjV} {z : Int} {K : jjP} {ls : List (Option jjV)} {st : List jjV} {h : jjH} {nc : Nat} {ns : Nat} : ji_lload 2 K (a0 :: a1 :: some (vL z) :: ls) st h nc ns = K (a0 :: a1 :: some (vL z) :: ls) (vL z :: st) h nc ns := rfl
theorem jx_aload2 {a0 a1 : Option jjV} {z : Int} {K : jjP} {ls : List (Option jjV)} {st : List jjV} {h : jjH} {nc : Nat} {ns : Nat} : ji_aload 2 K (a0 :: a1 :: some (vR z) :: ls) st h nc ns = K (a0 :: a1 :: some (vR z) :: ls) (vR z :: st) h nc ns := rfl
theorem jx_iinc2 {a0 a1 : Option jjV} {z n : Int} {K : jjP} {ls : List (Option jjV)} {st : List jjV} {h : jjH} {nc : Nat} {ns : Nat} : ji_iinc 2 n K (a0 :: a1 :: some (vI z) :: ls) st h nc ns = (inI (z + n) ∧ K (jset1 (a0 :: a1 :: some (vI z) :: ls) 2 (vI (z + n))) st h nc ns) := rfl
theorem jx_iload3 {a0 a1 a2 : Option jjV} {z : Int} {K : jjP} {ls : List (Option jjV)} {st : List jjV} {h : jjH} {nc : Nat} {ns : Nat} : ji_iload 3 K (a0 :: a1 :: a2 :: some (vI z) :: ls) st h nc ns = K (a0 :: a1 :: a2 :: some (vI z) :: ls) (vI z :: st) h nc ns := rfl
theorem jx_lload3 {a0 a1 a2 : Option jjV} {z : Int} {K : jjP} {ls : List (Option jjV)} {st : List jjV} {h : jjH} {nc : Nat} {ns : Nat} : ji_lload 3 K (a0 :: a1 :: a2 :: some (vL z) :: ls) st h nc ns = K (a0 :: a1 :: a2 :: some (vL z) :: ls) (vL z :: st) h nc ns := rfl
theorem jx_aload3 {a0 a1 a2 : Option jjV} {z : Int} {K : jjP} {ls : List (Option jjV)} {st : List jjV} {h : jjH} {nc : Nat} {ns : Nat} : ji_aload 3 K (a0 :: a1 :: a2 :: some (vR z) :: ls) st h nc ns = K (a0 :: a1 :: a2 :: some (vR z) :: ls) (vR z :: st) h nc ns := rfl
theorem jx_iinc3 {a0 a1 a2 : Option jjV} {z n : Int} {K : jjP} {ls : List (Option jjV)} {st : List jjV} {h : jjH} {nc : Nat} {ns : Nat} : ji_iinc 3 n K (a0 :: a1 :: a2 :: some (vI z) :: ls) st h nc ns = (inI (z + n) ∧ K (jset1 (a0 :: a1 :: a2 :: some (vI z) :: ls) 3 (vI (z + n))) st h nc ns) := rfl
theorem jx_iload4 {a0 a1 a2 a3 : Option jjV} {z : Int} {K : jjP} {ls : List (Option jjV)} {st : List jjV} {h : jjH} {nc : Nat} {ns : Nat} : ji_iload 4 K (a0 :: a1 :: a2 :: a3 :: some (vI z) :: ls) st h nc ns = K (a0 :: a1 :: a2 :: a3 :: some (vI z) :: ls) (vI z :: st) h nc ns := rfl
theorem jx_lload4 {a0 a1 a2 a3 : Option jjV} {z : Int} {K : jjP} {ls : List (Option jjV)} {st : List jjV} {h : jjH} {nc : Nat} {ns : Nat} : ji_lload 4 K (a0 :: a1 :: a2 :: a3 :: some (vL z) :: ls) st h nc ns = K (a0 :: a1 :: a2 :: a3 :: some (vL z) :: ls) (vL z :: st) h nc ns := rfl
theorem jx_aload4 {a0 a1 a2 a3 : Option jjV} {z : Int} {K : jjP} {ls : List (Option jjV)} {st : List jjV} {h : jjH} {nc : Nat} {ns : Nat} : ji_aload 4 K (a0 :: a1 :: a2 :: a3 :: some (vR z) :: ls) st h nc ns = K (a0 :: a1 :: a2 :: a3 :: some (vR z) :: ls) (vR z :: st) h nc ns := rfl
theorem jx_iinc4 {a0 a1 a2 a3 : Option jjV} {z n : Int} {K : jjP} {ls : List (Option jjV)} {st : List jjV} {h : jjH} {nc : Nat} {ns : Nat} : ji_iinc 4 n K (a0 :: a1 :: a2 :: a3 :: some (vI z) :: ls) st h nc ns = (inI (z + n) ∧ K (jset1 (a0 :: a1 :: a2 :: a3 :: some (vI z) :: ls) 4 (vI (z + n))) st h nc ns) := rfl
theorem jx_iload5 {a0 a1 a2 a3 a4 : Option jjV} {z : Int} {K : jjP} {ls : List (Option jjV)} {st : List jjV} {h : jjH} {nc : Nat} {ns : Nat} : ji_iload 5 K (a0 :: a1 :: a2 :: a3 :: a4 :: some (vI z) :: ls) st h nc ns = K (a0 :: a1 :: a2 :: a3 :: a4 :: some (vI z) :: ls) (vI z :: st) h nc ns := rfl
theorem jx_lload5 {a0 a1 a2 a3 a4 : Option jjV} {z : Int} {K : jjP} {ls : List (Option jjV)} {st : List jjV} {h : jjH} {nc : Nat} {ns : Nat} : ji_lload 5 K (a0 :: a1 :: a2 :: a3 :: a4 :: some (vL z) :: ls) st h nc ns = K (a0 :: a1 :: a2 :: a3 :: a4 :: some (vL z) :: ls) (vL z :: st) h nc ns := rfl
theorem jx_aload5 {a0 a1 a2 a3 a4 : Option jjV} {z : Int} {K : jjP} {ls : List (Option jjV)} {st : List jjV} {h : jjH} {nc : Nat} {ns : Nat} : ji_aload 5 K (a0 :: a1 :: a2 :: a3 :: a4 :: some (vR z) :: ls) st h nc ns = K (a0 :: a1 :: a2 :: a3 :: a4 :: some (vR z) :: ls) (vR z :: st) h nc ns := rfl
theorem jx_iinc5 {a0 a1 a2 a3 a4 : Option jjV} {z n : Int} {K : jjP} {ls : List (Option jjV)} {st : List jjV} {h : jjH} {nc : Nat} {ns : Nat} : ji_iinc 5 n K (a0 :: a1 :: a2 :: a3 :: a4 :: some (vI z) :: ls) st h nc ns = (inI (z + n) ∧ K (jset1 (a0 :: a1 :: a2 :: a3 :: a4 :: some (vI z) :: ls) 5 (vI (z + n))) st h nc ns) := rfl
theorem jx_iload6 {a0 a1 a2 a3 a4 a5 : Option jjV} {z : Int} {K : jjP} {ls : List (Option jjV)} {st : List jjV} {h : jjH} {nc : Nat} {ns : Nat} : ji_iload 6 K (a0 :: a1 :: a2 :: a3 :: a4 :: a5 :: some (vI z) :: ls) st h nc ns = K (a0 :: a1 :: a2 :: a3 :: a4 :: a5 :: some (vI z) :: ls) (vI z :: st) h nc ns := rfl
theorem jx_lload6 {a0 a1 a2 a3 a4 a5 : Option jjV} {z : Int} {K : jjP} {ls : List (Option jjV)} {st : List jjV} {h : jjH} {nc : Nat} {ns : Nat} : ji_lload 6 K (a0 :: a1 :: a2 :: a3 :: a4 :: a5 :: some (vL z) :: ls) st h nc ns = K (a0 :: a1 :: a2 :: a3 :: a4 :: a5 :: some (vL z) :: ls) (vL z :: st) h nc ns := rfl
theorem jx_aload6 {a0 a1 a2 a3 a4 a5 : Option jjV} {z : Int} {K : jjP} {ls : List (Option jjV)} {st : List jjV} {h : jjH} {nc : Nat} {ns : Nat} : ji_aload 6 K (a0 :: a1 :: a2 :: a3 :: a4 :: a5 :: some (vR z) :: ls) st h nc ns = K (a0 :: a1 :: a2 :: a3 :: a4 :: a5 :: some (vR z) :: ls) (vR z :: st) h nc ns := rfl
theorem jx_iinc6 {a0 a1 a2 a3 a4 a5 : Option jjV} {z n : Int} {K : jjP} {ls : List (Option jjV)} {st : List jjV} {h : jjH} {nc : Nat} {ns : Nat} : ji_iinc 6 n K (a0 :: a1 :: a2 :: a3 :: a4 :: a5 :: some (vI z) :: ls) st h nc ns = (inI (z + n) ∧ K (jset1 (a0 :: a1 :: a2 :: a3 :: a4 :: a5 :: some (vI z) :: ls) 6 (vI (z + n))) st h nc ns) := rfl
theorem jx_iload7 {a0 a1 a2 a3 a4 a5 a6 : Option jjV} {z : Int} {K : jjP} {ls : List (Option jjV)} {st : List jjV} {h : jjH} {nc : Nat} {ns : Nat} : ji_iload 7 K (a0 :: a1 :: a2 :: a3 :: a4 :: a5 :: a6 :: some (vI z) :: ls) st h nc ns = K (a0 :: a1 :: a2 :: a3 :: a4 :: a5 :: a6 :: some (vI z) :: ls) (vI z :: st) h nc ns := rfl
theorem jx_lload7 {a0 a1 a2 a3 a4 a5 a6 : Option jjV} {z : Int} {K : jjP} {ls : List (Option jjV)} {st : List jjV} {h : jjH} {nc : Nat} {ns : Nat} : ji_lload 7 K (a0 :: a1 :: a2 :: a3 :: a4 :: a5 :: a6 :: some (vL z) :: ls) st h nc ns = K (a0 :: a1 :: a2 :: a3 :: a4 :: a5 :: a6 :: some (vL z) :: ls) (vL z :: st) h nc ns := rfl
theorem jx_aload7 {a0 a1 a2 a3 a4 a5 a6 : Option jjV} {z : Int} {K : jjP} {ls : List (Option jjV)} {st : List jjV} {h : jjH} {nc : Nat} {ns : Nat} : ji_aload 7 K (a0 :: a1 :: a2 :: a3 :: a4 :: a5 :: a6 :: some (vR z) :: ls) st h nc ns = K (a0 :: a1 :: a2 :: a3 :: a4 :: a5 :: a6 :: some (vR z) :: ls) (vR z :: st) h nc ns := rfl
theorem jx_iinc7 {a0 a1 a2 a3 a4 a5 a6 : Option jjV} {z n : Int} {K : jjP} {ls : List (Option jjV)} {st : List jjV} {h : jjH} {nc : Nat} {ns : Nat} : ji_iinc 7 n K (a0 :: a1 :: a2 :: a3 :: a4 :: a5 :: a6 :: some (vI z) :: ls) st h nc ns = (inI (z + n) ∧ K (jset1 (a0 :: a1 :: a2 :: a3 :: a4 :: a5 :: a6 :: some (vI z) :: ls) 7 (vI (z + n))) st h nc ns) := rfl
theorem jx_iload8 {a0 a1 a2 a3 a4 a5 a6 a7 : Option jjV} {z : Int} {K : jjP} {ls : List (Option jjV)} {st : List jjV} {h : jjH} {nc : Nat} {ns : Nat} : ji_iload 8 K (a0 :: a1 :: a2 :: a3 :: a4 :: a5 :: a6 :: a7 :: some (vI z) :: ls) st h nc ns = K (a0 :: a1 :: a2 :: a3 :: a4 :: a5 :: a6 :: a7 :: some (vI z) :: ls) (vI z :: st) h nc ns := rfl
theorem jx_lload8 {a0 a1 a2 a3 a4 a5 a6 a7 : Option jjV} {z : Int} {K : jjP} {ls : List (Option jjV)} {st : List jjV} {h : jjH} {nc : Nat} {ns : Nat} : ji_lload 8 K (a0 :: a1 :: a2 :: a3 :: a4 :: a5 :: a6 :: a7 :: some (vL z) :: ls) st h nc ns = K (a0 :: a1 :: a2 :: a3 :: a4 :: a5 :: a6 :: a7 :: some (vL z) :: ls) (vL z :: st) h nc ns := rfl
theorem jx_aload8 {a0 a1 a2 a3 a4 a5 a6 a7 : Option jjV} {z : Int} {K : jjP} {ls : List (Option jjV)} {st : List jjV} {h : jjH} {nc : Nat} {ns : Nat} : ji_aload 8 K (a0 :: a1 :: a2 :: a3 :: a4 :: a5 :: a6 :: a7 :: some (vR z) :: ls) st h nc ns = K (a0 :: a1 :: a2 :: a3 :: a4 :: a5 :: a6 :: a7 :: some (vR z) :: ls) (vR z :: st) h nc ns := rfl
theorem jx_iinc8 {a0 a1 a2 a3 a4 a5 a6 a7 : Option jjV} {z n : Int} {K : jjP} {ls : List (Option jjV)} {st : List jjV} {h : jjH} {nc : Nat} {ns : Nat} : ji_iinc 8 n K (a0 :: a1 :: a2 :: a3 :: a4 :: a5 :: a6 :: a7 :: some (vI z) :: ls) st h nc ns = (inI (z + n) ∧ K (jset1 (a0 :: a1 :: a2 :: a3 :: a4 :: a5 :: a6 :: a7 :: some (vI z) :: ls) 8 (vI (z + n))) st h nc ns) := rfl
theorem jx_iload9 {a0 a1 a2 a3 a4 a5 a6 a7 a8 : Option jjV} {z : Int} {K : jjP} {ls : List (Option jjV)} {st : List jjV} {h : jjH} {nc : Nat} {ns : Nat} : ji_iload 9 K (a0 :: a1 :: a2 :: a3 :: a4 :: a5 :: a6 :: a7 :: a8 :: some (vI z) :: ls) st h nc ns = K (a0 :: a1 :: a2 :: a3 :: a4 :: a5 :: a6 :: a7 :: a8 :: some (vI z) :: ls) (vI z :: st) h nc ns := rfl
theorem jx_lload9 {a0 a1 a2 a3 a4 a5 a6 a7 a8 : Option jjV} {z : Int} {K : jjP} {ls : List (Option jjV)} {st : List jjV} {h : jjH} {nc : Nat} {ns : Nat} : ji_lload 9 K (a0 :: a1 :: a2 :: a3 :: a4 :: a5 :: a6 :: a7 :: a8 :: some (vL z) :: ls) st h nc ns = K (a0 :: a1 :: a2 :: a3 :: a4 :: a5 :: a6 :: a7 :: a8 :: some (vL z) :: ls) (vL z :: st) h nc ns := rfl
theorem jx_aload9 {a0 a1 a2 a3 a4 a5 a6 a7 a8 : Option jjV} {z : Int} {K : jjP} {ls : List (Option jjV)} {st : List jjV} {h : jjH} {nc : Nat} {ns : Nat} : ji_aload 9 K (a0 :: a1 :: a2 :: a3 :: a4 :: a5 :: a6 :: a7 :: a8 :: some (vR z) :: ls) st h nc ns = K (a0 :: a1 :: a2 :: a3 :: a4 :: a5 :: a6 :: a7 :: a8 :: some (vR z) :: ls) (vR z :: st) h nc ns := rfl
theorem jx_iinc9 {a0 a1 a2 a3 a4 a5 a6 a7 a8 : Option jjV} {z n : Int} {K : jjP} {ls : List (Option jjV)} {st : List jjV} {h : jjH} {nc : Nat} {ns : Nat} : ji_iinc 9 n K (a0 :: a1 :: a2 :: a3 :: a4 :: a5 :: a6 :: a7 :: a8 :: some (vI z) :: ls) st h nc ns = (inI (z + n) ∧ K (jset1 (a0 :: a1 :: a2 :: a3 :: a4 :: a5 :: a6 :: a7 :: a8 :: some (vI z) :: ls) 9 (vI (z + n))) st h nc ns) := rfl
theorem jx_iload10 {a0 a1 a2 a3 a4 a5 a6 a7 a8 a9 : Option jjV} {z : Int} {K : jjP} {ls : List (Option jjV)} {st : List jjV} {h : jjH} {nc : Nat} {ns : Nat} : ji_iload 10 K (a0 :: a1 :: a2 :: a3 :: a4 :: a5 :: a6 :: a7 :: a8 :: a9 :: some (vI z) :: ls) st h nc ns = K (a0 :: a1 :: a2 :: a3 :: a4 :: a5 :: a6 :: a7 :: a8 :: a9 :: some (vI z) :: ls) (vI z :: st) h nc ns := rfl
theorem jx_lload10 {a0 a1 a2 a3 a4 a5 a6 a7 a8 a9 : Option jjV} {z : Int} {K : jjP} {ls : List (Option jjV)} {st : List jjV} {h : jjH} {nc : Nat} {ns : Nat} : ji_lload 10 K (a0 :: a1 :: a2 :: a3 :: a4 :: a5 :: a6 :: a7 :: a8 :: a9 :: some (vL z) :: ls) st h nc ns = K (a0 :: a1 :: a2 :: a3 :: a4 :: a5 :: a6 :: a7 :: a8 :: a9 :: some (vL z) :: ls) (vL z :: st) h nc ns := rfl
theorem jx_aload10 {a0 a1 a2 a3 a4 a5 a6 a7 a8 a9 : Option jjV} {z : Int} {K : jjP} {ls : List (Option jjV)} {st : List jjV} {h : jjH} {nc : Nat} {ns : Nat} : ji_aload 10 K (a0 :: a1 :: a2 :: a3 :: a4 :: a5 :: a6 :: a7 :: a8 :: a9 :: some (vR z) :: ls) st h nc ns = K (a0 :: a1 :: a2 :: a3 :: a4 :: a5 :: a6 :: a7 :: a8 :: a9 :: some (vR z) :: ls) (vR z :: st) h nc ns := rfl
theorem jx_iinc10 {a0 a1 a2 a3 a4 a5 a6 a7 a8 a9 : Option jjV} {z n : Int} {K : jjP} {ls : List (Option jjV)} {st : List jjV} {h : jjH} {nc : Nat} {ns : Nat} : ji_iinc 10 n K (a0 :: a1 :: a2 :: a3 :: a4 :: a5 :: a6 :: a7 :: a8 :: a9 :: some (vI z) :: ls) st h nc ns = (inI (z + n) ∧ K (jset1 (a0 :: a1 :: a2 :: a3 :: a4 :: a5 :: a6 :: a7 :: a8 :: a9 :: some (vI z) :: ls) 10 (vI (z + n))) st h nc ns) := rfl
theorem jx_iload11 {a0 a1 a2 a3 a4 a5 a6 a7 a8 a9 a10 : Option jjV} {z : Int} {K : jjP} {ls : List (Option jjV)} {st : List jjV} {h : jjH} {nc : Nat} {ns : Nat} : ji_iload 11 K (a0 :: a1 :: a2 :: a3 :: a4 :: a5 :: a6 :: a7 :: a8 :: a9 :: a10 :: some (vI z) :: ls) st h nc ns = K (a0 :: a1 :: a2 :: a3 :: a4 :: a5 :: a6 :: a7 :: a8 :: a9 :: a10 :: some (vI z) :: ls) (vI z :: st) h nc ns := rfl
theorem jx_lload11 {a0 a1 a2 a3 a4 a5 a6 a7 a8 a9 a10 : Option jjV} {z : Int} {K : jjP} {ls : List (Option jjV)} {st : List jjV} {h : jjH} {nc : Nat} {ns : Nat} : ji_lload 11 K (a0 :: a1 :: a2 :: a3 :: a4 :: a5 :: a6 :: a7 :: a8 :: a9 :: a10 :: some (vL z) :: ls) st h nc ns = K (a0 :: a1 :: a2 :: a3 :: a4 :: a5 :: a6 :: a7 :: a8 :: a9 :: a10 :: some (vL z) :: ls) (vL z :: st) h nc ns := rfl
theorem jx_aload11 {a0 a1 a2 a3 a4 a5 a6 a7 a8 a9 a10 : Option jjV} {z : Int} {K : jjP} {ls : List (Option jjV)} {st : List jjV} {h : jjH} {nc : Nat} {ns : Nat} : ji_aload 11 K (a0 :: a1 :: a2 :: a3 :: a4 :: a5 :: a6 :: a7 :: a8 :: a9 :: a10 :: some (vR z) :: ls) st h nc ns = K (a0 :: a1 :: a2 :: a3 :: a4 :: a5 :: a6 :: a7 :: a8 :: a9 :: a10 :: some (vR z) :: ls) (vR z :: st) h nc ns := rfl
theorem jx_iinc11 {a0 a1 a2 a3 a4 a5 a6 a7 a8 a9 a10 : Option jjV} {z n : Int} {K : jjP} {ls : List (Option jjV)} {st : List jjV} {h : jjH} {nc : Nat} {ns : Nat} : ji_iinc 11 n K (a0 :: a1 :: a2 :: a3 :: a4 :: a5 :: a6 :: a7 :: a8 :: a9 :: a10 :: some (vI z) :: ls) st h nc ns = (inI (z + n) ∧ K (jset1 (a0 :: a1 :: a2 :: a3 :: a4 :: a5 :: a6 :: a7 :: a8 :: a9 :: a10 :: some (vI z) :: ls) 11 (vI (z + n))) st h nc ns) := rfl
theorem jx_iload12 {a0 a1 a2 a3 a4 a5 a6 a7 a8 a9 a10 a11 : Option jjV} {z : Int} {K : jjP} {ls : List (Option jjV)} {st : List jjV} {h : jjH} {nc : Nat} {ns : Nat} : ji_iload 12 K (a0 :: a1 :: a2 :: a3 :: a4 :: a5 :: a6 :: a7 :: a8 :: a9 :: a10 :: a11 :: some (vI z) :: ls) st h nc ns = K (a0 :: a1 :: a2 :: a3 :: a4 :: a5 :: a6 :: a7 :: a8 :: a9 :: a10 :: a11 :: some (vI z) :: ls) (vI z :: st) h nc ns := rfl
theorem jx_lload12 {a0 a1 a2 a3 a4 a5 a6 a7 a8 a9 a10 a11 : Option jjV} {z : Int} {K : jjP} {ls : List (Option jjV)} {st : List jjV} {h : jjH} {nc : Nat} {ns : Nat} : ji_lload 12 K (a0 :: a1 :: a2 :: a3 :: a4 :: a5 :: a6 :: a7 :: a8 :: a9 :: a10 :: a11 :: some (vL z) :: ls) st h nc ns = K (a0 :: a1 :: a2 :: a3 :: a4 :: a5 :: a6 :: a7 :: a8 :: a9 :: a10 :: a11 :: some (vL z) :: ls) (vL z :: st) h nc ns := rfl
theorem jx_aload12 {a0 a1 a2 a3 a4 a5 a6 a7 a8 a9 a10 a11 : Option jjV} {z : Int} {K : jjP} {ls : List (Option jjV)} {st : List jjV} {h : jjH} {nc : Nat} {ns : Nat} : ji_aload 12 K (a0 :: a1 :: a2 :: a3 :: a4 :: a5 :: a6 :: a7 :: a8 :: a9 :: a10 :: a11 :: some (vR z) :: ls) st h nc ns = K (a0 :: a1 :: a2 :: a3 :: a4 :: a5 :: a6 :: a7 :: a8 :: a9 :: a10 :: a11 :: some (vR z) :: ls) (vR z :: st) h nc ns := rfl
theorem jx_iinc12 {a0 a1 a2 a3 a4 a5 a6 a7 a8 a9 a10 a11 : Option jjV} {z n : Int} {K : jjP} {ls : List (Option jjV)} {st : List jjV} {h : jjH} {nc : Nat} {ns : Nat} : ji_iinc 12 n K (a0 :: a1 :: a2 :: a3 :: a4 :: a5 :: a6 :: a7 :: a8 :: a9 :: a10 :: a11 :: some (vI z) :: ls) st h nc ns = (inI (z + n) ∧ K (jset1 (a0 :: a1 :: a2 :: a3 :: a4 :: a5 :: a6 :: a7 :: a8 :: a9 :: a10 :: a11 :: some (vI z) :: ls) 12 (vI (z + n))) st h nc ns) := rfl
theorem jx_iload13 {a0 a1 a2 a3 a4 a5 a6 a7 a8 a9 a10 a11 a12 : Option jjV} {z : Int} {K : jjP} {ls : List (Option jjV)} {st : List jjV} {h : jjH} {nc : Nat} {ns : Nat} : ji_iload 13 K (a0 :: a1 :: a2 :: a3 :: a4 :: a5 :: a6 :: a7 :: a8 :: a9 :: a10 :: a11 :: a12 :: some (vI z) :: ls) st h nc ns = K (a0 :: a1 :: a2 :: a3 :: a4 :: a5 :: a6 :: a7 :: a8 :: a9 :: a10 :: a11 :: a12 :: some (vI z) :: ls) (vI z :: st) h nc ns := rfl
theorem jx_lload13 {a0 a1 a2 a3 a4 a5 a6 a7 a8 a9 a10 a11 a12 : Option jjV} {z : Int} {K : jjP} {ls : List (Option jjV)} {st : List jjV} {h : jjH} {nc : Nat} {ns : Nat} : ji_lload 13 K (a0 :: a1 :: a2 :: a3 :: a4 :: a5 :: a6 :: a7 :: a8 :: a9 :: a10 :: a11 :: a12 :: some (vL z) :: ls) st h nc ns = K (a0 :: a1 :: a2 :: a3 :: a4 :: a5 :: a6 :: a7 :: a8 :: a9 :: a10 :: a11 :: a12 :: some (vL z) :: ls) (vL z :: st) h nc ns := rfl
theorem jx_aload13 {a0 a1 a2 a3 a4 a5 a6 a7 a8 a9 a10 a11 a12 : Option jjV} {z : Int} {K : jjP} {ls : List (Option jjV)} {st : List jjV} {h : jjH} {nc : Nat} {ns : Nat} : ji_aload 13 K (a0 :: a1 :: a2 :: a3 :: a4 :: a5 :: a6 :: a7 :: a8 :: a9 :: a10 :: a11 :: a12 :: some (vR z) :: ls) st h nc ns = K (a0 :: a1 :: a2 :: a3 :: a4 :: a5 :: a6 :: a7 :: a8 :: a9 :: a10 :: a11 :: a12 :: some (vR z) :: ls) (vR z :: st) h nc ns := rfl
theorem jx_iinc13 {a0 a1 a2 a3 a4 a5 a6 a7 a8 a9 a10 a11 a12 : Option jjV} {z n : Int} {K : jjP} {ls : List (Option jjV)} {st : List jjV} {h : jjH} {nc : Nat} {ns : Nat} : ji_iinc 13 n K (a0 :: a1 :: a2 :: a3 :: a4 :: a5 :: a6 :: a7 :: a8 :: a9 :: a10 :: a11 :: a12 :: some (vI z) :: ls) st h nc ns = (inI (z + n) ∧ K (jset1 (a0 :: a1 :: a2 :: a3 :: a4 :: a5 :: a6 :: a7 :: a8 :: a9 :: a10 :: a11 :: a12 :: some (vI z) :: ls) 13 (vI (z + n))) st h nc ns) := rfl
theorem jx_istore {i : Nat} {z : Int} {K : jjP} {ls : List (Option jjV)} {st : List jjV} {h : jjH} {nc : Nat} {ns : Nat} : ji_istore i K ls (vI z :: st) h nc ns = K (jset1 ls i (vI z)) st h nc ns := rfl
theorem jx_lstore {i : Nat} {z : Int} {K : jjP} {ls : List (Option jjV)} {st : List jjV} {h : jjH} {nc : Nat} {ns : Nat} : ji_lstore i K ls (vL z :: st) h nc ns = K (jset2 ls i (vL z)) st h nc ns := rfl
theorem jx_astore {i : Nat} {z : Int} {K : jjP} {ls : List (Option jjV)} {st : List jjV} {h : jjH} {nc : Nat} {ns : Nat} : ji_astore i K ls (vR z :: st) h nc ns = K (jset1 ls i (vR z)) st h nc ns := rfl
theorem jx_iadd {a b : Int} {K : jjP} {ls : List (Option jjV)} {st : List jjV} {h : jjH} {nc : Nat} {ns : Nat} : ji_iadd  K ls (vI b :: vI a :: st) h nc ns = (inI (a + b) ∧ K ls (vI (a + b) :: st) h nc ns) := rfl
theorem jx_isub {a b : Int} {K : jjP} {ls : List (Option jjV)} {st : List jjV} {h : jjH} {nc : Nat} {ns : Nat} : ji_isub  K ls (vI b :: vI a :: st) h nc ns = (inI (a - b) ∧ K ls (vI (a - b) :: st) h nc ns) := rfl
theorem jx_imul {a b : Int} {K : jjP} {ls : List (Option jjV)} {st : List jjV} {h : jjH} {nc : Nat} {ns : Nat} : ji_imul  K ls (vI b :: vI a :: st) h nc ns = (inI (a * b) ∧ K ls (vI (a * b) :: st) h nc ns) := rfl
theorem jx_ladd {a b : Int} {K : jjP} {ls : List (Option jjV)} {st : List jjV} {h : jjH} {nc : Nat} {ns : Nat} : ji_ladd  K ls (vL b :: vL a :: st) h nc ns = (inL (a + b) ∧ K ls (vL (a + b) :: st) h nc ns) := rfl
theorem jx_lsub {a b : Int} {K : jjP} {ls : List (Option jjV)} {st : List jjV} {h : jjH} {nc : Nat} {ns : Nat} : ji_lsub  K ls (vL b :: vL a :: st) h nc ns = (inL (a - b) ∧ K ls (vL (a - b) :: st) h nc ns) := rfl
theorem jx_lmul {a b : Int} {K : jjP} {ls : List (Option jjV)} {st : List jjV} {h : jjH} {nc : Nat} {ns : Nat} : ji_lmul  K ls (vL b :: vL a :: st) h nc ns = (inL (a * b) ∧ K ls (vL (a * b) :: st) h nc ns) := rfl
theorem jx_idiv {a b : Int} {K : jjP} {ls : List (Option jjV)} {st : List jjV} {h : jjH} {nc : Nat} {ns : Nat} : ji_idiv  K ls (vI b :: vI a :: st) h nc ns = ((0 ≤ a ∧ 0 < b) ∧ K ls (vI (a / b) :: st) h nc ns) := rfl
theorem jx_irem {a b : Int} {K : jjP} {ls : List (Option jjV)} {st : List jjV} {h : jjH} {nc : Nat} {ns : Nat} : ji_irem  K ls (vI b :: vI a :: st) h nc ns = ((0 ≤ a ∧ 0 < b) ∧ K ls (vI (a % b) :: st) h nc ns) := rfl
theorem jx_ldiv {a b : Int} {K : jjP} {ls : List (Option jjV)} {st : List jjV} {h : jjH} {nc : Nat} {ns : Nat} : ji_ldiv  K ls (vL b :: vL a :: st) h nc ns = ((b ≠ 0 ∧ inL (a.tdiv b)) ∧ K ls (vL (a.tdiv b) :: st) h nc ns) := rfl
theorem jx_ineg {a : Int} {K : jjP} {ls : List (Option jjV)} {st : List jjV} {h : jjH} {nc : Nat} {ns : Nat} : ji_ineg  K ls (vI a :: st) h nc ns = (inI (-a) ∧ K ls (vI (-a) :: st) h nc ns) := rfl
theorem jx_lneg {a : Int} {K : jjP} {ls : List (Option jjV)} {st : List jjV} {h : jjH} {nc : Nat} {ns : Nat} : ji_lneg  K ls (vL a :: st) h nc ns = (inL (-a) ∧ K ls (vL (-a) :: st) h nc ns) := rfl
theorem jx_iand {a b : Int} {K : jjP} {ls : List (Option jjV)} {st : List jjV} {h : jjH} {nc : Nat} {ns : Nat} : ji_iand  K ls (vI b :: vI a :: st) h nc ns = K ls (vI (jand a b) :: st) h nc ns := rfl
theorem jx_ior {a b : Int} {K : jjP} {ls : List (Option jjV)} {st : List jjV} {h : jjH} {nc : Nat} {ns : Nat} : ji_ior  K ls (vI b :: vI a :: st) h nc ns = K ls (vI (jor a b) :: st) h nc ns := rfl
theorem jx_ixor {a b : Int} {K : jjP} {ls : List (Option jjV)} {st : List jjV} {h : jjH} {nc : Nat} {ns : Nat} : ji_ixor  K ls (vI b :: vI a :: st) h nc ns = K ls (vI (jxor a b) :: st) h nc ns := rfl
theorem jx_ishl {a b : Int} {K : jjP} {ls : List (Option jjV)} {st : List jjV} {h : jjH} {nc : Nat} {ns : Nat} : ji_ishl  K ls (vI b :: vI a :: st) h nc ns = K ls (vI (jshl a b) :: st) h nc ns := rfl
theorem jx_ishr {a b : Int} {K : jjP} {ls : List (Option jjV)} {st : List jjV} {h : jjH} {nc : Nat} {ns : Nat} : ji_ishr  K ls (vI b :: vI a :: st) h nc ns = K ls (vI (jshr a b) :: st) h nc ns := rfl
theorem jx_iushr {a b : Int} {K : jjP} {ls : List (Option jjV)} {st : List jjV} {h : jjH} {nc : Nat} {ns : Nat} : ji_iushr  K ls (vI b :: vI a :: st) h nc ns = K ls (vI (jushr a b) :: st) h nc ns := rfl
theorem jx_lor {a b : Int} {K : jjP} {ls : List (Option jjV)} {st : List jjV} {h : jjH} {nc : Nat} {ns : Nat} : ji_lor  K ls (vL b :: vL a :: st) h nc ns = K ls (vL (jorL a b) :: st) h nc ns := rfl
theorem jx_lshl {a b : Int} {K : jjP} {ls : List (Option jjV)} {st : List jjV} {h : jjH} {nc : Nat} {ns : Nat} : ji_lshl  K ls (vI b :: vL a :: st) h nc ns = K ls (vL (jshlL a b) :: st) h nc ns := rfl
theorem jx_lcmp {a b : Int} {K : jjP} {ls : List (Option jjV)} {st : List jjV} {h : jjH} {nc : Nat} {ns : Nat} : ji_lcmp  K ls (vL b :: vL a :: st) h nc ns = K ls (vI (jcmp a b) :: st) h nc ns := rfl
theorem jx_i2l {a : Int} {K : jjP} {ls : List (Option jjV)} {st : List jjV} {h : jjH} {nc : Nat} {ns : Nat} : ji_i2l  K ls (vI a :: st) h nc ns = K ls (vL a :: st) h nc ns := rfl
theorem jx_l2i {a : Int} {K : jjP} {ls : List (Option jjV)} {st : List jjV} {h : jjH} {nc : Nat} {ns : Nat} : ji_l2i  K ls (vL a :: st) h nc ns = (inI a ∧ K ls (vI a :: st) h nc ns) := rfl
theorem jx_i2b {a : Int} {K : jjP} {ls : List (Option jjV)} {st : List jjV} {h : jjH} {nc : Nat} {ns : Nat} : ji_i2b  K ls (vI a :: st) h nc ns = K ls (vI (jbyte a) :: st) h nc ns := rfl
theorem jx_i2c {a : Int} {K : jjP} {ls : List (Option jjV)} {st : List jjV} {h : jjH} {nc : Nat} {ns : Nat} : ji_i2c  K ls (vI a :: st) h nc ns = ((0 ≤ a ∧ a < 65536) ∧ K ls (vI a :: st) h nc ns) := rfl
theorem jx_dupI {a : Int} {K : jjP} {ls : List (Option jjV)} {st : List jjV} {h : jjH} {nc : Nat} {ns : Nat} : ji_dup K ls (vI a :: st) h nc ns = K ls (vI a :: vI a :: st) h nc ns := by first | exact propext ⟨fun q => q.2, fun q => ⟨trivial, q⟩⟩ | exact propext ⟨fun q => q.2, fun q => ⟨⟨trivial, trivial⟩, q⟩⟩
theorem jx_popI {a : Int} {K : jjP} {ls : List (Option jjV)} {st : List jjV} {h : jjH} {nc : Nat} {ns : Nat} : ji_pop K ls (vI a :: st) h nc ns = K ls st h nc ns := by first | exact propext ⟨fun q => q.2, fun q => ⟨trivial, q⟩⟩ | exact propext ⟨fun q => q.2, fun q => ⟨⟨trivial, trivial⟩, q⟩⟩
theorem jx_dup2II {a b : Int} {K : jjP} {ls : List (Option jjV)} {st : List jjV} {h : jjH} {nc : Nat} {ns : Nat} : ji_dup2 K ls (vI a :: vI b :: st) h nc ns = K ls (vI a :: vI b :: vI a :: vI b :: st) h nc ns := by first | exact propext ⟨fun q => q.2, fun q => ⟨trivial, q⟩⟩ | exact propext ⟨fun q => q.2, fun q => ⟨⟨trivial, trivial⟩, q⟩⟩
theorem jx_dupx1II {a b : Int} {K : jjP} {ls : List (Option jjV)} {st : List jjV} {h : jjH} {nc : Nat} {ns : Nat} : ji_dupx1 K ls (vI a :: vI b :: st) h nc ns = K ls (vI a :: vI b :: vI a :: st) h nc ns := by first | exact propext ⟨fun q => q.2, fun q => ⟨trivial, q⟩⟩ | exact propext ⟨fun q => q.2, fun q => ⟨⟨trivial, trivial⟩, q⟩⟩
theorem jx_dup2IR {a b : Int} {K : jjP} {ls : List (Option jjV)} {st : List jjV} {h : jjH} {nc : Nat} {ns : Nat} : ji_dup2 K ls (vI a :: vR b :: st) h nc ns = K ls (vI a :: vR b :: vI a :: vR b :: st) h nc ns := by first | exact propext ⟨fun q => q.2, fun q => ⟨trivial, q⟩⟩ | exact propext ⟨fun q => q.2, fun q => ⟨⟨trivial, trivial⟩, q⟩⟩
theorem jx_dupx1IR {a b : Int} {K : jjP} {ls : List (Option jjV)} {st : List jjV} {h : jjH} {nc : Nat} {ns : Nat} : ji_dupx1 K ls (vI a :: vR b :: st) h nc ns = K ls (vI a :: vR b :: vI a :: st) h nc ns := by first | exact propext ⟨fun q => q.2, fun q => ⟨trivial, q⟩⟩ | exact propext ⟨fun q => q.2, fun q => ⟨⟨trivial, trivial⟩, q⟩⟩
theorem jx_dupR {a : Int} {K : jjP} {ls : List (Option jjV)} {st : List jjV} {h : jjH} {nc : Nat} {ns : Nat} : ji_dup K ls (vR a :: st) h nc ns = K ls (vR a :: vR a :: st) h nc ns := by first | exact propext ⟨fun q => q.2, fun q => ⟨trivial, q⟩⟩ | exact propext ⟨fun q => q.2, fun q => ⟨⟨trivial, trivial⟩, q⟩⟩
theorem jx_popR {a : Int} {K : jjP} {ls : List (Option jjV)} {st : List jjV} {h : jjH} {nc : Nat} {ns : Nat} : ji_pop K ls (vR a :: st) h nc ns = K ls st h nc ns := by first | exact propext ⟨fun q => q.2, fun q => ⟨trivial, q⟩⟩ | exact propext ⟨fun q => q.2, fun q => ⟨⟨trivial, trivial⟩, q⟩⟩
theorem jx_dup2RI {a b : Int} {K : jjP} {ls : List (Option jjV)} {st : List jjV} {h : jjH} {nc : Nat} {ns : Nat} : ji_dup2 K ls (vR a :: vI b :: st) h nc ns = K ls (vR a :: vI b :: vR a :: vI b :: st) h nc ns := by first | exact propext ⟨fun q => q.2, fun q => ⟨trivial, q⟩⟩ | exact propext ⟨fun q => q.2, fun q => ⟨⟨trivial, trivial⟩, q⟩⟩
theorem jx_dupx1RI {a b : Int} {K : jjP} {ls : List (Option jjV)} {st : List jjV} {h : jjH} {nc : Nat} {ns : Nat} : ji_dupx1 K ls (vR a :: vI b :: st) h nc ns = K ls (vR a :: vI b :: vR a :: st) h nc ns := by first | exact propext ⟨fun q => q.2, fun q => ⟨trivial, q⟩⟩ | exact propext ⟨fun q => q.2, fun q => ⟨⟨trivial, trivial⟩, q⟩⟩
theorem jx_dup2RR {a b : Int} {K : jjP} {ls : List (Option jjV)} {st : List jjV} {h : jjH} {nc : Nat} {ns : Nat} : ji_dup2 K ls (vR a :: vR b :: st) h nc ns = K ls (vR a :: vR b :: vR a :: vR b :: st) h nc ns := by first | exact propext ⟨fun q => q.2, fun q => ⟨trivial, q⟩⟩ | exact propext ⟨fun q => q.2, fun q => ⟨⟨trivial, trivial⟩, q⟩⟩
theorem jx_dupx1RR {a b : Int} {K : jjP} {ls : List (Option jjV)} {st : List jjV} {h : jjH} {nc : Nat} {ns : Nat} : ji_dupx1 K ls (vR a :: vR b :: st) h nc ns = K ls (vR a :: vR b :: vR a :: st) h nc ns := by first | exact propext ⟨fun q => q.2, fun q => ⟨trivial, q⟩⟩ | exact propext ⟨fun q => q.2, fun q => ⟨⟨trivial, trivial⟩, q⟩⟩
theorem jx_goto  {K : jjP} {ls : List (Option jjV)} {st : List jjV} {h : jjH} {nc : Nat} {ns : Nat} : ji_goto K ls st h nc ns = K ls st h nc ns := rfl
theorem jx_icmp_eq {a b : Int} {K : jjP} {K2 : jjP} {ls : List (Option jjV)} {st : List jjV} {h : jjH} {nc : Nat} {ns : Nat} : ji_icmp_eq K K2 ls (vI b :: vI a :: st) h nc ns = (((a = b) → K ls st h nc ns) ∧ ((¬ (a = b)) → K2 ls st h nc ns)) := rfl
theorem jx_if_eq {a : Int} {K : jjP} {K2 : jjP} {ls : List (Option jjV)} {st : List jjV} {h : jjH} {nc : Nat} {ns : Nat} : ji_if_eq K K2 ls (vI a :: st) h nc ns = (((a = 0) → K ls st h nc ns) ∧ ((¬ (a = 0)) → K2 ls st h nc ns)) := rfl
theorem jx_icmp_ne {a b : Int} {K : jjP} {K2 : jjP} {ls : List (Option jjV)} {st : List jjV} {h : jjH} {nc : Nat} {ns : Nat} : ji_icmp_ne K K2 ls (vI b :: vI a :: st) h nc ns = (((¬ a = b) → K ls st h nc ns) ∧ ((a = b) → K2 ls st h nc ns)) := rfl
theorem jx_if_ne {a : Int} {K : jjP} {K2 : jjP} {ls : List (Option jjV)} {st : List jjV} {h : jjH} {nc : Nat} {ns : Nat} : ji_if_ne K K2 ls (vI a :: st) h nc ns = (((¬ a = 0) → K ls st h nc ns) ∧ ((a = 0) → K2 ls st h nc ns)) := rfl
theorem jx_icmp_lt {a b : Int} {K : jjP} {K2 : jjP} {ls : List (Option jjV)} {st : List jjV} {h : jjH} {nc : Nat} {ns : Nat} : ji_icmp_lt K K2 ls (vI b :: vI a :: st) h nc ns = (((a < b) → K ls st h nc ns) ∧ ((¬ (a < b)) → K2 ls st h nc ns)) := rfl
theorem jx_if_lt {a : Int} {K : jjP} {K2 : jjP} {ls : List (Option jjV)} {st : List jjV} {h : jjH} {nc : Nat} {ns : Nat} : ji_if_lt K K2 ls (vI a :: st) h nc ns = (((a < 0) → K ls st h nc ns) ∧ ((¬ (a < 0)) → K2 ls st h nc ns)) := rfl
theorem jx_icmp_ge {a b : Int} {K : jjP} {K2 : jjP} {ls : List (Option jjV)} {st : List jjV} {h : jjH} {nc : Nat} {ns : Nat} : ji_icmp_ge K K2 ls (vI b :: vI a :: st) h nc ns = (((b ≤ a) → K ls st h nc ns) ∧ ((¬ (b ≤ a)) → K2 ls st h nc ns)) := rfl
theorem jx_if_ge {a : Int} {K : jjP} {K2 : jjP} {ls : List (Option jjV)} {st : List jjV} {h : jjH} {nc : Nat} {ns : Nat} : ji_if_ge K K2 ls (vI a :: st) h nc ns = (((0 ≤ a) → K ls st h nc ns) ∧ ((¬ (0 ≤ a)) → K2 ls st h nc ns)) := rfl
theorem jx_icmp_gt {a b : Int} {K : jjP} {K2 : jjP} {ls : List (Option jjV)} {st : List jjV} {h : jjH} {nc : Nat} {ns : Nat} : ji_icmp_gt K K2 ls (vI b :: vI a :: st) h nc ns = (((b < a) → K ls st h nc ns) ∧ ((¬ (b < a)) → K2 ls st h nc ns)) := rfl
theorem jx_if_gt {a : Int} {K : jjP} {K2 : jjP} {ls : List (Option jjV)} {st : List jjV} {h : jjH} {nc : Nat} {ns : Nat} : ji_if_gt K K2 ls (vI a :: st) h nc ns = (((0 < a) → K ls st h nc ns) ∧ ((¬ (0 < a)) → K2 ls st h nc ns)) := rfl
theorem jx_icmp_le {a b : Int} {K : jjP} {K2 : jjP} {ls : List (Option jjV)} {st : List jjV} {h : jjH} {nc : Nat} {ns : Nat} : ji_icmp_le K K2 ls (vI b :: vI a :: st) h nc ns = (((a ≤ b) → K ls st h nc ns) ∧ ((¬ (a ≤ b)) → K2 ls st h nc ns)) := rfl
theorem jx_if_le {a : Int} {K : jjP} {K2 : jjP} {ls : List (Option jjV)} {st : List jjV} {h : jjH} {nc : Nat} {ns : Nat} : ji_if_le K K2 ls (vI a :: st) h nc ns = (((a ≤ 0) → K ls st h nc ns) ∧ ((¬ (a ≤ 0)) → K2 ls st h nc ns)) := rfl
theorem jx_ifnull {a : Int} {K : jjP} {K2 : jjP} {ls : List (Option jjV)} {st : List jjV} {h : jjH} {nc : Nat} {ns : Nat} : ji_ifnull K K2 ls (vR a :: st) h nc ns = (((a = 0) → K ls st h nc ns) ∧ ((¬ a = 0) → K2 ls st h nc ns)) := rfl
theorem jx_ifnonnull {a : Int} {K : jjP} {K2 : jjP} {ls : List (Option jjV)} {st : List jjV} {h : jjH} {nc : Nat} {ns : Nat} : ji_ifnonnull K K2 ls (vR a :: st) h nc ns = (((¬ a = 0) → K ls st h nc ns) ∧ ((a = 0) → K2 ls st h nc ns)) := rfl
theorem jx_getfI {ci k a : Int} {K : jjP} {ls : List (Option jjV)} {st : List jjV} {h : jjH} {nc : Nat} {ns : Nat} : ji_getfI ci k K ls (vR a :: st) h nc ns = (jok h.2 a ci ∧ K ls (vI (h.1 a k) :: st) h nc ns) := rfl
theorem jx_getfL {ci k a : Int} {K : jjP} {ls : List (Option jjV)} {st : List jjV} {h : jjH} {nc : Nat} {ns : Nat} : ji_getfL ci k K ls (vR a :: st) h nc ns = (jok h.2 a ci ∧ K ls (vL (h.1 a k) :: st) h nc ns) := rfl
theorem jx_getfR {ci k a : Int} {K : jjP} {ls : List (Option jjV)} {st : List jjV} {h : jjH} {nc : Nat} {ns : Nat} : ji_getfR ci k K ls (vR a :: st) h nc ns = (jok h.2 a ci ∧ K ls (vR (h.1 a k) :: st) h nc ns) := rfl
theorem jx_putfI {ci k a z : Int} {K : jjP} {ls : List (Option jjV)} {st : List jjV} {h : jjH} {nc : Nat} {ns : Nat} : ji_putfI ci k K ls (vI z :: vR a :: st) h nc ns = (jok h.2 a ci ∧ 400 ≤ a ∧ K ls st (up2 h.1 a k z, h.2) nc ns) := rfl
theorem jx_putfZ {ci k a z : Int} {K : jjP} {ls : List (Option jjV)} {st : List jjV} {h : jjH} {nc : Nat} {ns : Nat} : ji_putfZ ci k K ls (vI z :: vR a :: st) h nc ns = (jok h.2 a ci ∧ 400 ≤ a ∧ (0 ≤ z ∧ z ≤ 1) ∧ K ls st (up2 h.1 a k z, h.2) nc ns) := rfl
theorem jx_putfL {ci k a z : Int} {K : jjP} {ls : List (Option jjV)} {st : List jjV} {h : jjH} {nc : Nat} {ns : Nat} : ji_putfL ci k K ls (vL z :: vR a :: st) h nc ns = (jok h.2 a ci ∧ 400 ≤ a ∧ K ls st (up2 h.1 a k z, h.2) nc ns) := rfl
theorem jx_putfR {ci k a z : Int} {K : jjP} {ls : List (Option jjV)} {st : List jjV} {h : jjH} {nc : Nat} {ns : Nat} : ji_putfR ci k K ls (vR z :: vR a :: st) h nc ns = (jok h.2 a ci ∧ 400 ≤ a ∧ K ls st (up2 h.1 a k z, h.2) nc ns) := rfl
theorem jx_iald {a i : Int} {K : jjP} {ls : List (Option jjV)} {st : List jjV} {h : jjH} {nc : Nat} {ns : Nat} : ji_iald K ls (vI i :: vR a :: st) h nc ns = ((jok h.2 a (-1) ∧ 0 ≤ i ∧ i < jln h.2 a) ∧ K ls (vI (h.1 a i) :: st) h nc ns) := rfl
theorem jx_bald {a i : Int} {K : jjP} {ls : List (Option jjV)} {st : List jjV} {h : jjH} {nc : Nat} {ns : Nat} : ji_bald K ls (vI i :: vR a :: st) h nc ns = ((jok h.2 a (-2) ∧ 0 ≤ i ∧ i < jln h.2 a) ∧ K ls (vI (h.1 a i) :: st) h nc ns) := rfl
theorem jx_zald {a i : Int} {K : jjP} {ls : List (Option jjV)} {st : List jjV} {h : jjH} {nc : Nat} {ns : Nat} : ji_zald K ls (vI i :: vR a :: st) h nc ns = ((jok h.2 a (-4) ∧ 0 ≤ i ∧ i < jln h.2 a) ∧ K ls (vI (h.1 a i) :: st) h nc ns) := rfl
theorem jx_lald {a i : Int} {K : jjP} {ls : List (Option jjV)} {st : List jjV} {h : jjH} {nc : Nat} {ns : Nat} : ji_lald K ls (vI i :: vR a :: st) h nc ns = ((jok h.2 a (-3) ∧ 0 ≤ i ∧ i < jln h.2 a) ∧ K ls (vL (h.1 a i) :: st) h nc ns) := rfl
theorem jx_aald {cd a i : Int} {K : jjP} {ls : List (Option jjV)} {st : List jjV} {h : jjH} {nc : Nat} {ns : Nat} : ji_aald cd K ls (vI i :: vR a :: st) h nc ns = ((jok h.2 a cd ∧ 0 ≤ i ∧ i < jln h.2 a) ∧ K ls (vR (h.1 a i) :: st) h nc ns) := rfl
theorem jx_iast {a i z : Int} {K : jjP} {ls : List (Option jjV)} {st : List jjV} {h : jjH} {nc : Nat} {ns : Nat} : ji_iast K ls (vI z :: vI i :: vR a :: st) h nc ns = ((jok h.2 a (-1) ∧ 400 ≤ a ∧ 0 ≤ i ∧ i < jln h.2 a) ∧ K ls st (up2 h.1 a i z, h.2) nc ns) := rfl
theorem jx_bast {a i z : Int} {K : jjP} {ls : List (Option jjV)} {st : List jjV} {h : jjH} {nc : Nat} {ns : Nat} : ji_bast K ls (vI z :: vI i :: vR a :: st) h nc ns = ((jok h.2 a (-2) ∧ 400 ≤ a ∧ 0 ≤ i ∧ i < jln h.2 a ∧ (-128 ≤ z ∧ z ≤ 127)) ∧ K ls st (up2 h.1 a i z, h.2) nc ns) := rfl
theorem jx_zast {a i z : Int} {K : jjP} {ls : List (Option jjV)} {st : List jjV} {h : jjH} {nc : Nat} {ns : Nat} : ji_zast K ls (vI z :: vI i :: vR a :: st) h nc ns = ((jok h.2 a (-4) ∧ 400 ≤ a ∧ 0 ≤ i ∧ i < jln h.2 a ∧ (0 ≤ z ∧ z ≤ 1)) ∧ K ls st (up2 h.1 a i z, h.2) nc ns) := rfl
theorem jx_last {a i z : Int} {K : jjP} {ls : List (Option jjV)} {st : List jjV} {h : jjH} {nc : Nat} {ns : Nat} : ji_last K ls (vL z :: vI i :: vR a :: st) h nc ns = ((jok h.2 a (-3) ∧ 400 ≤ a ∧ 0 ≤ i ∧ i < jln h.2 a) ∧ K ls st (up2 h.1 a i z, h.2) nc ns) := rfl
theorem jx_aast {cd a i z : Int} {cs : List Int} {K : jjP} {ls : List (Option jjV)} {st : List jjV} {h : jjH} {nc : Nat} {ns : Nat} : ji_aast cd cs K ls (vR z :: vI i :: vR a :: st) h nc ns = ((jok h.2 a cd ∧ 400 ≤ a ∧ 0 ≤ i ∧ i < jln h.2 a ∧ jisA h.2 z cs) ∧ K ls st (up2 h.1 a i z, h.2) nc ns) := rfl
theorem jx_alen {cd a : Int} {K : jjP} {ls : List (Option jjV)} {st : List jjV} {h : jjH} {nc : Nat} {ns : Nat} : ji_alen cd K ls (vR a :: st) h nc ns = (jok h.2 a cd ∧ K ls (vI (jln h.2 a) :: st) h nc ns) := rfl
theorem jx_new {g : jjG} {d mc ms : Nat} {Q : jjQ} {ci : Int} {N : Nat} {K : jjP} {ls : List (Option jjV)} {st : List jjV} {h : jjH} {nc : Nat} {ns : Nat} : ji_new (g, d, mc, ms, Q) ci N K ls st h nc ns = ((nc + 1 ≤ mc ∧ ns + N ≤ ms) ∧ K ls (vR h.2.2 :: st) (jnew h ci N) (nc + 1) (ns + N)) := rfl
theorem jx_newarr {g : jjG} {d mc ms : Nat} {Q : jjQ} {cd n : Int} {K : jjP} {ls : List (Option jjV)} {st : List jjV} {h : jjH} {nc : Nat} {ns : Nat} : ji_newarr (g, d, mc, ms, Q) cd K ls (vI n :: st) h nc ns = ((0 ≤ n ∧ n ≤ 60000000 ∧ nc + 1 ≤ mc ∧ ns + n.toNat ≤ ms) ∧ K ls (vR h.2.2 :: st) (jnew h cd n) (nc + 1) (ns + n.toNat)) := rfl
theorem jx_multi {g : jjG} {d mc ms : Nat} {Q : jjQ} {n k : Int} {K : jjP} {ls : List (Option jjV)} {st : List jjV} {h : jjH} {nc : Nat} {ns : Nat} : ji_multi (g, d, mc, ms, Q) K ls (vI k :: vI n :: st) h nc ns = ((0 ≤ n ∧ n ≤ 1000 ∧ 0 ≤ k ∧ k ≤ 1000 ∧ nc + 1 + n.toNat ≤ mc ∧ ns + n.toNat + n.toNat * k.toNat ≤ ms) ∧ K ls (vR h.2.2 :: st) (jmulti h n k) (nc + 1 + n.toNat) (ns + n.toNat + n.toNat * k.toNat)) := rfl
theorem jx_cast {cs : List Int} {a : Int} {K : jjP} {ls : List (Option jjV)} {st : List jjV} {h : jjH} {nc : Nat} {ns : Nat} : ji_cast cs K ls (vR a :: st) h nc ns = ((a = 0 ∨ jisA h.2 a cs) ∧ K ls (vR a :: st) h nc ns) := rfl
theorem jx_any {z : Int} {K : jjP} {ls : List (Option jjV)} {st : List jjV} {h : jjH} {nc : Nat} {ns : Nat} : ji_any z K ls st h nc ns = (K ls (vR z :: st) h nc ns ∧ K ls (vR 0 :: st) h nc ns) := rfl
theorem jx_tsw {lo z : Int} {Ks : List jjP} {K : jjP} {ls : List (Option jjV)} {st : List jjV} {h : jjH} {nc : Nat} {ns : Nat} : ji_tsw lo K Ks ls (vI z :: st) h nc ns = (jtsw z ls st h nc ns lo Ks ∧ ((z < lo ∨ lo + (Ks.length : Int) ≤ z) → K ls st h nc ns)) := rfl
theorem jx_lsw {z : Int} {Ks : List (Int × jjP)} {K : jjP} {ls : List (Option jjV)} {st : List jjV} {h : jjH} {nc : Nat} {ns : Nat} : ji_lsw K Ks ls (vI z :: st) h nc ns = jlsw z ls st h nc ns K Ks := rfl
theorem jx_acmp_eq {a b : Int} {K : jjP} {K2 : jjP} {ls : List (Option jjV)} {st : List jjV} {h : jjH} {nc : Nat} {ns : Nat} : ji_acmp_eq K K2 ls (vR b :: vR a :: st) h nc ns = ((a = b ∨ ((a = 0 ∨ 400 ≤ a ∨ b = 0 ∨ 400 ≤ b) ∧ 0 ≤ a ∧ 0 ≤ b ∧ a < h.2.2 ∧ b < h.2.2)) ∧ ((a = b → K ls st h nc ns) ∧ (¬ a = b → K2 ls st h nc ns))) := rfl
theorem jx_acmp_ne {a b : Int} {K : jjP} {K2 : jjP} {ls : List (Option jjV)} {st : List jjV} {h : jjH} {nc : Nat} {ns : Nat} : ji_acmp_ne K K2 ls (vR b :: vR a :: st) h nc ns = ((a = b ∨ ((a = 0 ∨ 400 ≤ a ∨ b = 0 ∨ 400 ≤ b) ∧ 0 ≤ a ∧ 0 ≤ b ∧ a < h.2.2 ∧ b < h.2.2)) ∧ ((¬ a = b → K ls st h nc ns) ∧ (a = b → K2 ls st h nc ns))) := rfl
theorem jx_acopyI {n dp b sp a : Int} {K : jjP} {ls : List (Option jjV)} {st : List jjV} {h : jjH} {nc : Nat} {ns : Nat} : ji_acopyI K ls (vI n :: vI dp :: vR b :: vI sp :: vR a :: st) h nc ns = ((jok h.2 a (-1) ∧ jok h.2 b (-1) ∧ 400 ≤ a ∧ 400 ≤ b ∧ 0 ≤ sp ∧ 0 ≤ dp ∧ 0 ≤ n ∧ sp + n ≤ jln h.2 a ∧ dp + n ≤ jln h.2 b ∧ jwt st ≤ 8) ∧ K ls st (jcpy h a b sp dp n) nc ns) := rfl
theorem jx_acopyT {n dp b sp a : Int} {K : jjP} {ls : List (Option jjV)} {st : List jjV} {h : jjH} {nc : Nat} {ns : Nat} : ji_acopyT K ls (vI n :: vI dp :: vR b :: vI sp :: vR a :: st) h nc ns = ((jok h.2 a (-6) ∧ jok h.2 b (-6) ∧ 400 ≤ a ∧ 400 ≤ b ∧ 0 ≤ sp ∧ 0 ≤ dp ∧ 0 ≤ n ∧ sp + n ≤ jln h.2 a ∧ dp + n ≤ jln h.2 b ∧ jwt st ≤ 8 ∧ ∀ i : Int, 0 ≤ i → i < n → h.1 a (sp + i) = 0 ∨ jok h.2 (h.1 a (sp + i)) 4) ∧ K ls st (jcpy h a b sp dp n) nc ns) := rfl
theorem jx_ireturn {g : jjG} {d mc ms : Nat} {Q : jjQ} {z : Int} {ls : List (Option jjV)} {h : jjH} {nc : Nat} {ns : Nat} : ji_ireturn (g, d, mc, ms, Q) ls [vI z] h nc ns = (nc ≤ mc ∧ ns ≤ ms ∧ Q (.inl (some (vI z))) h) := rfl
theorem jx_zreturn {g : jjG} {d mc ms : Nat} {Q : jjQ} {z : Int} {ls : List (Option jjV)} {h : jjH} {nc : Nat} {ns : Nat} : ji_zreturn (g, d, mc, ms, Q) ls [vI z] h nc ns = ((0 ≤ z ∧ z ≤ 1) ∧ nc ≤ mc ∧ ns ≤ ms ∧ Q (.inl (some (vI z))) h) := rfl
theorem jx_nreturn {g : jjG} {d mc ms : Nat} {Q : jjQ} {z : Int} {ty : FieldType} {ls : List (Option jjV)} {h : jjH} {nc : Nat} {ns : Nat} : ji_nreturn (g, d, mc, ms, Q) ty ls [vI z] h nc ns = (jokf ty z ∧ nc ≤ mc ∧ ns ≤ ms ∧ Q (.inl (some (vI z))) h) := rfl
theorem jx_lreturn {g : jjG} {d mc ms : Nat} {Q : jjQ} {z : Int} {ls : List (Option jjV)} {h : jjH} {nc : Nat} {ns : Nat} : ji_lreturn (g, d, mc, ms, Q) ls [vL z] h nc ns = (nc ≤ mc ∧ ns ≤ ms ∧ Q (.inl (some (vL z))) h) := rfl
theorem jx_areturn {g : jjG} {d mc ms : Nat} {Q : jjQ} {z : Int} {ls : List (Option jjV)} {h : jjH} {nc : Nat} {ns : Nat} : ji_areturn (g, d, mc, ms, Q) ls [vR z] h nc ns = (nc ≤ mc ∧ ns ≤ ms ∧ Q (.inl (some (vR z))) h) := rfl
theorem jx_return {g : jjG} {d mc ms : Nat} {Q : jjQ} {ls : List (Option jjV)} {h : jjH} {nc : Nat} {ns : Nat} : ji_return (g, d, mc, ms, Q) ls [] h nc ns = (nc ≤ mc ∧ ns ≤ ms ∧ Q (.inl none) h) := rfl
theorem jx_athrow {g : jjG} {d mc ms : Nat} {Q : jjQ} {a : Int} {ls : List (Option jjV)} {st : List jjV} {h : jjH} {nc : Nat} {ns : Nat} : ji_athrow (g, d, mc, ms, Q) ls (vR a :: st) h nc ns = ((jok h.2 a 5 ∧ 400 ≤ a) ∧ nc ≤ mc ∧ ns ≤ ms ∧ Q (.inr a) h) := rfl
theorem jx_jend {g : jjG} {d mc ms : Nat} {Q : jjQ} {r : jjR} {h : jjH} {nc : Nat} {ns : Nat} : jend (g, d, mc, ms, Q) r h nc ns = (nc ≤ mc ∧ ns ≤ ms ∧ Q r h) := rfl
theorem jx_callS0 {g : jjG} {d mc ms : Nat} {Q : jjQ} {M : jjM}  {K : jjP} {ls : List (Option jjV)} {st : List jjV} {h : jjH} {nc : Nat} {ns : Nat} : ji_callS (g, d, mc, ms, Q) M 0 K ls (st) h nc ns = (jwt st ≤ 8 ∧ ∃ mc1 ms1 : Nat, (nc + mc1 ≤ mc ∧ ns + ms1 ≤ ms) ∧ jmet g d mc1 ms1 M [] h (jres (g, d, mc, ms, Q) K ls st (nc + mc1) (ns + ms1))) := rfl
theorem jx_callS1 {g : jjG} {d mc ms : Nat} {Q : jjQ} {M : jjM} {v1 : jjV} {K : jjP} {ls : List (Option jjV)} {st : List jjV} {h : jjH} {nc : Nat} {ns : Nat} : ji_callS (g, d, mc, ms, Q) M 1 K ls (v1 :: st) h nc ns = (jwt st ≤ 8 ∧ ∃ mc1 ms1 : Nat, (nc + mc1 ≤ mc ∧ ns + ms1 ≤ ms) ∧ jmet g d mc1 ms1 M [v1] h (jres (g, d, mc, ms, Q) K ls st (nc + mc1) (ns + ms1))) := rfl
theorem jx_callV1 {g : jjG} {d mc ms : Nat} {Q : jjQ} {M : jjM} {a ci : Int}  {K : jjP} {ls : List (Option jjV)} {st : List jjV} {h : jjH} {nc : Nat} {ns : Nat} : ji_callV (g, d, mc, ms, Q) M ci 1 K ls (vR a :: st) h nc ns = (jok h.2 a ci ∧ jwt st ≤ 8 ∧ ∃ mc1 ms1 : Nat, (nc + mc1 ≤ mc ∧ ns + ms1 ≤ ms) ∧ jmet g d mc1 ms1 M [vR a] h (jres (g, d, mc, ms, Q) K ls st (nc + mc1) (ns + ms1))) := rfl
theorem jx_callI1 {g : jjG} {d mc ms : Nat} {Q : jjQ} {M : jjM} {a : Int}  {K : jjP} {ls : List (Option jjV)} {st : List jjV} {h : jjH} {nc : Nat} {ns : Nat} : ji_callI (g, d, mc, ms, Q) M 1 K ls (vR a :: st) h nc ns = (0 < a ∧ jwt st ≤ 8 ∧ ∃ mc1 ms1 : Nat, (nc + mc1 ≤ mc ∧ ns + ms1 ≤ ms) ∧ jmet g d mc1 ms1 M [vR a] h (jres (g, d, mc, ms, Q) K ls st (nc + mc1) (ns + ms1))) := rfl
theorem jx_callS2 {g : jjG} {d mc ms : Nat} {Q : jjQ} {M : jjM} {v1 v2 : jjV} {K : jjP} {ls : List (Option jjV)} {st : List jjV} {h : jjH} {nc : Nat} {ns : Nat} : ji_callS (g, d, mc, ms, Q) M 2 K ls (v2 :: v1 :: st) h nc ns = (jwt st ≤ 8 ∧ ∃ mc1 ms1 : Nat, (nc + mc1 ≤ mc ∧ ns + ms1 ≤ ms) ∧ jmet g d mc1 ms1 M [v1, v2] h (jres (g, d, mc, ms, Q) K ls st (nc + mc1) (ns + ms1))) := rfl
theorem jx_callV2 {g : jjG} {d mc ms : Nat} {Q : jjQ} {M : jjM} {a ci : Int} {v1 : jjV} {K : jjP} {ls : List (Option jjV)} {st : List jjV} {h : jjH} {nc : Nat} {ns : Nat} : ji_callV (g, d, mc, ms, Q) M ci 2 K ls (v1 :: vR a :: st) h nc ns = (jok h.2 a ci ∧ jwt st ≤ 8 ∧ ∃ mc1 ms1 : Nat, (nc + mc1 ≤ mc ∧ ns + ms1 ≤ ms) ∧ jmet g d mc1 ms1 M [vR a, v1] h (jres (g, d, mc, ms, Q) K ls st (nc + mc1) (ns + ms1))) := rfl
theorem jx_callI2 {g : jjG} {d mc ms : Nat} {Q : jjQ} {M : jjM} {a : Int} {v1 : jjV} {K : jjP} {ls : List (Option jjV)} {st : List jjV} {h : jjH} {nc : Nat} {ns : Nat} : ji_callI (g, d, mc, ms, Q) M 2 K ls (v1 :: vR a :: st) h nc ns = (0 < a ∧ jwt st ≤ 8 ∧ ∃ mc1 ms1 : Nat, (nc + mc1 ≤ mc ∧ ns + ms1 ≤ ms) ∧ jmet g d mc1 ms1 M [vR a, v1] h (jres (g, d, mc, ms, Q) K ls st (nc + mc1) (ns + ms1))) := rfl
theorem jx_callS3 {g : jjG} {d mc ms : Nat} {Q : jjQ} {M : jjM} {v1 v2 v3 : jjV} {K : jjP} {ls : List (Option jjV)} {st : List jjV} {h : jjH} {nc : Nat} {ns : Nat} : ji_callS (g, d, mc, ms, Q) M 3 K ls (v3 :: v2 :: v1 :: st) h nc ns = (jwt st ≤ 8 ∧ ∃ mc1 ms1 : Nat, (nc + mc1 ≤ mc ∧ ns + ms1 ≤ ms) ∧ jmet g d mc1 ms1 M [v1, v2, v3] h (jres (g, d, mc, ms, Q) K ls st (nc + mc1) (ns + ms1))) := rfl
theorem jx_callV3 {g : jjG} {d mc ms : Nat} {Q : jjQ} {M : jjM} {a ci : Int} {v1 v2 : jjV} {K : jjP} {ls : List (Option jjV)} {st : List jjV} {h : jjH} {nc : Nat} {ns : Nat} : ji_callV (g, d, mc, ms, Q) M ci 3 K ls (v2 :: v1 :: vR a :: st) h nc ns = (jok h.2 a ci ∧ jwt st ≤ 8 ∧ ∃ mc1 ms1 : Nat, (nc + mc1 ≤ mc ∧ ns + ms1 ≤ ms) ∧ jmet g d mc1 ms1 M [vR a, v1, v2] h (jres (g, d, mc, ms, Q) K ls st (nc + mc1) (ns + ms1))) := rfl
theorem jx_callI3 {g : jjG} {d mc ms : Nat} {Q : jjQ} {M : jjM} {a : Int} {v1 v2 : jjV} {K : jjP} {ls : List (Option jjV)} {st : List jjV} {h : jjH} {nc : Nat} {ns : Nat} : ji_callI (g, d, mc, ms, Q) M 3 K ls (v2 :: v1 :: vR a :: st) h nc ns = (0 < a ∧ jwt st ≤ 8 ∧ ∃ mc1 ms1 : Nat, (nc + mc1 ≤ mc ∧ ns + ms1 ≤ ms) ∧ jmet g d mc1 ms1 M [vR a, v1, v2] h (jres (g, d, mc, ms, Q) K ls st (nc + mc1) (ns + ms1))) := rfl
theorem jx_callS4 {g : jjG} {d mc ms : Nat} {Q : jjQ} {M : jjM} {v1 v2 v3 v4 : jjV} {K : jjP} {ls : List (Option jjV)} {st : List jjV} {h : jjH} {nc : Nat} {ns : Nat} : ji_callS (g, d, mc, ms, Q) M 4 K ls (v4 :: v3 :: v2 :: v1 :: st) h nc ns = (jwt st ≤ 8 ∧ ∃ mc1 ms1 : Nat, (nc + mc1 ≤ mc ∧ ns + ms1 ≤ ms) ∧ jmet g d mc1 ms1 M [v1, v2, v3, v4] h (jres (g, d, mc, ms, Q) K ls st (nc + mc1) (ns + ms1))) := rfl
theorem jx_callV4 {g : jjG} {d mc ms : Nat} {Q : jjQ} {M : jjM} {a ci : Int} {v1 v2 v3 : jjV} {K : jjP} {ls : List (Option jjV)} {st : List jjV} {h : jjH} {nc : Nat} {ns : Nat} : ji_callV (g, d, mc, ms, Q) M ci 4 K ls (v3 :: v2 :: v1 :: vR a :: st) h nc ns = (jok h.2 a ci ∧ jwt st ≤ 8 ∧ ∃ mc1 ms1 : Nat, (nc + mc1 ≤ mc ∧ ns + ms1 ≤ ms) ∧ jmet g d mc1 ms1 M [vR a, v1, v2, v3] h (jres (g, d, mc, ms, Q) K ls st (nc + mc1) (ns + ms1))) := rfl
theorem jx_callI4 {g : jjG} {d mc ms : Nat} {Q : jjQ} {M : jjM} {a : Int} {v1 v2 v3 : jjV} {K : jjP} {ls : List (Option jjV)} {st : List jjV} {h : jjH} {nc : Nat} {ns : Nat} : ji_callI (g, d, mc, ms, Q) M 4 K ls (v3 :: v2 :: v1 :: vR a :: st) h nc ns = (0 < a ∧ jwt st ≤ 8 ∧ ∃ mc1 ms1 : Nat, (nc + mc1 ≤ mc ∧ ns + ms1 ≤ ms) ∧ jmet g d mc1 ms1 M [vR a, v1, v2, v3] h (jres (g, d, mc, ms, Q) K ls st (nc + mc1) (ns + ms1))) := rfl
theorem jx_callS5 {g : jjG} {d mc ms : Nat} {Q : jjQ} {M : jjM} {v1 v2 v3 v4 v5 : jjV} {K : jjP} {ls : List (Option jjV)} {st : List jjV} {h : jjH} {nc : Nat} {ns : Nat} : ji_callS (g, d, mc, ms, Q) M 5 K ls (v5 :: v4 :: v3 :: v2 :: v1 :: st) h nc ns = (jwt st ≤ 8 ∧ ∃ mc1 ms1 : Nat, (nc + mc1 ≤ mc ∧ ns + ms1 ≤ ms) ∧ jmet g d mc1 ms1 M [v1, v2, v3, v4, v5] h (jres (g, d, mc, ms, Q) K ls st (nc + mc1) (ns + ms1))) := rfl
theorem jx_callV5 {g : jjG} {d mc ms : Nat} {Q : jjQ} {M : jjM} {a ci : Int} {v1 v2 v3 v4 : jjV} {K : jjP} {ls : List (Option jjV)} {st : List jjV} {h : jjH} {nc : Nat} {ns : Nat} : ji_callV (g, d, mc, ms, Q) M ci 5 K ls (v4 :: v3 :: v2 :: v1 :: vR a :: st) h nc ns = (jok h.2 a ci ∧ jwt st ≤ 8 ∧ ∃ mc1 ms1 : Nat, (nc + mc1 ≤ mc ∧ ns + ms1 ≤ ms) ∧ jmet g d mc1 ms1 M [vR a, v1, v2, v3, v4] h (jres (g, d, mc, ms, Q) K ls st (nc + mc1) (ns + ms1))) := rfl
theorem jx_callI5 {g : jjG} {d mc ms : Nat} {Q : jjQ} {M : jjM} {a : Int} {v1 v2 v3 v4 : jjV} {K : jjP} {ls : List (Option jjV)} {st : List jjV} {h : jjH} {nc : Nat} {ns : Nat} : ji_callI (g, d, mc, ms, Q) M 5 K ls (v4 :: v3 :: v2 :: v1 :: vR a :: st) h nc ns = (0 < a ∧ jwt st ≤ 8 ∧ ∃ mc1 ms1 : Nat, (nc + mc1 ≤ mc ∧ ns + ms1 ≤ ms) ∧ jmet g d mc1 ms1 M [vR a, v1, v2, v3, v4] h (jres (g, d, mc, ms, Q) K ls st (nc + mc1) (ns + ms1))) := rfl
theorem jx_callS6 {g : jjG} {d mc ms : Nat} {Q : jjQ} {M : jjM} {v1 v2 v3 v4 v5 v6 : jjV} {K : jjP} {ls : List (Option jjV)} {st : List jjV} {h : jjH} {nc : Nat} {ns : Nat} : ji_callS (g, d, mc, ms, Q) M 6 K ls (v6 :: v5 :: v4 :: v3 :: v2 :: v1 :: st) h nc ns = (jwt st ≤ 8 ∧ ∃ mc1 ms1 : Nat, (nc + mc1 ≤ mc ∧ ns + ms1 ≤ ms) ∧ jmet g d mc1 ms1 M [v1, v2, v3, v4, v5, v6] h (jres (g, d, mc, ms, Q) K ls st (nc + mc1) (ns + ms1))) := rfl
theorem jx_callV6 {g : jjG} {d mc ms : Nat} {Q : jjQ} {M : jjM} {a ci : Int} {v1 v2 v3 v4 v5 : jjV} {K : jjP} {ls : List (Option jjV)} {st : List jjV} {h : jjH} {nc : Nat} {ns : Nat} : ji_callV (g, d, mc, ms, Q) M ci 6 K ls (v5 :: v4 :: v3 :: v2 :: v1 :: vR a :: st) h nc ns = (jok h.2 a ci ∧ jwt st ≤ 8 ∧ ∃ mc1 ms1 : Nat, (nc + mc1 ≤ mc ∧ ns + ms1 ≤ ms) ∧ jmet g d mc1 ms1 M [vR a, v1, v2, v3, v4, v5] h (jres (g, d, mc, ms, Q) K ls st (nc + mc1) (ns + ms1))) := rfl
theorem jx_callI6 {g : jjG} {d mc ms : Nat} {Q : jjQ} {M : jjM} {a : Int} {v1 v2 v3 v4 v5 : jjV} {K : jjP} {ls : List (Option jjV)} {st : List jjV} {h : jjH} {nc : Nat} {ns : Nat} : ji_callI (g, d, mc, ms, Q) M 6 K ls (v5 :: v4 :: v3 :: v2 :: v1 :: vR a :: st) h nc ns = (0 < a ∧ jwt st ≤ 8 ∧ ∃ mc1 ms1 : Nat, (nc + mc1 ≤ mc ∧ ns + ms1 ≤ ms) ∧ jmet g d mc1 ms1 M [vR a, v1, v2, v3, v4, v5] h (jres (g, d, mc, ms, Q) K ls st (nc + mc1) (ns + ms1))) := rfl
theorem jx_callF2 {g : jjG} {d mc ms : Nat} {Q : jjQ} {l : List (Int × jjM)} {a : Int} {v1 : jjV} {K : jjP} {ls : List (Option jjV)} {st : List jjV} {h : jjH} {nc : Nat} {ns : Nat} : ji_callF (g, d, mc, ms, Q) l 2 K ls (v1 :: vR a :: st) h nc ns = (jwt st ≤ 8 ∧ ∃ q ∈ l, jok h.2 a q.1 ∧ ∃ mc1 ms1 : Nat, (nc + mc1 ≤ mc ∧ ns + ms1 ≤ ms) ∧ jmet g d mc1 ms1 q.2 [vR a, v1] h (jres (g, d, mc, ms, Q) K ls st (nc + mc1) (ns + ms1))) := rfl
theorem jx_res1 {g : jjG} {d mc ms : Nat} {Q : jjQ} {v : jjV} {K : jjP} {ls : List (Option jjV)} {st : List jjV} {h : jjH} {nc : Nat} {ns : Nat} : jres (g, d, mc, ms, Q) K ls st nc ns (.inl (some v)) h = K ls (v :: st) h nc ns := rfl
theorem jx_res0 {g : jjG} {d mc ms : Nat} {Q : jjQ} {K : jjP} {ls : List (Option jjV)} {st : List jjV} {h : jjH} {nc : Nat} {ns : Nat} : jres (g, d, mc, ms, Q) K ls st nc ns (.inl none) h = K ls st h nc ns := rfl
theorem jx_resx {g : jjG} {d mc ms : Nat} {Q : jjQ} {a : Int} {K : jjP} {ls : List (Option jjV)} {st : List jjV} {h : jjH} {nc : Nat} {ns : Nat} : jres (g, d, mc, ms, Q) K ls st nc ns (.inr a) h = (nc ≤ mc ∧ ns ≤ ms ∧ Q (.inr a) h) := rfl
def jclr1 (a : Option jjV) : Option jjV := match a with
  | some (.inr (.inl _)) => none
  | x => x
theorem jx_clrN  : jclr1 none = none := rfl
theorem jx_clrI {z : Int} : jclr1 (some (vI z)) = some (vI z) := rfl
theorem jx_clrR {z : Int} : jclr1 (some (vR z)) = some (vR z) := rfl
theorem jx_clrL {z : Int} : jclr1 (some (vL z)) = none := rfl
theorem jx_set1_0 {a0 : Option jjV} {ls : List (Option jjV)} {v : jjV} : jset1 (a0 :: ls) 0 v = some v :: ls := rfl
theorem jx_set2_0 {a0 a1 : Option jjV} {ls : List (Option jjV)} {v : jjV} : jset2 (a0 :: a1 :: ls) 0 v = some v :: none :: ls := rfl
theorem jx_set1_1 {a0 a1 : Option jjV} {ls : List (Option jjV)} {v : jjV} : jset1 (a0 :: a1 :: ls) 1 v = jclr1 a0 :: some v :: ls := by
  match a0 with
  | none => rfl
  | some (.inl _) => rfl
  | some (.inr (.inl _)) => rfl
  | some (.inr (.inr _)) => rfl
theorem jx_set2_1 {a0 a1 a2 : Option jjV} {ls : List (Option jjV)} {v : jjV} : jset2 (a0 :: a1 :: a2 :: ls) 1 v = jclr1 a0 :: some v :: none :: ls := by
  match a0 with
  | none => rfl
  | some (.inl _) => rfl
  | some (.inr (.inl _)) => rfl
  | some (.inr (.inr _)) => rfl
theorem jx_set1_2 {a0 a1 a2 : Option jjV} {ls : List (Option jjV)} {v : jjV} : jset1 (a0 :: a1 :: a2 :: ls) 2 v = a0 :: jclr1 a1 :: some v :: ls := by
  match a1 with
  | none => rfl
  | some (.inl _) => rfl
  | some (.inr (.inl _)) => rfl
  | some (.inr (.inr _)) => rfl
theorem jx_set2_2 {a0 a1 a2 a3 : Option jjV} {ls : List (Option jjV)} {v : jjV} : jset2 (a0 :: a1 :: a2 :: a3 :: ls) 2 v = a0 :: jclr1 a1 :: some v :: none :: ls := by
  match a1 with
  | none => rfl
  | some (.inl _) => rfl
  | some (.inr (.inl _)) => rfl
  | some (.inr (.inr _)) => rfl
theorem jx_set1_3 {a0 a1 a2 a3 : Option jjV} {ls : List (Option jjV)} {v : jjV} : jset1 (a0 :: a1 :: a2 :: a3 :: ls) 3 v = a0 :: a1 :: jclr1 a2 :: some v :: ls := by
  match a2 with
  | none => rfl
  | some (.inl _) => rfl
  | some (.inr (.inl _)) => rfl
  | some (.inr (.inr _)) => rfl
theorem jx_set2_3 {a0 a1 a2 a3 a4 : Option jjV} {ls : List (Option jjV)} {v : jjV} : jset2 (a0 :: a1 :: a2 :: a3 :: a4 :: ls) 3 v = a0 :: a1 :: jclr1 a2 :: some v :: none :: ls := by
  match a2 with
  | none => rfl
  | some (.inl _) => rfl
  | some (.inr (.inl _)) => rfl
  | some (.inr (.inr _)) => rfl
theorem jx_set1_4 {a0 a1 a2 a3 a4 : Option jjV} {ls : List (Option jjV)} {v : jjV} : jset1 (a0 :: a1 :: a2 :: a3 :: a4 :: ls) 4 v = a0 :: a1 :: a2 :: jclr1 a3 :: some v :: ls := by
  match a3 with
  | none => rfl
  | some (.inl _) => rfl
  | some (.inr (.inl _)) => rfl
  | some (.inr (.inr _)) => rfl
theorem jx_set2_4 {a0 a1 a2 a3 a4 a5 : Option jjV} {ls : List (Option jjV)} {v : jjV} : jset2 (a0 :: a1 :: a2 :: a3 :: a4 :: a5 :: ls) 4 v = a0 :: a1 :: a2 :: jclr1 a3 :: some v :: none :: ls := by
  match a3 with
  | none => rfl
  | some (.inl _) => rfl
  | some (.inr (.inl _)) => rfl
  | some (.inr (.inr _)) => rfl
theorem jx_set1_5 {a0 a1 a2 a3 a4 a5 : Option jjV} {ls : List (Option jjV)} {v : jjV} : jset1 (a0 :: a1 :: a2 :: a3 :: a4 :: a5 :: ls) 5 v = a0 :: a1 :: a2 :: a3 :: jclr1 a4 :: some v :: ls := by
  match a4 with
  | none => rfl
  | some (.inl _) => rfl
  | some (.inr (.inl _)) => rfl
  | some (.inr (.inr _)) => rfl
theorem jx_set2_5 {a0 a1 a2 a3 a4 a5 a6 : Option jjV} {ls : List (Option jjV)} {v : jjV} : jset2 (a0 :: a1 :: a2 :: a3 :: a4 :: a5 :: a6 :: ls) 5 v = a0 :: a1 :: a2 :: a3 :: jclr1 a4 :: some v :: none :: ls := by
  match a4 with
  | none => rfl
  | some (.inl _) => rfl
  | some (.inr (.inl _)) => rfl
  | some (.inr (.inr _)) => rfl
theorem jx_set1_6 {a0 a1 a2 a3 a4 a5 a6 : Option jjV} {ls : List (Option jjV)} {v : jjV} : jset1 (a0 :: a1 :: a2 :: a3 :: a4 :: a5 :: a6 :: ls) 6 v = a0 :: a1 :: a2 :: a3 :: a4 :: jclr1 a5 :: some v :: ls := by
  match a5 with
  | none => rfl
  | some (.inl _) => rfl
  | some (.inr (.inl _)) => rfl
  | some (.inr (.inr _)) => rfl
theorem jx_set2_6 {a0 a1 a2 a3 a4 a5 a6 a7 : Option jjV} {ls : List (Option jjV)} {v : jjV} : jset2 (a0 :: a1 :: a2 :: a3 :: a4 :: a5 :: a6 :: a7 :: ls) 6 v = a0 :: a1 :: a2 :: a3 :: a4 :: jclr1 a5 :: some v :: none :: ls := by
  match a5 with
  | none => rfl
  | some (.inl _) => rfl
  | some (.inr (.inl _)) => rfl
  | some (.inr (.inr _)) => rfl
theorem jx_set1_7 {a0 a1 a2 a3 a4 a5 a6 a7 : Option jjV} {ls : List (Option jjV)} {v : jjV} : jset1 (a0 :: a1 :: a2 :: a3 :: a4 :: a5 :: a6 :: a7 :: ls) 7 v = a0 :: a1 :: a2 :: a3 :: a4 :: a5 :: jclr1 a6 :: some v :: ls := by
  match a6 with
  | none => rfl
  | some (.inl _) => rfl
  | some (.inr (.inl _)) => rfl
  | some (.inr (.inr _)) => rfl
theorem jx_set2_7 {a0 a1 a2 a3 a4 a5 a6 a7 a8 : Option jjV} {ls : List (Option jjV)} {v : jjV} : jset2 (a0 :: a1 :: a2 :: a3 :: a4 :: a5 :: a6 :: a7 :: a8 :: ls) 7 v = a0 :: a1 :: a2 :: a3 :: a4 :: a5 :: jclr1 a6 :: some v :: none :: ls := by
  match a6 with
  | none => rfl
  | some (.inl _) => rfl
  | some (.inr (.inl _)) => rfl
  | some (.inr (.inr _)) => rfl
theorem jx_set1_8 {a0 a1 a2 a3 a4 a5 a6 a7 a8 : Option jjV} {ls : List (Option jjV)} {v : jjV} : jset1 (a0 :: a1 :: a2 :: a3 :: a4 :: a5 :: a6 :: a7 :: a8 :: ls) 8 v = a0 :: a1 :: a2 :: a3 :: a4 :: a5 :: a6 :: jclr1 a7 :: some v :: ls := by
  match a7 with
  | none => rfl
  | some (.inl _) => rfl
  | some (.inr (.inl _)) => rfl
  | some (.inr (.inr _)) => rfl
theorem jx_set2_8 {a0 a1 a2 a3 a4 a5 a6 a7 a8 a9 : Option jjV} {ls : List (Option jjV)} {v : jjV} : jset2 (a0 :: a1 :: a2 :: a3 :: a4 :: a5 :: a6 :: a7 :: a8 :: a9 :: ls) 8 v = a0 :: a1 :: a2 :: a3 :: a4 :: a5 :: a6 :: jclr1 a7 :: some v :: none :: ls := by
  match a7 with
  | none => rfl
  | some (.inl _) => rfl
  | some (.inr (.inl _)) => rfl
  | some (.inr (.inr _)) => rfl
theorem jx_set1_9 {a0 a1 a2 a3 a4 a5 a6 a7 a8 a9 : Option jjV} {ls : List (Option jjV)} {v : jjV} : jset1 (a0 :: a1 :: a2 :: a3 :: a4 :: a5 :: a6 :: a7 :: a8 :: a9 :: ls) 9 v = a0 :: a1 :: a2 :: a3 :: a4 :: a5 :: a6 :: a7 :: jclr1 a8 :: some v :: ls := by
  match a8 with
  | none => rfl
  | some (.inl _) => rfl
  | some (.inr (.inl _)) => rfl
  | some (.inr (.inr _)) => rfl
theorem jx_set2_9 {a0 a1 a2 a3 a4 a5 a6 a7 a8 a9 a10 : Option jjV} {ls : List (Option jjV)} {v : jjV} : jset2 (a0 :: a1 :: a2 :: a3 :: a4 :: a5 :: a6 :: a7 :: a8 :: a9 :: a10 :: ls) 9 v = a0 :: a1 :: a2 :: a3 :: a4 :: a5 :: a6 :: a7 :: jclr1 a8 :: some v :: none :: ls := by
  match a8 with
  | none => rfl
  | some (.inl _) => rfl
  | some (.inr (.inl _)) => rfl
  | some (.inr (.inr _)) => rfl
theorem jx_set1_10 {a0 a1 a2 a3 a4 a5 a6 a7 a8 a9 a10 : Option jjV} {ls : List (Option jjV)} {v : jjV} : jset1 (a0 :: a1 :: a2 :: a3 :: a4 :: a5 :: a6 :: a7 :: a8 :: a9 :: a10 :: ls) 10 v = a0 :: a1 :: a2 :: a3 :: a4 :: a5 :: a6 :: a7 :: a8 :: jclr1 a9 :: some v :: ls := by
  match a9 with
  | none => rfl
  | some (.inl _) => rfl
  | some (.inr (.inl _)) => rfl
  | some (.inr (.inr _)) => rfl
theorem jx_set2_10 {a0 a1 a2 a3 a4 a5 a6 a7 a8 a9 a10 a11 : Option jjV} {ls : List (Option jjV)} {v : jjV} : jset2 (a0 :: a1 :: a2 :: a3 :: a4 :: a5 :: a6 :: a7 :: a8 :: a9 :: a10 :: a11 :: ls) 10 v = a0 :: a1 :: a2 :: a3 :: a4 :: a5 :: a6 :: a7 :: a8 :: jclr1 a9 :: some v :: none :: ls := by
  match a9 with
  | none => rfl
  | some (.inl _) => rfl
  | some (.inr (.inl _)) => rfl
  | some (.inr (.inr _)) => rfl
theorem jx_set1_11 {a0 a1 a2 a3 a4 a5 a6 a7 a8 a9 a10 a11 : Option jjV} {ls : List (Option jjV)} {v : jjV} : jset1 (a0 :: a1 :: a2 :: a3 :: a4 :: a5 :: a6 :: a7 :: a8 :: a9 :: a10 :: a11 :: ls) 11 v = a0 :: a1 :: a2 :: a3 :: a4 :: a5 :: a6 :: a7 :: a8 :: a9 :: jclr1 a10 :: some v :: ls := by
  match a10 with
  | none => rfl
  | some (.inl _) => rfl
  | some (.inr (.inl _)) => rfl
  | some (.inr (.inr _)) => rfl
theorem jx_set2_11 {a0 a1 a2 a3 a4 a5 a6 a7 a8 a9 a10 a11 a12 : Option jjV} {ls : List (Option jjV)} {v : jjV} : jset2 (a0 :: a1 :: a2 :: a3 :: a4 :: a5 :: a6 :: a7 :: a8 :: a9 :: a10 :: a11 :: a12 :: ls) 11 v = a0 :: a1 :: a2 :: a3 :: a4 :: a5 :: a6 :: a7 :: a8 :: a9 :: jclr1 a10 :: some v :: none :: ls := by
  match a10 with
  | none => rfl
  | some (.inl _) => rfl
  | some (.inr (.inl _)) => rfl
  | some (.inr (.inr _)) => rfl
theorem jx_set1_12 {a0 a1 a2 a3 a4 a5 a6 a7 a8 a9 a10 a11 a12 : Option jjV} {ls : List (Option jjV)} {v : jjV} : jset1 (a0 :: a1 :: a2 :: a3 :: a4 :: a5 :: a6 :: a7 :: a8 :: a9 :: a10 :: a11 :: a12 :: ls) 12 v = a0 :: a1 :: a2 :: a3 :: a4 :: a5 :: a6 :: a7 :: a8 :: a9 :: a10 :: jclr1 a11 :: some v :: ls := by
  match a11 with
  | none => rfl
  | some (.inl _) => rfl
  | some (.inr (.inl _)) => rfl
  | some (.inr (.inr _)) => rfl
theorem jx_set2_12 {a0 a1 a2 a3 a4 a5 a6 a7 a8 a9 a10 a11 a12 a13 : Option jjV} {ls : List (Option jjV)} {v : jjV} : jset2 (a0 :: a1 :: a2 :: a3 :: a4 :: a5 :: a6 :: a7 :: a8 :: a9 :: a10 :: a11 :: a12 :: a13 :: ls) 12 v = a0 :: a1 :: a2 :: a3 :: a4 :: a5 :: a6 :: a7 :: a8 :: a9 :: a10 :: jclr1 a11 :: some v :: none :: ls := by
  match a11 with
  | none => rfl
  | some (.inl _) => rfl
  | some (.inr (.inl _)) => rfl
  | some (.inr (.inr _)) => rfl
theorem jx_set1_13 {a0 a1 a2 a3 a4 a5 a6 a7 a8 a9 a10 a11 a12 a13 : Option jjV} {ls : List (Option jjV)} {v : jjV} : jset1 (a0 :: a1 :: a2 :: a3 :: a4 :: a5 :: a6 :: a7 :: a8 :: a9 :: a10 :: a11 :: a12 :: a13 :: ls) 13 v = a0 :: a1 :: a2 :: a3 :: a4 :: a5 :: a6 :: a7 :: a8 :: a9 :: a10 :: a11 :: jclr1 a12 :: some v :: ls := by
  match a12 with
  | none => rfl
  | some (.inl _) => rfl
  | some (.inr (.inl _)) => rfl
  | some (.inr (.inr _)) => rfl
theorem jx_set2_13 {a0 a1 a2 a3 a4 a5 a6 a7 a8 a9 a10 a11 a12 a13 a14 : Option jjV} {ls : List (Option jjV)} {v : jjV} : jset2 (a0 :: a1 :: a2 :: a3 :: a4 :: a5 :: a6 :: a7 :: a8 :: a9 :: a10 :: a11 :: a12 :: a13 :: a14 :: ls) 13 v = a0 :: a1 :: a2 :: a3 :: a4 :: a5 :: a6 :: a7 :: a8 :: a9 :: a10 :: a11 :: jclr1 a12 :: some v :: none :: ls := by
  match a12 with
  | none => rfl
  | some (.inl _) => rfl
  | some (.inr (.inl _)) => rfl
  | some (.inr (.inr _)) => rfl
theorem jx_wt0  : jwt [] = 0 := by
  unfold jwt
  simp
theorem jx_wtI {z : Int} {st : List jjV} : jwt (vI z :: st) = 1 + jwt st := by
  unfold jwt
  simp
theorem jx_wtR {z : Int} {st : List jjV} : jwt (vR z :: st) = 1 + jwt st := by
  unfold jwt
  simp
theorem jx_wtL {z : Int} {st : List jjV} : jwt (vL z :: st) = 2 + jwt st := by
  unfold jwt
  simp
/-- truth as a number -/
def jb (P : Prop) [Decidable P] : Int := if P then 1 else 0
theorem jb_eq0 {P : Prop} [Decidable P] : (jb P = 0) = ¬ P := by
  unfold jb
  by_cases h : P <;> simp [h]
theorem jb_ne0 {P : Prop} [Decidable P] : (¬ jb P = 0) = P := by
  unfold jb
  by_cases h : P <;> simp [h]
theorem jb_eq1 {P : Prop} [Decidable P] : (jb P = 1) = P := by
  unfold jb
  by_cases h : P <;> simp [h]
theorem jb_in {P : Prop} [Decidable P] : inI (jb P) := by
  unfold jb inI
  split <;> omega
theorem jb_01 {P : Prop} [Decidable P] : 0 ≤ jb P ∧ jb P ≤ 1 := by
  unfold jb
  split <;> omega
theorem jb_t {P : Prop} [Decidable P] (h : P) : jb P = 1 := if_pos h
theorem jb_f {P : Prop} [Decidable P] (h : ¬ P) : jb P = 0 := if_neg h
