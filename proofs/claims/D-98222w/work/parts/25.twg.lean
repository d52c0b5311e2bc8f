/-! ===== the reference: thick, full, pushes ===== -/
set_option maxRecDepth 100000
def nmO (N A : Int → Int) (b : Int) : Int → Int := up1 (up1 (up1 (up1 (up1 (up1 N 0 b) 1 (A (46 + 6 * b + 0))) 2 (A (46 + 6 * b + 1))) 3 (A (46 + 6 * b + 2))) 4 (A (46 + 6 * b + 3))) 5 (A 2)
def nmP (N A : Int → Int) (b o r : Int) : Int → Int := up1 (up1 (up1 (up1 (up1 (up1 (nmO N A b) 6 r) 7 o) 8 (A (46 + 6 * o + 0))) 9 (A (46 + 6 * o + 1))) 10 (A (46 + 6 * o + 2))) 11 (A (46 + 6 * o + 3))
def EV (N : Int → Int) (c : List (Int × Int)) : Int := match rpn N c ([], []) with
  | some ([z], _) => z
  | _ => 0
def ET (N : Int → Int) (c : List (Int × Int)) : Int := match rpn N c ([], []) with
  | some (_, [b]) => b
  | _ => 0
def cl9 (z : Int) : Int := if z < 0 then 0 else if 9 < z then 9 else z
/-- how thick a book is now; how full a shelf -/
def thA (A X : Int → Int) (b : Int) : Int := A (46 + 6 * b + 2) + (if A 2 = 1 ∧ 0 ≤ clA A X 2 0 then cl9 (EV (nmO (fun _ => 0) A b) (tcode X (A 6) (clA A X 2 0))) else 0)
def fuF (A X : Int → Int) (s : Int) : Nat → Int
  | 0 => 0
  | n + 1 => fuF A X s n + thA A X (A (16 + 10 * s + n))
def fuA (A X : Int → Int) (s : Int) : Int := fuF A X s (A (13 + s)).toNat
/-- whether a book by some law would push another one; by its own -/
def pbA (A X : Int → Int) (la b o r : Int) : Int := if clA A X 0 la < 0 then 0 else ET (nmP (fun _ => 0) A b o r) (tcode X (A 6) (clA A X 0 la))
def dpA (A X : Int → Int) (b o r : Int) : Int := pbA A X (A (46 + 6 * b + 4)) b o r
def dcA (A X : Int → Int) (l r : Int) : Int := jb (needA A X ≤ (if dpA A X l r 1 = 0 then 0 else 1) + (if dpA A X r l 0 = 0 then 0 else 1))
theorem cl9_bd (z : Int) : 0 ≤ cl9 z ∧ cl9 z ≤ 9 := by
  unfold cl9
  repeat' split
  all_goals omega
theorem nmO_ag {N N' A : Int → Int} {b so : Int} (hs : so = 2) : ∀ j, allow so j → nmO N A b j = nmO N' A b j := by
  intro j hj
  unfold allow at hj
  have : j = 0 ∨ j = 1 ∨ j = 2 ∨ j = 3 ∨ j = 4 ∨ j = 5 := by omega
  unfold nmO
  rcases this with rfl | rfl | rfl | rfl | rfl | rfl <;> rfl
theorem nmP_ag {N N' A : Int → Int} {b o r so : Int} (hs : so = 0) : ∀ j, allow so j → nmP N A b o r j = nmP N' A b o r j := by
  intro j hj
  unfold allow at hj
  have : j = 0 ∨ j = 1 ∨ j = 2 ∨ j = 3 ∨ j = 4 ∨ j = 5 ∨ j = 6 ∨ j = 7 ∨ j = 8 ∨ j = 9 ∨ j = 10 ∨ j = 11 := by omega
  unfold nmP nmO
  rcases this with rfl | rfl | rfl | rfl | rfl | rfl | rfl | rfl | rfl | rfl | rfl | rfl <;> rfl
theorem nmO_bd {N A : Int → Int} {b : Int} (hA : TB A) (hb : 0 ≤ b ∧ b < 10) : ∀ j, allow 2 j → -1000000 ≤ nmO N A b j ∧ nmO N A b j ≤ 1000000 := by
  intro j hj
  obtain ⟨-, h2, -, -, -, -, h⟩ := hA
  unfold allow at hj
  have : j = 0 ∨ j = 1 ∨ j = 2 ∨ j = 3 ∨ j = 4 ∨ j = 5 := by omega
  have a0 := h (46 + 6 * b + 0) (by omega) (by omega)
  have a1 := h (46 + 6 * b + 1) (by omega) (by omega)
  have a2 := h (46 + 6 * b + 2) (by omega) (by omega)
  have a3 := h (46 + 6 * b + 3) (by omega) (by omega)
  rcases this with rfl | rfl | rfl | rfl | rfl | rfl
  · show -1000000 ≤ b ∧ b ≤ 1000000
    omega
  · show -1000000 ≤ A (46 + 6 * b + 0) ∧ A (46 + 6 * b + 0) ≤ 1000000
    omega
  · show -1000000 ≤ A (46 + 6 * b + 1) ∧ A (46 + 6 * b + 1) ≤ 1000000
    omega
  · show -1000000 ≤ A (46 + 6 * b + 2) ∧ A (46 + 6 * b + 2) ≤ 1000000
    omega
  · show -1000000 ≤ A (46 + 6 * b + 3) ∧ A (46 + 6 * b + 3) ≤ 1000000
    omega
  · show -1000000 ≤ A 2 ∧ A 2 ≤ 1000000
    omega
theorem nmP_bd {N A : Int → Int} {b o r : Int} (hA : TB A) (hb : 0 ≤ b ∧ b < 10) (ho : 0 ≤ o ∧ o < 10) (hr : 0 ≤ r ∧ r ≤ 1) : ∀ j, allow 0 j → -1000000 ≤ nmP N A b o r j ∧ nmP N A b o r j ≤ 1000000 := by
  intro j hj
  have hO := nmO_bd (N := N) hA hb
  obtain ⟨-, h2, -, -, -, -, h⟩ := hA
  unfold allow at hj
  by_cases q : j ≤ 5
  · have := hO j ⟨hj.1, Or.inl q⟩
    unfold nmP
    rwa [up1_ne (by omega), up1_ne (by omega), up1_ne (by omega), up1_ne (by omega), up1_ne (by omega), up1_ne (by omega)]
  have : j = 6 ∨ j = 7 ∨ j = 8 ∨ j = 9 ∨ j = 10 ∨ j = 11 := by omega
  have a0 := h (46 + 6 * o + 0) (by omega) (by omega)
  have a1 := h (46 + 6 * o + 1) (by omega) (by omega)
  have a2 := h (46 + 6 * o + 2) (by omega) (by omega)
  have a3 := h (46 + 6 * o + 3) (by omega) (by omega)
  rcases this with rfl | rfl | rfl | rfl | rfl | rfl
  · show -1000000 ≤ r ∧ r ≤ 1000000
    omega
  · show -1000000 ≤ o ∧ o ≤ 1000000
    omega
  · show -1000000 ≤ A (46 + 6 * o + 0) ∧ A (46 + 6 * o + 0) ≤ 1000000
    omega
  · show -1000000 ≤ A (46 + 6 * o + 1) ∧ A (46 + 6 * o + 1) ≤ 1000000
    omega
  · show -1000000 ≤ A (46 + 6 * o + 2) ∧ A (46 + 6 * o + 2) ≤ 1000000
    omega
  · show -1000000 ≤ A (46 + 6 * o + 3) ∧ A (46 + 6 * o + 3) ≤ 1000000
    omega
section TG
variable {g : jjG} {d : Nat} {T : jjT} {Q : jjQ}
theorem tw_name {v : Int → Int → Int} {b : Int} (hT : PT T) (hV : PV v) (hS : 0 ≤ b ∧ b < 10) (hQ : Q (.inl none) (upA v 545 (nmO (v 545) (v 540) b), T)) : jmet g (d + 2) 0 0 MX2_name [vR 539, vI b] (v, T) Q := by
  refine jmet_of (ls := [some (vR 539), some (vI b), none]) sX2_name rfl (by decide +kernel) (by decide) rfl (by simp [jent]) ?_
  refine jW_step ?_
  simp (disch := (first | decide | omega)) only [bX2_name, jxs, hps, jtsw, jlsw, List.length_cons, List.length_nil, true_and, and_true, true_implies, false_implies, implies_true, not_true_eq_false, not_false_eq_true, false_and, and_false, if_true, if_false, or_true, true_or, or_false, false_or, Classical.not_not, and_self, Int.reduceAdd, Int.reduceMul, Int.reduceSub, Int.reduceNeg, Int.reduceLT, Int.reduceLE, Int.reduceEq, Int.reduceNe, Int.reduceToNat, Nat.reduceAdd, Nat.reduceMul, Nat.reduceSub, Nat.reduceLeDiff, Nat.reduceLT, Nat.reduceEqDiff, reduceIte, Nat.zero_le, Nat.le_refl, Nat.add_zero, Nat.zero_add, twT hT, twV hV]
  (repeat (refine And.intro (by (first | omega | assumption | trivial | (simp only [inI]; omega) | (simp only [inL]; omega) | (refine jb_01) | (exact jb_in))) ?_))
  refine jW_step ?_
  simp (disch := (first | decide | omega)) only [bX2_name, jxs, hps, jtsw, jlsw, List.length_cons, List.length_nil, true_and, and_true, true_implies, false_implies, implies_true, not_true_eq_false, not_false_eq_true, false_and, and_false, if_true, if_false, or_true, true_or, or_false, false_or, Classical.not_not, and_self, Int.reduceAdd, Int.reduceMul, Int.reduceSub, Int.reduceNeg, Int.reduceLT, Int.reduceLE, Int.reduceEq, Int.reduceNe, Int.reduceToNat, Nat.reduceAdd, Nat.reduceMul, Nat.reduceSub, Nat.reduceLeDiff, Nat.reduceLT, Nat.reduceEqDiff, reduceIte, Nat.zero_le, Nat.le_refl, Nat.add_zero, Nat.zero_add, twT hT, twV hV]
  (repeat (refine And.intro (by (first | omega | assumption | trivial | (simp only [inI]; omega) | (simp only [inL]; omega) | (refine jb_01) | (exact jb_in))) ?_))
  refine ⟨0, 0, ⟨by omega, by omega⟩, tw_get hT (by (first | assumption | (repeat (first | assumption | refine PV.A ?_ (by decide) | refine PV.F ?_ ?_ | refine twR.up ?_ (by decide) | refine PV.r ?_)))) (by (first | omega | assumption | trivial | (simp only [inI]; omega) | (simp only [inL]; omega) | (refine jb_01) | (exact jb_in))) ?_⟩
  simp (disch := (first | decide | omega)) only [jxs, hps, jtsw, jlsw, List.length_cons, List.length_nil, true_and, and_true, true_implies, false_implies, implies_true, not_true_eq_false, not_false_eq_true, false_and, and_false, if_true, if_false, or_true, true_or, or_false, false_or, Classical.not_not, and_self, Int.reduceAdd, Int.reduceMul, Int.reduceSub, Int.reduceNeg, Int.reduceLT, Int.reduceLE, Int.reduceEq, Int.reduceNe, Int.reduceToNat, Nat.reduceAdd, Nat.reduceMul, Nat.reduceSub, Nat.reduceLeDiff, Nat.reduceLT, Nat.reduceEqDiff, reduceIte, Nat.zero_le, Nat.le_refl, Nat.add_zero, Nat.zero_add, twT hT, twV hV]
  (repeat (refine And.intro (by (first | omega | assumption | trivial | (simp only [inI]; omega) | (simp only [inL]; omega) | (refine jb_01) | (exact jb_in))) ?_))
  refine jW_step ?_
  simp (disch := (first | decide | omega)) only [bX2_name, jxs, hps, jtsw, jlsw, List.length_cons, List.length_nil, true_and, and_true, true_implies, false_implies, implies_true, not_true_eq_false, not_false_eq_true, false_and, and_false, if_true, if_false, or_true, true_or, or_false, false_or, Classical.not_not, and_self, Int.reduceAdd, Int.reduceMul, Int.reduceSub, Int.reduceNeg, Int.reduceLT, Int.reduceLE, Int.reduceEq, Int.reduceNe, Int.reduceToNat, Nat.reduceAdd, Nat.reduceMul, Nat.reduceSub, Nat.reduceLeDiff, Nat.reduceLT, Nat.reduceEqDiff, reduceIte, Nat.zero_le, Nat.le_refl, Nat.add_zero, Nat.zero_add, twT hT, twV hV]
  (repeat (refine And.intro (by (first | omega | assumption | trivial | (simp only [inI]; omega) | (simp only [inL]; omega) | (refine jb_01) | (exact jb_in))) ?_))
  refine ⟨0, 0, ⟨by omega, by omega⟩, tw_get hT (by (first | assumption | (repeat (first | assumption | refine PV.A ?_ (by decide) | refine PV.F ?_ ?_ | refine twR.up ?_ (by decide) | refine PV.r ?_)))) (by (first | omega | assumption | trivial | (simp only [inI]; omega) | (simp only [inL]; omega) | (refine jb_01) | (exact jb_in))) ?_⟩
  simp (disch := (first | decide | omega)) only [jxs, hps, jtsw, jlsw, List.length_cons, List.length_nil, true_and, and_true, true_implies, false_implies, implies_true, not_true_eq_false, not_false_eq_true, false_and, and_false, if_true, if_false, or_true, true_or, or_false, false_or, Classical.not_not, and_self, Int.reduceAdd, Int.reduceMul, Int.reduceSub, Int.reduceNeg, Int.reduceLT, Int.reduceLE, Int.reduceEq, Int.reduceNe, Int.reduceToNat, Nat.reduceAdd, Nat.reduceMul, Nat.reduceSub, Nat.reduceLeDiff, Nat.reduceLT, Nat.reduceEqDiff, reduceIte, Nat.zero_le, Nat.le_refl, Nat.add_zero, Nat.zero_add, twT hT, twV hV]
  (repeat (refine And.intro (by (first | omega | assumption | trivial | (simp only [inI]; omega) | (simp only [inL]; omega) | (refine jb_01) | (exact jb_in))) ?_))
  refine jW_step ?_
  simp (disch := (first | decide | omega)) only [bX2_name, jxs, hps, jtsw, jlsw, List.length_cons, List.length_nil, true_and, and_true, true_implies, false_implies, implies_true, not_true_eq_false, not_false_eq_true, false_and, and_false, if_true, if_false, or_true, true_or, or_false, false_or, Classical.not_not, and_self, Int.reduceAdd, Int.reduceMul, Int.reduceSub, Int.reduceNeg, Int.reduceLT, Int.reduceLE, Int.reduceEq, Int.reduceNe, Int.reduceToNat, Nat.reduceAdd, Nat.reduceMul, Nat.reduceSub, Nat.reduceLeDiff, Nat.reduceLT, Nat.reduceEqDiff, reduceIte, Nat.zero_le, Nat.le_refl, Nat.add_zero, Nat.zero_add, twT hT, twV hV]
  (repeat (refine And.intro (by (first | omega | assumption | trivial | (simp only [inI]; omega) | (simp only [inL]; omega) | (refine jb_01) | (exact jb_in))) ?_))
  refine ⟨0, 0, ⟨by omega, by omega⟩, tw_get hT (by (first | assumption | (repeat (first | assumption | refine PV.A ?_ (by decide) | refine PV.F ?_ ?_ | refine twR.up ?_ (by decide) | refine PV.r ?_)))) (by (first | omega | assumption | trivial | (simp only [inI]; omega) | (simp only [inL]; omega) | (refine jb_01) | (exact jb_in))) ?_⟩
  simp (disch := (first | decide | omega)) only [jxs, hps, jtsw, jlsw, List.length_cons, List.length_nil, true_and, and_true, true_implies, false_implies, implies_true, not_true_eq_false, not_false_eq_true, false_and, and_false, if_true, if_false, or_true, true_or, or_false, false_or, Classical.not_not, and_self, Int.reduceAdd, Int.reduceMul, Int.reduceSub, Int.reduceNeg, Int.reduceLT, Int.reduceLE, Int.reduceEq, Int.reduceNe, Int.reduceToNat, Nat.reduceAdd, Nat.reduceMul, Nat.reduceSub, Nat.reduceLeDiff, Nat.reduceLT, Nat.reduceEqDiff, reduceIte, Nat.zero_le, Nat.le_refl, Nat.add_zero, Nat.zero_add, twT hT, twV hV]
  (repeat (refine And.intro (by (first | omega | assumption | trivial | (simp only [inI]; omega) | (simp only [inL]; omega) | (refine jb_01) | (exact jb_in))) ?_))
  refine jW_step ?_
  simp (disch := (first | decide | omega)) only [bX2_name, jxs, hps, jtsw, jlsw, List.length_cons, List.length_nil, true_and, and_true, true_implies, false_implies, implies_true, not_true_eq_false, not_false_eq_true, false_and, and_false, if_true, if_false, or_true, true_or, or_false, false_or, Classical.not_not, and_self, Int.reduceAdd, Int.reduceMul, Int.reduceSub, Int.reduceNeg, Int.reduceLT, Int.reduceLE, Int.reduceEq, Int.reduceNe, Int.reduceToNat, Nat.reduceAdd, Nat.reduceMul, Nat.reduceSub, Nat.reduceLeDiff, Nat.reduceLT, Nat.reduceEqDiff, reduceIte, Nat.zero_le, Nat.le_refl, Nat.add_zero, Nat.zero_add, twT hT, twV hV]
  (repeat (refine And.intro (by (first | omega | assumption | trivial | (simp only [inI]; omega) | (simp only [inL]; omega) | (refine jb_01) | (exact jb_in))) ?_))
  refine ⟨0, 0, ⟨by omega, by omega⟩, tw_get hT (by (first | assumption | (repeat (first | assumption | refine PV.A ?_ (by decide) | refine PV.F ?_ ?_ | refine twR.up ?_ (by decide) | refine PV.r ?_)))) (by (first | omega | assumption | trivial | (simp only [inI]; omega) | (simp only [inL]; omega) | (refine jb_01) | (exact jb_in))) ?_⟩
  simp (disch := (first | decide | omega)) only [jxs, hps, jtsw, jlsw, List.length_cons, List.length_nil, true_and, and_true, true_implies, false_implies, implies_true, not_true_eq_false, not_false_eq_true, false_and, and_false, if_true, if_false, or_true, true_or, or_false, false_or, Classical.not_not, and_self, Int.reduceAdd, Int.reduceMul, Int.reduceSub, Int.reduceNeg, Int.reduceLT, Int.reduceLE, Int.reduceEq, Int.reduceNe, Int.reduceToNat, Nat.reduceAdd, Nat.reduceMul, Nat.reduceSub, Nat.reduceLeDiff, Nat.reduceLT, Nat.reduceEqDiff, reduceIte, Nat.zero_le, Nat.le_refl, Nat.add_zero, Nat.zero_add, twT hT, twV hV]
  (repeat (refine And.intro (by (first | omega | assumption | trivial | (simp only [inI]; omega) | (simp only [inL]; omega) | (refine jb_01) | (exact jb_in))) ?_))
  refine jW_step ?_
  simp (disch := (first | decide | omega)) only [bX2_name, jxs, hps, jtsw, jlsw, List.length_cons, List.length_nil, true_and, and_true, true_implies, false_implies, implies_true, not_true_eq_false, not_false_eq_true, false_and, and_false, if_true, if_false, or_true, true_or, or_false, false_or, Classical.not_not, and_self, Int.reduceAdd, Int.reduceMul, Int.reduceSub, Int.reduceNeg, Int.reduceLT, Int.reduceLE, Int.reduceEq, Int.reduceNe, Int.reduceToNat, Nat.reduceAdd, Nat.reduceMul, Nat.reduceSub, Nat.reduceLeDiff, Nat.reduceLT, Nat.reduceEqDiff, reduceIte, Nat.zero_le, Nat.le_refl, Nat.add_zero, Nat.zero_add, twT hT, twV hV]
  (repeat (refine And.intro (by (first | omega | assumption | trivial | (simp only [inI]; omega) | (simp only [inL]; omega) | (refine jb_01) | (exact jb_in))) ?_))
  exact hQ
theorem tw_thickNow {v : Int → Int → Int} {b : Int} (hT : PT T) (hV : PV v) (hS : TE v ∧ 0 ≤ b ∧ b < 10) (hQ : ∀ w, jk v w → Q (.inl (some (vI (thA (v 540) (v 542) b)))) (w, T)) : jmet g (d + 4) 0 0 MX2_thickNow [vR 539, vI b] (v, T) Q := by
  obtain ⟨hE, hb⟩ := hS
  have hA := hE.1
  have ha2 := hA.2.2.2.2.2.2 (46 + 6 * b + 2) (by omega) (by omega)
  unfold thA at hQ
  refine jmet_of (ls := [some (vR 539), some (vI b), none]) sX2_thickNow rfl (by decide +kernel) (by decide) rfl (by simp [jent]) ?_
  have none : (∀ z : Int, z < 0 → ¬ (v 540 2 = 1 ∧ 0 ≤ clA (v 540) (v 542) 2 0) → jW bX2_thickNow (g, d + 3, 0, 0, Q) 1 [some (vR 539), some (vI b), none] [vI z] (v, T) 0 0) := by
    intro z hz hn
    have hq := hQ v jk.rf
    rw [if_neg hn] at hq
    refine jW_step ?_
    simp (disch := (first | decide | omega)) only [bX2_thickNow, jxs, hps, jtsw, jlsw, List.length_cons, List.length_nil, true_and, and_true, true_implies, false_implies, implies_true, not_true_eq_false, not_false_eq_true, false_and, and_false, if_true, if_false, or_true, true_or, or_false, false_or, Classical.not_not, and_self, Int.reduceAdd, Int.reduceMul, Int.reduceSub, Int.reduceNeg, Int.reduceLT, Int.reduceLE, Int.reduceEq, Int.reduceNe, Int.reduceToNat, Nat.reduceAdd, Nat.reduceMul, Nat.reduceSub, Nat.reduceLeDiff, Nat.reduceLT, Nat.reduceEqDiff, reduceIte, Nat.zero_le, Nat.le_refl, Nat.add_zero, Nat.zero_add, twT hT, twV hV]
    (first | refine ⟨fun h9 => (by exfalso; omega), fun _ => ?_⟩ | intro _)
    (repeat (refine And.intro (by (first | omega | assumption | trivial | (simp only [inI]; omega) | (simp only [inL]; omega) | (refine jb_01) | (exact jb_in))) ?_))
    refine ⟨0, 0, ⟨by omega, by omega⟩, tw_get hT (by (first | assumption | (repeat (first | assumption | refine PV.A ?_ (by decide) | refine PV.F ?_ ?_ | refine twR.up ?_ (by decide) | refine PV.r ?_)))) (by (first | omega | assumption | trivial | (simp only [inI]; omega) | (simp only [inL]; omega) | (refine jb_01) | (exact jb_in))) ?_⟩
    simp (disch := (first | decide | omega)) only [jxs, hps, jtsw, jlsw, List.length_cons, List.length_nil, true_and, and_true, true_implies, false_implies, implies_true, not_true_eq_false, not_false_eq_true, false_and, and_false, if_true, if_false, or_true, true_or, or_false, false_or, Classical.not_not, and_self, Int.reduceAdd, Int.reduceMul, Int.reduceSub, Int.reduceNeg, Int.reduceLT, Int.reduceLE, Int.reduceEq, Int.reduceNe, Int.reduceToNat, Nat.reduceAdd, Nat.reduceMul, Nat.reduceSub, Nat.reduceLeDiff, Nat.reduceLT, Nat.reduceEqDiff, reduceIte, Nat.zero_le, Nat.le_refl, Nat.add_zero, Nat.zero_add, twT hT, twV hV]
    (repeat (refine And.intro (by (first | omega | assumption | trivial | (simp only [inI]; omega) | (simp only [inL]; omega) | (refine jb_01) | (exact jb_in))) ?_))
    rwa [Int.add_zero] at hq
  refine jW_step ?_
  simp (disch := (first | decide | omega)) only [bX2_thickNow, jxs, hps, jtsw, jlsw, List.length_cons, List.length_nil, true_and, and_true, true_implies, false_implies, implies_true, not_true_eq_false, not_false_eq_true, false_and, and_false, if_true, if_false, or_true, true_or, or_false, false_or, Classical.not_not, and_self, Int.reduceAdd, Int.reduceMul, Int.reduceSub, Int.reduceNeg, Int.reduceLT, Int.reduceLE, Int.reduceEq, Int.reduceNe, Int.reduceToNat, Nat.reduceAdd, Nat.reduceMul, Nat.reduceSub, Nat.reduceLeDiff, Nat.reduceLT, Nat.reduceEqDiff, reduceIte, Nat.zero_le, Nat.le_refl, Nat.add_zero, Nat.zero_add, twT hT, twV hV]
  (repeat (refine And.intro (by (first | omega | assumption | trivial | (simp only [inI]; omega) | (simp only [inL]; omega) | (refine jb_01) | (exact jb_in))) ?_))
  refine ⟨fun h => ?_, fun h => ?_⟩
  · exact none (-1) (by omega) (fun q => h q.1)
  · (repeat (refine And.intro (by (first | omega | assumption | trivial | (simp only [inI]; omega) | (simp only [inL]; omega) | (refine jb_01) | (exact jb_in))) ?_))
    refine ⟨0, 0, ⟨by omega, by omega⟩, tw_clauseOf hT (by (first | assumption | (repeat (first | assumption | refine PV.A ?_ (by decide) | refine PV.F ?_ ?_ | refine twR.up ?_ (by decide) | refine PV.r ?_)))) (by (first | omega | assumption | trivial | (simp only [inI]; omega) | (simp only [inL]; omega) | (refine jb_01) | (exact jb_in))) ?_⟩
    simp (disch := (first | decide | omega)) only [jxs, hps, jtsw, jlsw, List.length_cons, List.length_nil, true_and, and_true, true_implies, false_implies, implies_true, not_true_eq_false, not_false_eq_true, false_and, and_false, if_true, if_false, or_true, true_or, or_false, false_or, Classical.not_not, and_self, Int.reduceAdd, Int.reduceMul, Int.reduceSub, Int.reduceNeg, Int.reduceLT, Int.reduceLE, Int.reduceEq, Int.reduceNe, Int.reduceToNat, Nat.reduceAdd, Nat.reduceMul, Nat.reduceSub, Nat.reduceLeDiff, Nat.reduceLT, Nat.reduceEqDiff, reduceIte, Nat.zero_le, Nat.le_refl, Nat.add_zero, Nat.zero_add, twT hT, twV hV]
    by_cases hc : 0 ≤ clA (v 540) (v 542) 2 0
    · have hcl := clA_in hE hc
      rw [if_pos ⟨h, hc⟩] at hQ
      generalize clA (v 540) (v 542) 2 0 = k at *
      have h2 := hcl.2.2.1
      obtain ⟨z, hz⟩ := hcl.2.2.2.2.2.2.1 h2 (nmO (fun _ => 0) (v 540) b)
      have hok := (hcl.2.2.2.2.1 (by omega)).2
      have e : EV (nmO (fun _ => 0) (v 540) b) (tcode (v 542) (v 540 6) k) = z := by unfold EV; rw [hz]
      rw [e] at hQ
      have hz2 : rpn (nmO (v 545) (v 540) b) (tcode (v 542) (v 540 6) k) ([], []) = some ([z], []) := by
        rw [← hz]
        exact rpn_congr (nmO_ag h2) _ _ hok
      refine jW_step ?_
      simp (disch := (first | decide | omega)) only [bX2_thickNow, jxs, hps, jtsw, jlsw, List.length_cons, List.length_nil, true_and, and_true, true_implies, false_implies, implies_true, not_true_eq_false, not_false_eq_true, false_and, and_false, if_true, if_false, or_true, true_or, or_false, false_or, Classical.not_not, and_self, Int.reduceAdd, Int.reduceMul, Int.reduceSub, Int.reduceNeg, Int.reduceLT, Int.reduceLE, Int.reduceEq, Int.reduceNe, Int.reduceToNat, Nat.reduceAdd, Nat.reduceMul, Nat.reduceSub, Nat.reduceLeDiff, Nat.reduceLT, Nat.reduceEqDiff, reduceIte, Nat.zero_le, Nat.le_refl, Nat.add_zero, Nat.zero_add, twT hT, twV hV]
      (try refine ⟨fun _ => ?_, fun h9 => (by exfalso; omega)⟩)
      (repeat (refine And.intro (by (first | omega | assumption | trivial | (simp only [inI]; omega) | (simp only [inL]; omega) | (refine jb_01) | (exact jb_in))) ?_))
      refine ⟨0, 0, ⟨by omega, by omega⟩, tw_name hT (by (first | assumption | (repeat (first | assumption | refine PV.A ?_ (by decide) | refine PV.F ?_ ?_ | refine twR.up ?_ (by decide) | refine PV.r ?_)))) (by (first | omega | assumption | trivial | (simp only [inI]; omega) | (simp only [inL]; omega) | (refine jb_01) | (exact jb_in))) ?_⟩
      simp (disch := (first | decide | omega)) only [jxs, hps, jtsw, jlsw, List.length_cons, List.length_nil, true_and, and_true, true_implies, false_implies, implies_true, not_true_eq_false, not_false_eq_true, false_and, and_false, if_true, if_false, or_true, true_or, or_false, false_or, Classical.not_not, and_self, Int.reduceAdd, Int.reduceMul, Int.reduceSub, Int.reduceNeg, Int.reduceLT, Int.reduceLE, Int.reduceEq, Int.reduceNe, Int.reduceToNat, Nat.reduceAdd, Nat.reduceMul, Nat.reduceSub, Nat.reduceLeDiff, Nat.reduceLT, Nat.reduceEqDiff, reduceIte, Nat.zero_le, Nat.le_refl, Nat.add_zero, Nat.zero_add, twT hT, twV hV]
      (repeat (refine And.intro (by (first | omega | assumption | trivial | (simp only [inI]; omega) | (simp only [inL]; omega) | (refine jb_01) | (exact jb_in))) ?_))
      refine ⟨0, 0, ⟨by omega, by omega⟩, tw_work (s' := ([z], [])) hT (by (first | assumption | (repeat (first | assumption | refine PV.A ?_ (by decide) | refine PV.F ?_ ?_ | refine twR.up ?_ (by decide) | refine PV.r ?_)))) ?_ ?_⟩
      · refine ⟨jk.te (jk.up (Or.inl rfl)) hE, ?_, ?_, ?_, ?_⟩
        · simp (disch := omega) only [upA_ne]; omega
        · simp (disch := omega) only [upA_ne]; omega
        · simp (disch := omega) only [upA_ne, upA_eq]
          rw [h2]
          exact nmO_bd hA hb
        · simp (disch := omega) only [upA_ne, upA_eq]
          exact hz2
      intro va tr hva htr
      have hq := hQ (upA (upA (upA v 545 (nmO (v 545) (v 540) b)) 546 va) 547 tr) (((jk.up (Or.inl rfl)).tr (jk.up (Or.inr (Or.inl rfl)))).tr (jk.up (Or.inr (Or.inr rfl))))
      have ez : va 0 = z := hva.1
      have b9 := cl9_bd z
      have fin : ∀ y, y = cl9 z → jW bX2_thickNow (g, d + 3, 0, 0, Q) 2 [some (vR 539), some (vI b), some (vI k)] [vI y, vI (v 540 (46 + 6 * b + 2))] (upA (upA (upA v 545 (nmO (v 545) (v 540) b)) 546 va) 547 tr, T) 0 0 := by
        intro y hy
        subst hy
        refine jW_step ?_
        simp (disch := (first | decide | omega)) only [bX2_thickNow, jxs, hps, jtsw, jlsw, List.length_cons, List.length_nil, true_and, and_true, true_implies, false_implies, implies_true, not_true_eq_false, not_false_eq_true, false_and, and_false, if_true, if_false, or_true, true_or, or_false, false_or, Classical.not_not, and_self, Int.reduceAdd, Int.reduceMul, Int.reduceSub, Int.reduceNeg, Int.reduceLT, Int.reduceLE, Int.reduceEq, Int.reduceNe, Int.reduceToNat, Nat.reduceAdd, Nat.reduceMul, Nat.reduceSub, Nat.reduceLeDiff, Nat.reduceLT, Nat.reduceEqDiff, reduceIte, Nat.zero_le, Nat.le_refl, Nat.add_zero, Nat.zero_add, twT hT, twV hV]
        (repeat (refine And.intro (by (first | omega | assumption | trivial | (simp only [inI]; omega) | (simp only [inL]; omega) | (refine jb_01) | (exact jb_in))) ?_))
        exact hq
      unfold cl9 at fin
      simp (disch := (first | decide | omega)) only [jxs, hps, jtsw, jlsw, List.length_cons, List.length_nil, true_and, and_true, true_implies, false_implies, implies_true, not_true_eq_false, not_false_eq_true, false_and, and_false, if_true, if_false, or_true, true_or, or_false, false_or, Classical.not_not, and_self, Int.reduceAdd, Int.reduceMul, Int.reduceSub, Int.reduceNeg, Int.reduceLT, Int.reduceLE, Int.reduceEq, Int.reduceNe, Int.reduceToNat, Nat.reduceAdd, Nat.reduceMul, Nat.reduceSub, Nat.reduceLeDiff, Nat.reduceLT, Nat.reduceEqDiff, reduceIte, Nat.zero_le, Nat.le_refl, Nat.add_zero, Nat.zero_add, twT hT, twV hV]
      (repeat (refine And.intro (by (first | omega | assumption | trivial | (simp only [inI]; omega) | (simp only [inL]; omega) | (refine jb_01) | (exact jb_in))) ?_))
      refine ⟨0, 0, ⟨by omega, by omega⟩, tw_get hT (by (first | assumption | (repeat (first | assumption | refine PV.A ?_ (by decide) | refine PV.F ?_ ?_ | refine twR.up ?_ (by decide) | refine PV.r ?_)))) (by (first | omega | assumption | trivial | (simp only [inI]; omega) | (simp only [inL]; omega) | (refine jb_01) | (exact jb_in))) ?_⟩
      simp (disch := (first | decide | omega)) only [jxs, hps, jtsw, jlsw, List.length_cons, List.length_nil, true_and, and_true, true_implies, false_implies, implies_true, not_true_eq_false, not_false_eq_true, false_and, and_false, if_true, if_false, or_true, true_or, or_false, false_or, Classical.not_not, and_self, Int.reduceAdd, Int.reduceMul, Int.reduceSub, Int.reduceNeg, Int.reduceLT, Int.reduceLE, Int.reduceEq, Int.reduceNe, Int.reduceToNat, Nat.reduceAdd, Nat.reduceMul, Nat.reduceSub, Nat.reduceLeDiff, Nat.reduceLT, Nat.reduceEqDiff, reduceIte, Nat.zero_le, Nat.le_refl, Nat.add_zero, Nat.zero_add, twT hT, twV hV]
      simp (disch := (first | decide | omega)) only [jxs, hps, jtsw, jlsw, List.length_cons, List.length_nil, true_and, and_true, true_implies, false_implies, implies_true, not_true_eq_false, not_false_eq_true, false_and, and_false, if_true, if_false, or_true, true_or, or_false, false_or, Classical.not_not, and_self, Int.reduceAdd, Int.reduceMul, Int.reduceSub, Int.reduceNeg, Int.reduceLT, Int.reduceLE, Int.reduceEq, Int.reduceNe, Int.reduceToNat, Nat.reduceAdd, Nat.reduceMul, Nat.reduceSub, Nat.reduceLeDiff, Nat.reduceLT, Nat.reduceEqDiff, reduceIte, Nat.zero_le, Nat.le_refl, Nat.add_zero, Nat.zero_add, twT hT, twV hV, ez, jcs]
      (repeat (refine And.intro (by (first | omega | assumption | trivial | (simp only [inI]; omega) | (simp only [inL]; omega) | (refine jb_01) | (exact jb_in))) ?_))
      refine ⟨fun h3 => ?_, fun h3 => ?_⟩
      · (repeat (refine And.intro (by (first | omega | assumption | trivial | (simp only [inI]; omega) | (simp only [inL]; omega) | (refine jb_01) | (exact jb_in))) ?_))
        refine ⟨fun h4 => ?_, fun h4 => ?_⟩
        · (repeat (refine And.intro (by (first | omega | assumption | trivial | (simp only [inI]; omega) | (simp only [inL]; omega) | (refine jb_01) | (exact jb_in))) ?_))
          exact fin z (by rw [if_neg (by omega), if_neg (by omega)])
        · exact fin 9 (by rw [if_neg (by omega), if_pos (by omega)])
      · exact fin 0 (by rw [if_pos (by omega)])
    · have hlo : clA (v 540) (v 542) 2 0 < 0 := by omega
      exact none _ hlo (fun q => hc q.2)
end TG
