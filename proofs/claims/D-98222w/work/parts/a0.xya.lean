/-! ===== the class: nudges ===== -/
-- MODE X
set_option maxRecDepth 100000
section XG
variable {g : jjG} {d : Nat} {T : jjT} {Q : jjQ} {A X : Int → Int}
theorem xw_setOf_1 {s : Int} {v : Int → Int → Int} (hT : PT T) (hV : PV v) (hC : CI (v, T) A X) (hs : 0 ≤ s ∧ s < 3) : ∀ (n : Nat) (p x : Int), 0 ≤ p → p + n = A (13 + s) → (0 ≤ x ∧ x < 1024) →
    Q (.inl (some (vI (shsF A s n p x)))) (v, T) →
    jW bX0_setOf (g, d + 1, 0, 0, Q) 1 [some (vR 400), some (vI s), some (vI x), some (vI p)] [] (v, T) 0 0 := by
  have hm := hC.tb.2.2.2.2.2.1 (13 + s) (by omega) (by omega)
  intro n
  induction n with
  | zero =>
    intro p x hp hn hx hQ
    unfold shsF at hQ
    refine jW_step ?_
    simp (disch := (first | decide | omega)) only [bX0_setOf, jxs, hps, jtsw, jlsw, List.length_cons, List.length_nil, true_and, and_true, true_implies, false_implies, implies_true, not_true_eq_false, not_false_eq_true, false_and, and_false, if_true, if_false, or_true, true_or, or_false, false_or, Classical.not_not, and_self, Int.reduceAdd, Int.reduceMul, Int.reduceSub, Int.reduceNeg, Int.reduceLT, Int.reduceLE, Int.reduceEq, Int.reduceNe, Int.reduceToNat, Nat.reduceAdd, Nat.reduceMul, Nat.reduceSub, Nat.reduceLeDiff, Nat.reduceLT, Nat.reduceEqDiff, reduceIte, Nat.zero_le, Nat.le_refl, Nat.add_zero, Nat.zero_add, xwT hT, xwV hV]
    refine ⟨0, 0, ⟨by omega, by omega⟩, xw_many hT hV hC hs ?_⟩
    simp (disch := (first | decide | omega)) only [jxs, hps, jtsw, jlsw, List.length_cons, List.length_nil, true_and, and_true, true_implies, false_implies, implies_true, not_true_eq_false, not_false_eq_true, false_and, and_false, if_true, if_false, or_true, true_or, or_false, false_or, Classical.not_not, and_self, Int.reduceAdd, Int.reduceMul, Int.reduceSub, Int.reduceNeg, Int.reduceLT, Int.reduceLE, Int.reduceEq, Int.reduceNe, Int.reduceToNat, Nat.reduceAdd, Nat.reduceMul, Nat.reduceSub, Nat.reduceLeDiff, Nat.reduceLT, Nat.reduceEqDiff, reduceIte, Nat.zero_le, Nat.le_refl, Nat.add_zero, Nat.zero_add, xwT hT, xwV hV]
    (try refine ⟨fun _ => ?_, fun h9 => (by exfalso; omega)⟩)
    (repeat (refine And.intro (by (first | omega | assumption | trivial | (simp only [inI]; omega) | (simp only [inL]; omega) | (refine jb_01) | (exact jb_in))) ?_))
    exact hQ
  | succ n ih =>
    intro p x hp hn hx hQ
    unfold shsF at hQ
    have b := hC.tb.2.2.2.2.2.2 (16 + 10 * s + p) (by omega) (by omega)
    have jb := jor_bits hx (b := A (16 + 10 * s + p)) ⟨b.1, by omega⟩
    refine jW_step ?_
    simp (disch := (first | decide | omega)) only [bX0_setOf, jxs, hps, jtsw, jlsw, List.length_cons, List.length_nil, true_and, and_true, true_implies, false_implies, implies_true, not_true_eq_false, not_false_eq_true, false_and, and_false, if_true, if_false, or_true, true_or, or_false, false_or, Classical.not_not, and_self, Int.reduceAdd, Int.reduceMul, Int.reduceSub, Int.reduceNeg, Int.reduceLT, Int.reduceLE, Int.reduceEq, Int.reduceNe, Int.reduceToNat, Nat.reduceAdd, Nat.reduceMul, Nat.reduceSub, Nat.reduceLeDiff, Nat.reduceLT, Nat.reduceEqDiff, reduceIte, Nat.zero_le, Nat.le_refl, Nat.add_zero, Nat.zero_add, xwT hT, xwV hV]
    refine ⟨0, 0, ⟨by omega, by omega⟩, xw_many hT hV hC hs ?_⟩
    simp (disch := (first | decide | omega)) only [jxs, hps, jtsw, jlsw, List.length_cons, List.length_nil, true_and, and_true, true_implies, false_implies, implies_true, not_true_eq_false, not_false_eq_true, false_and, and_false, if_true, if_false, or_true, true_or, or_false, false_or, Classical.not_not, and_self, Int.reduceAdd, Int.reduceMul, Int.reduceSub, Int.reduceNeg, Int.reduceLT, Int.reduceLE, Int.reduceEq, Int.reduceNe, Int.reduceToNat, Nat.reduceAdd, Nat.reduceMul, Nat.reduceSub, Nat.reduceLeDiff, Nat.reduceLT, Nat.reduceEqDiff, reduceIte, Nat.zero_le, Nat.le_refl, Nat.add_zero, Nat.zero_add, xwT hT, xwV hV]
    (first | refine ⟨fun h9 => (by exfalso; omega), fun _ => ?_⟩ | intro _)
    refine ⟨0, 0, ⟨by omega, by omega⟩, xw_bookAt hT hV hC hs ⟨hp, by omega⟩ ?_⟩
    simp (disch := (first | decide | omega)) only [jxs, hps, jtsw, jlsw, List.length_cons, List.length_nil, true_and, and_true, true_implies, false_implies, implies_true, not_true_eq_false, not_false_eq_true, false_and, and_false, if_true, if_false, or_true, true_or, or_false, false_or, Classical.not_not, and_self, Int.reduceAdd, Int.reduceMul, Int.reduceSub, Int.reduceNeg, Int.reduceLT, Int.reduceLE, Int.reduceEq, Int.reduceNe, Int.reduceToNat, Nat.reduceAdd, Nat.reduceMul, Nat.reduceSub, Nat.reduceLeDiff, Nat.reduceLT, Nat.reduceEqDiff, reduceIte, Nat.zero_le, Nat.le_refl, Nat.add_zero, Nat.zero_add, xwT hT, xwV hV]
    rw [jshl_1 b.1 (by omega)]
    (repeat (refine And.intro (by (first | omega | assumption | trivial | (simp only [inI]; omega) | (simp only [inL]; omega) | (refine jb_01) | (exact jb_in))) ?_))
    exact ih (p + 1) _ (by omega) (by omega) jb.1 hQ
theorem xw_setOf {s : Int} {v : Int → Int → Int} (hT : PT T) (hV : PV v) (hC : CI (v, T) A X) (hs : 0 ≤ s ∧ s < 3) (hQ : Q (.inl (some (vI (shsA A s)))) (v, T)) : jmet g (d + 2) 0 0 MX0_setOf [vR 400, vI s] (v, T) Q := by
  have hm := hC.tb.2.2.2.2.2.1 (13 + s) (by omega) (by omega)
  refine jmet_of (ls := [some (vR 400), some (vI s), none, none]) sX0_setOf rfl (by decide +kernel) (by decide) rfl (by simp [jent]) ?_
  refine jW_step ?_
  simp (disch := (first | decide | omega)) only [bX0_setOf, jxs, hps, jtsw, jlsw, List.length_cons, List.length_nil, true_and, and_true, true_implies, false_implies, implies_true, not_true_eq_false, not_false_eq_true, false_and, and_false, if_true, if_false, or_true, true_or, or_false, false_or, Classical.not_not, and_self, Int.reduceAdd, Int.reduceMul, Int.reduceSub, Int.reduceNeg, Int.reduceLT, Int.reduceLE, Int.reduceEq, Int.reduceNe, Int.reduceToNat, Nat.reduceAdd, Nat.reduceMul, Nat.reduceSub, Nat.reduceLeDiff, Nat.reduceLT, Nat.reduceEqDiff, reduceIte, Nat.zero_le, Nat.le_refl, Nat.add_zero, Nat.zero_add, xwT hT, xwV hV]
  exact xw_setOf_1 hT hV hC hs (A (13 + s)).toNat 0 0 (by omega) (by omega) (by omega) hQ
theorem xw_stands {b p : Int} {v : Int → Int → Int} (hT : PT T) (hV : PV v) (hp : b = -1 ∨ (0 ≤ p ∧ p < 6)) (hQ : ((b = -1 ∨ v 527 p = b) → Q (.inl (some (vI 1))) (v, T)) ∧ (¬ (b = -1 ∨ v 527 p = b) → Q (.inl (some (vI 0))) (v, T))) : jmet g (d + 1) 0 0 MX0_stands [vR 400, vI b, vI p] (v, T) Q := by
  refine jmet_of (ls := [some (vR 400), some (vI b), some (vI p)]) sX0_stands rfl (by decide +kernel) (by decide) rfl (by simp [jent]) ?_
  have k1 : (b = -1 ∨ v 527 p = b) → jW bX0_stands (g, d, 0, 0, Q) 1 [some (vR 400), some (vI b), some (vI p)] [] (v, T) 0 0 := by
    intro h
    refine jW_step ?_
    simp (disch := (first | decide | omega)) only [bX0_stands, jxs, hps, jtsw, jlsw, List.length_cons, List.length_nil, true_and, and_true, true_implies, false_implies, implies_true, not_true_eq_false, not_false_eq_true, false_and, and_false, if_true, if_false, or_true, true_or, or_false, false_or, Classical.not_not, and_self, Int.reduceAdd, Int.reduceMul, Int.reduceSub, Int.reduceNeg, Int.reduceLT, Int.reduceLE, Int.reduceEq, Int.reduceNe, Int.reduceToNat, Nat.reduceAdd, Nat.reduceMul, Nat.reduceSub, Nat.reduceLeDiff, Nat.reduceLT, Nat.reduceEqDiff, reduceIte, Nat.zero_le, Nat.le_refl, Nat.add_zero, Nat.zero_add, xwT hT, xwV hV]
    refine jW_step ?_
    simp (disch := (first | decide | omega)) only [bX0_stands, jxs, hps, jtsw, jlsw, List.length_cons, List.length_nil, true_and, and_true, true_implies, false_implies, implies_true, not_true_eq_false, not_false_eq_true, false_and, and_false, if_true, if_false, or_true, true_or, or_false, false_or, Classical.not_not, and_self, Int.reduceAdd, Int.reduceMul, Int.reduceSub, Int.reduceNeg, Int.reduceLT, Int.reduceLE, Int.reduceEq, Int.reduceNe, Int.reduceToNat, Nat.reduceAdd, Nat.reduceMul, Nat.reduceSub, Nat.reduceLeDiff, Nat.reduceLT, Nat.reduceEqDiff, reduceIte, Nat.zero_le, Nat.le_refl, Nat.add_zero, Nat.zero_add, xwT hT, xwV hV]
    (repeat (refine And.intro (by (first | omega | assumption | trivial | (simp only [inI]; omega) | (simp only [inL]; omega) | (refine jb_01) | (exact jb_in))) ?_))
    exact hQ.1 h
  refine jW_step ?_
  simp (disch := (first | decide | omega)) only [bX0_stands, jxs, hps, jtsw, jlsw, List.length_cons, List.length_nil, true_and, and_true, true_implies, false_implies, implies_true, not_true_eq_false, not_false_eq_true, false_and, and_false, if_true, if_false, or_true, true_or, or_false, false_or, Classical.not_not, and_self, Int.reduceAdd, Int.reduceMul, Int.reduceSub, Int.reduceNeg, Int.reduceLT, Int.reduceLE, Int.reduceEq, Int.reduceNe, Int.reduceToNat, Nat.reduceAdd, Nat.reduceMul, Nat.reduceSub, Nat.reduceLeDiff, Nat.reduceLT, Nat.reduceEqDiff, reduceIte, Nat.zero_le, Nat.le_refl, Nat.add_zero, Nat.zero_add, xwT hT, xwV hV]
  refine ⟨fun h => ?_, fun h => ?_⟩
  · exact k1 (Or.inl h)
  · (repeat (refine And.intro (by (first | omega | assumption | trivial | (simp only [inI]; omega) | (simp only [inL]; omega) | (refine jb_01) | (exact jb_in))) ?_))
    refine ⟨fun h2 => ?_, fun h2 => ?_⟩
    · refine jW_step ?_
      simp (disch := (first | decide | omega)) only [bX0_stands, jxs, hps, jtsw, jlsw, List.length_cons, List.length_nil, true_and, and_true, true_implies, false_implies, implies_true, not_true_eq_false, not_false_eq_true, false_and, and_false, if_true, if_false, or_true, true_or, or_false, false_or, Classical.not_not, and_self, Int.reduceAdd, Int.reduceMul, Int.reduceSub, Int.reduceNeg, Int.reduceLT, Int.reduceLE, Int.reduceEq, Int.reduceNe, Int.reduceToNat, Nat.reduceAdd, Nat.reduceMul, Nat.reduceSub, Nat.reduceLeDiff, Nat.reduceLT, Nat.reduceEqDiff, reduceIte, Nat.zero_le, Nat.le_refl, Nat.add_zero, Nat.zero_add, xwT hT, xwV hV]
      (repeat (refine And.intro (by (first | omega | assumption | trivial | (simp only [inI]; omega) | (simp only [inL]; omega) | (refine jb_01) | (exact jb_in))) ?_))
      exact hQ.2 (fun q => by rcases q with q | q; · exact h q
                              · exact h2 q)
    · exact k1 (Or.inr (by omega))
theorem xw_swaps {p : Int} {v : Int → Int → Int} (hT : PT T) (hV : PV v) (hS : 0 ≤ p ∧ p < 5) (hQ : Q (.inl none) (upA v 527 (swp (v 527) p), T)) : jmet g (d + 1) 0 0 MX0_swaps [vR 400, vI p] (v, T) Q := by
  refine jmet_of (ls := [some (vR 400), some (vI p), none]) sX0_swaps rfl (by decide +kernel) (by decide) rfl (by simp [jent]) ?_
  refine jW_step ?_
  simp (disch := (first | decide | omega)) only [bX0_swaps, jxs, hps, jtsw, jlsw, List.length_cons, List.length_nil, true_and, and_true, true_implies, false_implies, implies_true, not_true_eq_false, not_false_eq_true, false_and, and_false, if_true, if_false, or_true, true_or, or_false, false_or, Classical.not_not, and_self, Int.reduceAdd, Int.reduceMul, Int.reduceSub, Int.reduceNeg, Int.reduceLT, Int.reduceLE, Int.reduceEq, Int.reduceNe, Int.reduceToNat, Nat.reduceAdd, Nat.reduceMul, Nat.reduceSub, Nat.reduceLeDiff, Nat.reduceLT, Nat.reduceEqDiff, reduceIte, Nat.zero_le, Nat.le_refl, Nat.add_zero, Nat.zero_add, xwT hT, xwV hV]
  (repeat (refine And.intro (by (first | omega | assumption | trivial | (simp only [inI]; omega) | (simp only [inL]; omega) | (refine jb_01) | (exact jb_in))) ?_))
  exact hQ
theorem xw_isPlaced {s b p : Int} {v : Int → Int → Int} (hT : PT T) (hV : PV v) (hC : CI (v, T) A X) (hs : 0 ≤ s ∧ s < 3) (hQ : (ithP A b s p → Q (.inl (some (vI 1))) (v, T)) ∧ (¬ ithP A b s p → Q (.inl (some (vI 0))) (v, T))) : jmet g (d + 4) 0 0 MX0_isPlaced [vR 400, vI s, vI b, vI p] (v, T) Q := by
  have hm := hC.tb.2.2.2.2.2.1 (13 + s) (by omega) (by omega)
  refine jmet_of (ls := [some (vR 400), some (vI s), some (vI b), some (vI p)]) sX0_isPlaced rfl (by decide +kernel) (by decide) rfl (by simp [jent]) ?_
  have k1 : ¬ ithP A b s p → jW bX0_isPlaced (g, d + 3, 0, 0, Q) 1 [some (vR 400), some (vI s), some (vI b), some (vI p)] [] (v, T) 0 0 := by
    intro h
    refine jW_step ?_
    simp (disch := (first | decide | omega)) only [bX0_isPlaced, jxs, hps, jtsw, jlsw, List.length_cons, List.length_nil, true_and, and_true, true_implies, false_implies, implies_true, not_true_eq_false, not_false_eq_true, false_and, and_false, if_true, if_false, or_true, true_or, or_false, false_or, Classical.not_not, and_self, Int.reduceAdd, Int.reduceMul, Int.reduceSub, Int.reduceNeg, Int.reduceLT, Int.reduceLE, Int.reduceEq, Int.reduceNe, Int.reduceToNat, Nat.reduceAdd, Nat.reduceMul, Nat.reduceSub, Nat.reduceLeDiff, Nat.reduceLT, Nat.reduceEqDiff, reduceIte, Nat.zero_le, Nat.le_refl, Nat.add_zero, Nat.zero_add, xwT hT, xwV hV]
    refine jW_step ?_
    simp (disch := (first | decide | omega)) only [bX0_isPlaced, jxs, hps, jtsw, jlsw, List.length_cons, List.length_nil, true_and, and_true, true_implies, false_implies, implies_true, not_true_eq_false, not_false_eq_true, false_and, and_false, if_true, if_false, or_true, true_or, or_false, false_or, Classical.not_not, and_self, Int.reduceAdd, Int.reduceMul, Int.reduceSub, Int.reduceNeg, Int.reduceLT, Int.reduceLE, Int.reduceEq, Int.reduceNe, Int.reduceToNat, Nat.reduceAdd, Nat.reduceMul, Nat.reduceSub, Nat.reduceLeDiff, Nat.reduceLT, Nat.reduceEqDiff, reduceIte, Nat.zero_le, Nat.le_refl, Nat.add_zero, Nat.zero_add, xwT hT, xwV hV]
    (repeat (refine And.intro (by (first | omega | assumption | trivial | (simp only [inI]; omega) | (simp only [inL]; omega) | (refine jb_01) | (exact jb_in))) ?_))
    exact hQ.2 h
  unfold ithP at k1 hQ
  refine jW_step ?_
  simp (disch := (first | decide | omega)) only [bX0_isPlaced, jxs, hps, jtsw, jlsw, List.length_cons, List.length_nil, true_and, and_true, true_implies, false_implies, implies_true, not_true_eq_false, not_false_eq_true, false_and, and_false, if_true, if_false, or_true, true_or, or_false, false_or, Classical.not_not, and_self, Int.reduceAdd, Int.reduceMul, Int.reduceSub, Int.reduceNeg, Int.reduceLT, Int.reduceLE, Int.reduceEq, Int.reduceNe, Int.reduceToNat, Nat.reduceAdd, Nat.reduceMul, Nat.reduceSub, Nat.reduceLeDiff, Nat.reduceLT, Nat.reduceEqDiff, reduceIte, Nat.zero_le, Nat.le_refl, Nat.add_zero, Nat.zero_add, xwT hT, xwV hV]
  refine ⟨0, 0, ⟨by omega, by omega⟩, xw_isOnShelf hT hV hC ?_⟩
  simp (disch := (first | decide | omega)) only [jxs, hps, jtsw, jlsw, List.length_cons, List.length_nil, true_and, and_true, true_implies, false_implies, implies_true, not_true_eq_false, not_false_eq_true, false_and, and_false, if_true, if_false, or_true, true_or, or_false, false_or, Classical.not_not, and_self, Int.reduceAdd, Int.reduceMul, Int.reduceSub, Int.reduceNeg, Int.reduceLT, Int.reduceLE, Int.reduceEq, Int.reduceNe, Int.reduceToNat, Nat.reduceAdd, Nat.reduceMul, Nat.reduceSub, Nat.reduceLeDiff, Nat.reduceLT, Nat.reduceEqDiff, reduceIte, Nat.zero_le, Nat.le_refl, Nat.add_zero, Nat.zero_add, xwT hT, xwV hV]
  refine ⟨fun h => ?_, fun h => ?_⟩
  · exact k1 (fun q => h q.1)
  · refine ⟨0, 0, ⟨by omega, by omega⟩, xw_whereIs hT hV hC ⟨h.1.1, by omega⟩ ?_⟩
    simp (disch := (first | decide | omega)) only [jxs, hps, jtsw, jlsw, List.length_cons, List.length_nil, true_and, and_true, true_implies, false_implies, implies_true, not_true_eq_false, not_false_eq_true, false_and, and_false, if_true, if_false, or_true, true_or, or_false, false_or, Classical.not_not, and_self, Int.reduceAdd, Int.reduceMul, Int.reduceSub, Int.reduceNeg, Int.reduceLT, Int.reduceLE, Int.reduceEq, Int.reduceNe, Int.reduceToNat, Nat.reduceAdd, Nat.reduceMul, Nat.reduceSub, Nat.reduceLeDiff, Nat.reduceLT, Nat.reduceEqDiff, reduceIte, Nat.zero_le, Nat.le_refl, Nat.add_zero, Nat.zero_add, xwT hT, xwV hV]
    refine ⟨fun h2 => ?_, fun h2 => ?_⟩
    · exact k1 (fun q => h2 q.2.1)
    · refine ⟨0, 0, ⟨by omega, by omega⟩, xw_many hT hV hC hs ?_⟩
      simp (disch := (first | decide | omega)) only [jxs, hps, jtsw, jlsw, List.length_cons, List.length_nil, true_and, and_true, true_implies, false_implies, implies_true, not_true_eq_false, not_false_eq_true, false_and, and_false, if_true, if_false, or_true, true_or, or_false, false_or, Classical.not_not, and_self, Int.reduceAdd, Int.reduceMul, Int.reduceSub, Int.reduceNeg, Int.reduceLT, Int.reduceLE, Int.reduceEq, Int.reduceNe, Int.reduceToNat, Nat.reduceAdd, Nat.reduceMul, Nat.reduceSub, Nat.reduceLeDiff, Nat.reduceLT, Nat.reduceEqDiff, reduceIte, Nat.zero_le, Nat.le_refl, Nat.add_zero, Nat.zero_add, xwT hT, xwV hV]
      (repeat (refine And.intro (by (first | omega | assumption | trivial | (simp only [inI]; omega) | (simp only [inL]; omega) | (refine jb_01) | (exact jb_in))) ?_))
      refine ⟨0, 0, ⟨by omega, by omega⟩, xw_in ?_⟩
      simp (disch := (first | decide | omega)) only [jxs, hps, jtsw, jlsw, List.length_cons, List.length_nil, true_and, and_true, true_implies, false_implies, implies_true, not_true_eq_false, not_false_eq_true, false_and, and_false, if_true, if_false, or_true, true_or, or_false, false_or, Classical.not_not, and_self, Int.reduceAdd, Int.reduceMul, Int.reduceSub, Int.reduceNeg, Int.reduceLT, Int.reduceLE, Int.reduceEq, Int.reduceNe, Int.reduceToNat, Nat.reduceAdd, Nat.reduceMul, Nat.reduceSub, Nat.reduceLeDiff, Nat.reduceLT, Nat.reduceEqDiff, reduceIte, Nat.zero_le, Nat.le_refl, Nat.add_zero, Nat.zero_add, xwT hT, xwV hV]
      refine ⟨fun h3 => ?_, fun h3 => ?_⟩
      · exact k1 (fun q => h3 q.2.2)
      · refine jW_step ?_
        simp (disch := (first | decide | omega)) only [bX0_isPlaced, jxs, hps, jtsw, jlsw, List.length_cons, List.length_nil, true_and, and_true, true_implies, false_implies, implies_true, not_true_eq_false, not_false_eq_true, false_and, and_false, if_true, if_false, or_true, true_or, or_false, false_or, Classical.not_not, and_self, Int.reduceAdd, Int.reduceMul, Int.reduceSub, Int.reduceNeg, Int.reduceLT, Int.reduceLE, Int.reduceEq, Int.reduceNe, Int.reduceToNat, Nat.reduceAdd, Nat.reduceMul, Nat.reduceSub, Nat.reduceLeDiff, Nat.reduceLT, Nat.reduceEqDiff, reduceIte, Nat.zero_le, Nat.le_refl, Nat.add_zero, Nat.zero_add, xwT hT, xwV hV]
        (repeat (refine And.intro (by (first | omega | assumption | trivial | (simp only [inI]; omega) | (simp only [inL]; omega) | (refine jb_01) | (exact jb_in))) ?_))
        exact hQ.1 ⟨h, by omega, h3⟩
theorem swp_swp {f : Int → Int} {p : Int} : swp (swp f p) p = f := by
  funext i
  unfold swp up1
  by_cases a : i = p + 1
  · rw [if_pos a, if_neg (by omega), if_pos rfl, a]
  · rw [if_neg a]
    by_cases b : i = p
    · rw [if_pos b, if_pos rfl, b]
    · rw [if_neg b, if_neg a, if_neg b]
theorem xw_ng_6 {s b l3 o l5 k n m : Int} {el : Int → Int} (hT : PT T) (hm : 0 ≤ m ∧ m ≤ 6) (hM : MON el m) (hn : 0 ≤ n ∧ n < fac m) (hk : 0 ≤ k ∧ k < 720) : ∀ (r : Nat) (p : Int) (v : Int → Int → Int) (tk qu : Int → Int) (en : Int) (l9 : Option jjV), PV v → v 400 13 = m → EQm m (v 527) (fun x => el (dec m n x)) → 0 ≤ p → (m = p + 1 + r ∨ (m ≤ p + 1 ∧ r = 0)) → p ≤ 10 → EQm (fac m) (v 529) tk → EQm en (v 528) qu → INV m tk qu en → 0 ≤ tk n → (k < en ∧ qu k = n) → (∀ j, 0 ≤ j → j < fac m → -1 ≤ tk j) →
    (∀ w l8 l9, (∀ a, a ≠ 527 → a ≠ 528 → a ≠ 529 → w a = v a) → EQm (fac m) (w 529) (ng2 m n r p tk qu en).1 → EQm (ng2 m n r p tk qu en).2.2 (w 528) (ng2 m n r p tk qu en).2.1 → INV m (ng2 m n r p tk qu en).1 (ng2 m n r p tk qu en).2.1 (ng2 m n r p tk qu en).2.2 → (∀ j, 0 ≤ j → j < fac m → -1 ≤ (ng2 m n r p tk qu en).1 j) → jW bX0_nudges (g, d + 8, 0, 0, Q) 4 [some (vR 400), some (vI s), some (vI b), some (vI l3), some (vI o), some (vI l5), some (vI (ng2 m n r p tk qu en).2.2), some (vI (k + 1)), l8, l9] [] (w, T) 0 0) →
    jW bX0_nudges (g, d + 8, 0, 0, Q) 6 [some (vR 400), some (vI s), some (vI b), some (vI l3), some (vI o), some (vI l5), some (vI en), some (vI k), some (vI p), l9] [] (v, T) 0 0 := by
  have hf := fac_bd hm.2
  intro r
  induction r with
  | zero =>
    intro p v tk qu en l9 hV hv hE hp hr hp2 ht hq hI hn0 hkn hlo hQ
    unfold ng2 at hQ
    refine jW_step ?_
    simp (disch := (first | decide | omega)) only [bX0_nudges, jxs, hps, jtsw, jlsw, List.length_cons, List.length_nil, true_and, and_true, true_implies, false_implies, implies_true, not_true_eq_false, not_false_eq_true, false_and, and_false, if_true, if_false, or_true, true_or, or_false, false_or, Classical.not_not, and_self, Int.reduceAdd, Int.reduceMul, Int.reduceSub, Int.reduceNeg, Int.reduceLT, Int.reduceLE, Int.reduceEq, Int.reduceNe, Int.reduceToNat, Nat.reduceAdd, Nat.reduceMul, Nat.reduceSub, Nat.reduceLeDiff, Nat.reduceLT, Nat.reduceEqDiff, reduceIte, Nat.zero_le, Nat.le_refl, Nat.add_zero, Nat.zero_add, xwT hT, xwV hV, hv]
    (repeat (refine And.intro (by (first | omega | assumption | trivial | (simp only [inI]; omega) | (simp only [inL]; omega) | (refine jb_01) | (exact jb_in))) ?_))
    (try refine ⟨fun _ => ?_, fun h9 => (by exfalso; omega)⟩)
    (repeat (refine And.intro (by (first | omega | assumption | trivial | (simp only [inI]; omega) | (simp only [inL]; omega) | (refine jb_01) | (exact jb_in))) ?_))
    exact hQ v _ _ (fun _ _ _ _ => rfl) ht hq hI hlo
  | succ r ih =>
    intro p v tk qu en l9 hV hv hE hp hr hp2 ht hq hI hn0 hkn hlo hQ
    unfold ng2 at hQ
    have hpm : 0 ≤ p ∧ p + 1 < m := by omega
    have tb := ndA_bd hm hn hpm
    have enb := cnT_bd (tk := tk) (fac m).toNat
    have en1 := hI.1
    have es : ooA (swp (v 527) p) m = ndA m n p := by
      unfold ndA
      rw [ooA_cg (swp_cg hE hpm) hm.1, swp_el, ooA_mon hm.1 hM ((dec_PRM hm hn).sw hpm).1]
    have k7 : ∀ w tk' qu' en' l9, PV w → (∀ a, a ≠ 528 → a ≠ 529 → w a = v a) → EQm (fac m) (w 529) tk' → EQm en' (w 528) qu' → INV m tk' qu' en' → 0 ≤ tk' n → (k < en' ∧ qu' k = n) → (∀ j, 0 ≤ j → j < fac m → -1 ≤ tk' j) →
        (∀ w l8 l9, (∀ a, a ≠ 527 → a ≠ 528 → a ≠ 529 → w a = v a) → EQm (fac m) (w 529) (ng2 m n r (p + 1) tk' qu' en').1 → EQm (ng2 m n r (p + 1) tk' qu' en').2.2 (w 528) (ng2 m n r (p + 1) tk' qu' en').2.1 → INV m (ng2 m n r (p + 1) tk' qu' en').1 (ng2 m n r (p + 1) tk' qu' en').2.1 (ng2 m n r (p + 1) tk' qu' en').2.2 → (∀ j, 0 ≤ j → j < fac m → -1 ≤ (ng2 m n r (p + 1) tk' qu' en').1 j) → jW bX0_nudges (g, d + 8, 0, 0, Q) 4 [some (vR 400), some (vI s), some (vI b), some (vI l3), some (vI o), some (vI l5), some (vI (ng2 m n r (p + 1) tk' qu' en').2.2), some (vI (k + 1)), l8, l9] [] (w, T) 0 0) →
        jW bX0_nudges (g, d + 8, 0, 0, Q) 7 [some (vR 400), some (vI s), some (vI b), some (vI l3), some (vI o), some (vI l5), some (vI en'), some (vI k), some (vI p), l9] [] (w, T) 0 0 := by
      intro w tk' qu' en' l9 hVw wo w57 w56 wI wn wk wl wQ
      have hV := hVw
      refine jW_step ?_
      simp (disch := (first | decide | omega)) only [bX0_nudges, jxs, hps, jtsw, jlsw, List.length_cons, List.length_nil, true_and, and_true, true_implies, false_implies, implies_true, not_true_eq_false, not_false_eq_true, false_and, and_false, if_true, if_false, or_true, true_or, or_false, false_or, Classical.not_not, and_self, Int.reduceAdd, Int.reduceMul, Int.reduceSub, Int.reduceNeg, Int.reduceLT, Int.reduceLE, Int.reduceEq, Int.reduceNe, Int.reduceToNat, Nat.reduceAdd, Nat.reduceMul, Nat.reduceSub, Nat.reduceLeDiff, Nat.reduceLT, Nat.reduceEqDiff, reduceIte, Nat.zero_le, Nat.le_refl, Nat.add_zero, Nat.zero_add, xwT hT, xwV hV]
      (repeat (refine And.intro (by (first | omega | assumption | trivial | (simp only [inI]; omega) | (simp only [inL]; omega) | (refine jb_01) | (exact jb_in))) ?_))
      refine ih (p + 1) w tk' qu' en' l9 hVw (by rw [wo 400 (by omega) (by omega)]; exact hv) (by rw [wo 527 (by omega) (by omega)]; exact hE) (by omega) (by omega) (by omega) w57 w56 wI wn wk wl ?_
      intro y l8 l9 y1
      exact wQ y l8 l9 (fun a a1 a2 a3 => (y1 a a1 a2 a3).trans (wo a a2 a3))
    refine jW_step ?_
    simp (disch := (first | decide | omega)) only [bX0_nudges, jxs, hps, jtsw, jlsw, List.length_cons, List.length_nil, true_and, and_true, true_implies, false_implies, implies_true, not_true_eq_false, not_false_eq_true, false_and, and_false, if_true, if_false, or_true, true_or, or_false, false_or, Classical.not_not, and_self, Int.reduceAdd, Int.reduceMul, Int.reduceSub, Int.reduceNeg, Int.reduceLT, Int.reduceLE, Int.reduceEq, Int.reduceNe, Int.reduceToNat, Nat.reduceAdd, Nat.reduceMul, Nat.reduceSub, Nat.reduceLeDiff, Nat.reduceLT, Nat.reduceEqDiff, reduceIte, Nat.zero_le, Nat.le_refl, Nat.add_zero, Nat.zero_add, xwT hT, xwV hV, hv]
    (repeat (refine And.intro (by (first | omega | assumption | trivial | (simp only [inI]; omega) | (simp only [inL]; omega) | (refine jb_01) | (exact jb_in))) ?_))
    (first | refine ⟨fun h9 => (by exfalso; omega), fun _ => ?_⟩ | intro _)
    refine ⟨0, 0, ⟨by omega, by omega⟩, xw_swaps (d := d + 7) hT hV ⟨hp, by omega⟩ ?_⟩
    have hVu : PV (upA v 527 (swp (v 527) p)) := hV.A (by decide)
    have u27 : (upA v 527 (swp (v 527) p)) 527 = swp (v 527) p := upA_eq
    have uo : ∀ a, a ≠ 527 → (upA v 527 (swp (v 527) p)) a = v a := fun a ha => upA_ne ha
    have ub : ∀ f, upA (upA v 527 (swp (v 527) p)) 527 f = upA v 527 f := fun f => upA_same
    generalize upA v 527 (swp (v 527) p) = u at *
    have hV0 := hV
    have hV := hVu
    simp (disch := (first | decide | omega)) only [jxs, hps, jtsw, jlsw, List.length_cons, List.length_nil, true_and, and_true, true_implies, false_implies, implies_true, not_true_eq_false, not_false_eq_true, false_and, and_false, if_true, if_false, or_true, true_or, or_false, false_or, Classical.not_not, and_self, Int.reduceAdd, Int.reduceMul, Int.reduceSub, Int.reduceNeg, Int.reduceLT, Int.reduceLE, Int.reduceEq, Int.reduceNe, Int.reduceToNat, Nat.reduceAdd, Nat.reduceMul, Nat.reduceSub, Nat.reduceLeDiff, Nat.reduceLT, Nat.reduceEqDiff, reduceIte, Nat.zero_le, Nat.le_refl, Nat.add_zero, Nat.zero_add, xwT hT, xwV hV]
    refine ⟨0, 0, ⟨by omega, by omega⟩, xw_numberOf (d := d + 7) hT hVu (by rw [uo 400 (by omega)]; exact hv) hm ?_⟩
    rw [u27, es]
    simp (disch := (first | decide | omega)) only [jxs, hps, jtsw, jlsw, List.length_cons, List.length_nil, true_and, and_true, true_implies, false_implies, implies_true, not_true_eq_false, not_false_eq_true, false_and, and_false, if_true, if_false, or_true, true_or, or_false, false_or, Classical.not_not, and_self, Int.reduceAdd, Int.reduceMul, Int.reduceSub, Int.reduceNeg, Int.reduceLT, Int.reduceLE, Int.reduceEq, Int.reduceNe, Int.reduceToNat, Nat.reduceAdd, Nat.reduceMul, Nat.reduceSub, Nat.reduceLeDiff, Nat.reduceLT, Nat.reduceEqDiff, reduceIte, Nat.zero_le, Nat.le_refl, Nat.add_zero, Nat.zero_add, xwT hT, xwV hV]
    refine ⟨0, 0, ⟨by omega, by omega⟩, xw_swaps (d := d + 7) hT hVu ⟨hp, by omega⟩ ?_⟩
    rw [ub, u27, swp_swp, upA_id]
    clear ub
    have hV := hV0
    have et := ht (ndA m n p) tb.1 tb.2
    have lo := hlo (ndA m n p) tb.1 tb.2
    have eN := ht n hn.1 hn.2
    have eK := hq k hk.1 hkn.1
    rw [hkn.2] at eK
    generalize ndA m n p = t at *
    simp (disch := (first | decide | omega)) only [jxs, hps, jtsw, jlsw, List.length_cons, List.length_nil, true_and, and_true, true_implies, false_implies, implies_true, not_true_eq_false, not_false_eq_true, false_and, and_false, if_true, if_false, or_true, true_or, or_false, false_or, Classical.not_not, and_self, Int.reduceAdd, Int.reduceMul, Int.reduceSub, Int.reduceNeg, Int.reduceLT, Int.reduceLE, Int.reduceEq, Int.reduceNe, Int.reduceToNat, Nat.reduceAdd, Nat.reduceMul, Nat.reduceSub, Nat.reduceLeDiff, Nat.reduceLT, Nat.reduceEqDiff, reduceIte, Nat.zero_le, Nat.le_refl, Nat.add_zero, Nat.zero_add, xwT hT, xwV hV]
    (repeat (refine And.intro (by (first | omega | assumption | trivial | (simp only [inI]; omega) | (simp only [inL]; omega) | (refine jb_01) | (exact jb_in))) ?_))
    rw [et]
    refine ⟨fun h => ?_, fun h => ?_⟩
    · rw [if_neg (by omega)] at hQ
      have st := hI.st ⟨hn, hn0⟩ tb (by omega)
      have tkn := hI.2.2 n hn.1 hn.2
      (repeat (refine And.intro (by (first | omega | assumption | trivial | (simp only [inI]; omega) | (simp only [inL]; omega) | (refine jb_01) | (exact jb_in))) ?_))
      rw [eK, eN]
      (repeat (refine And.intro (by (first | omega | assumption | trivial | (simp only [inI]; omega) | (simp only [inL]; omega) | (refine jb_01) | (exact jb_in))) ?_))
      refine k7 (upA (upA v 528 (up1 (v 528) en t)) 529 (up1 (v 529) t (tk n + 1))) _ _ _ _ (by (first | assumption | (repeat (first | assumption | refine PV.A ?_ (by decide) | refine PV.F ?_ ?_ | refine twR.up ?_ (by decide) | refine PV.r ?_)))) (fun a a1 a2 => by rw [upA_ne a2, upA_ne a1]) ?_ ?_ st.1 ?_ ?_ ?_ hQ
      · rw [upA_eq]
        intro i i0 i1
        by_cases e : i = t
        · rw [e, up1_eq, up1_eq]
        · rw [up1_ne e, up1_ne e]; exact ht i i0 i1
      · rw [upA_ne (by omega), upA_eq]
        intro i i0 i1
        by_cases e : i = en
        · rw [e, up1_eq, up1_eq]
        · rw [up1_ne e, up1_ne e]; exact hq i i0 (by omega)
      · by_cases e : n = t
        · rw [e] at hn0; omega
        · rw [up1_ne e]; exact hn0
      · refine ⟨by omega, ?_⟩
        rw [up1_ne (by omega)]
        exact hkn.2
      · intro j j0 j1
        by_cases e : j = t
        · rw [e, up1_eq]; omega
        · rw [up1_ne e]; exact hlo j j0 j1
    · rw [if_pos (by omega)] at hQ
      (repeat (refine And.intro (by (first | omega | assumption | trivial | (simp only [inI]; omega) | (simp only [inL]; omega) | (refine jb_01) | (exact jb_in))) ?_))
      exact k7 v tk qu en _ hV (fun _ _ _ => rfl) ht hq hI hn0 hkn hlo hQ
theorem xw_ng_4 {s b p o q m : Int} {el : Int → Int} (hT : PT T) (hm : 0 ≤ m ∧ m ≤ 6) (hM : MON el m) (hb : b = -1 ∨ (0 ≤ p ∧ p < m)) (ho : o = -1 ∨ (0 ≤ q ∧ q < m)) : ∀ (r : Nat) (k : Int) (v : Int → Int → Int) (tk qu : Int → Int) (en : Int) (l8 l9 : Option jjV), PV v → CHO v m el → 0 ≤ k → k + r = fac m → EQm (fac m) (v 529) tk → EQm en (v 528) qu → INV m tk qu en → (∀ j, 0 ≤ j → j < fac m → -1 ≤ tk j) →
    (∀ u, (∀ a, a ≠ 527 → a ≠ 528 → a ≠ 529 → u a = v a) → Q (.inl (some (vI (ng1 el m b p o q r k tk qu en)))) (u, T)) →
    jW bX0_nudges (g, d + 8, 0, 0, Q) 4 [some (vR 400), some (vI s), some (vI b), some (vI p), some (vI o), some (vI q), some (vI en), some (vI k), l8, l9] [] (v, T) 0 0 := by
  have hf := fac_bd hm.2
  intro r
  induction r with
  | zero =>
    intro k v tk qu en l8 l9 hV hO hk hr ht hq hI hlo hQ
    unfold ng1 at hQ
    have enb := cnT_bd (tk := tk) (fac m).toNat
    have en1 := hI.1
    refine jW_step ?_
    simp (disch := (first | decide | omega)) only [bX0_nudges, jxs, hps, jtsw, jlsw, List.length_cons, List.length_nil, true_and, and_true, true_implies, false_implies, implies_true, not_true_eq_false, not_false_eq_true, false_and, and_false, if_true, if_false, or_true, true_or, or_false, false_or, Classical.not_not, and_self, Int.reduceAdd, Int.reduceMul, Int.reduceSub, Int.reduceNeg, Int.reduceLT, Int.reduceLE, Int.reduceEq, Int.reduceNe, Int.reduceToNat, Nat.reduceAdd, Nat.reduceMul, Nat.reduceSub, Nat.reduceLeDiff, Nat.reduceLT, Nat.reduceEqDiff, reduceIte, Nat.zero_le, Nat.le_refl, Nat.add_zero, Nat.zero_add, xwT hT, xwV hV]
    (try refine ⟨fun _ => ?_, fun h9 => (by exfalso; omega)⟩)
    (repeat (refine And.intro (by (first | omega | assumption | trivial | (simp only [inI]; omega) | (simp only [inL]; omega) | (refine jb_01) | (exact jb_in))) ?_))
    exact hQ v (fun _ _ _ _ => rfl)
  | succ r ih =>
    intro k v tk qu en l8 l9 hV hO hk hr ht hq hI hlo hQ
    unfold ng1 at hQ
    have enb := cnT_bd (tk := tk) (fac m).toNat
    have en1 := hI.1
    refine jW_step ?_
    simp (disch := (first | decide | omega)) only [bX0_nudges, jxs, hps, jtsw, jlsw, List.length_cons, List.length_nil, true_and, and_true, true_implies, false_implies, implies_true, not_true_eq_false, not_false_eq_true, false_and, and_false, if_true, if_false, or_true, true_or, or_false, false_or, Classical.not_not, and_self, Int.reduceAdd, Int.reduceMul, Int.reduceSub, Int.reduceNeg, Int.reduceLT, Int.reduceLE, Int.reduceEq, Int.reduceNe, Int.reduceToNat, Nat.reduceAdd, Nat.reduceMul, Nat.reduceSub, Nat.reduceLeDiff, Nat.reduceLT, Nat.reduceEqDiff, reduceIte, Nat.zero_le, Nat.le_refl, Nat.add_zero, Nat.zero_add, xwT hT, xwV hV]
    refine ⟨fun h => ?_, fun h => ?_⟩
    · rw [if_pos h] at hQ
      (repeat (refine And.intro (by (first | omega | assumption | trivial | (simp only [inI]; omega) | (simp only [inL]; omega) | (refine jb_01) | (exact jb_in))) ?_))
      exact hQ v (fun _ _ _ _ => rfl)
    · rw [if_neg h] at hQ
      have qk := hI.2.1 k hk (by omega)
      have e1 := hq k hk (by omega)
      have e2 := ht (qu k) qk.1.1 qk.1.2
      (repeat (refine And.intro (by (first | omega | assumption | trivial | (simp only [inI]; omega) | (simp only [inL]; omega) | (refine jb_01) | (exact jb_in))) ?_))
      rw [e1]
      refine ⟨0, 0, ⟨by omega, by omega⟩, xw_laysOrder (el := el) hT hV hO ⟨hm, qk.1⟩ ?_⟩
      intro w w1 w2
      have hVw : PV w := hV.fr (fun a ha => w2 a (fun e => by subst e; revert ha; decide))
      have hOw : CHO w m el := hO.fr (by rw [w2 400 (by omega)]) (w2 526 (by omega))
      have k5 : ¬ ((b = -1 ∨ el (dec m (qu k) p) = b) ∧ (o = -1 ∨ el (dec m (qu k) q) = o)) → jW bX0_nudges (g, d + 8, 0, 0, Q) 5 [some (vR 400), some (vI s), some (vI b), some (vI p), some (vI o), some (vI q), some (vI en), some (vI k), l8, l9] [] (w, T) 0 0 := by
        intro hh
        rw [if_neg hh] at hQ
        have hV := hVw
        refine jW_step ?_
        simp (disch := (first | decide | omega)) only [bX0_nudges, jxs, hps, jtsw, jlsw, List.length_cons, List.length_nil, true_and, and_true, true_implies, false_implies, implies_true, not_true_eq_false, not_false_eq_true, false_and, and_false, if_true, if_false, or_true, true_or, or_false, false_or, Classical.not_not, and_self, Int.reduceAdd, Int.reduceMul, Int.reduceSub, Int.reduceNeg, Int.reduceLT, Int.reduceLE, Int.reduceEq, Int.reduceNe, Int.reduceToNat, Nat.reduceAdd, Nat.reduceMul, Nat.reduceSub, Nat.reduceLeDiff, Nat.reduceLT, Nat.reduceEqDiff, reduceIte, Nat.zero_le, Nat.le_refl, Nat.add_zero, Nat.zero_add, xwT hT, xwV hV]
        refine xw_ng_6 (el := el) (n := qu k) hT hm hM qk.1 ⟨hk, by omega⟩ (m - 1).toNat 0 w tk qu en _ hVw hOw.1 w1 (by omega) (by omega) (by omega) (by rw [w2 529 (by omega)]; exact ht) (by rw [w2 528 (by omega)]; exact hq) hI qk.2 ⟨by omega, rfl⟩ hlo ?_
        intro y l8 l9 y1 y2 y3 y4 y5
        refine ih (k + 1) y _ _ _ l8 l9 (hVw.fr (fun a ha => y1 a (fun e => by subst e; revert ha; decide) (fun e => by subst e; revert ha; decide) (fun e => by subst e; revert ha; decide))) (hOw.fr (by rw [y1 400 (by omega) (by omega) (by omega)]) (y1 526 (by omega) (by omega) (by omega))) (by omega) (by omega) y2 y3 y4 y5 ?_
        intro u hu
        exact hQ u (fun a a1 a2 a3 => by rw [hu a a1 a2 a3, y1 a a1 a2 a3, w2 a a1])
      have hb2 : b = -1 ∨ (0 ≤ p ∧ p < 6) := by omega
      have ho2 : o = -1 ∨ (0 ≤ q ∧ q < 6) := by omega
      have wb : (b = -1 ∨ w 527 p = b) ↔ (b = -1 ∨ el (dec m (qu k) p) = b) := by
        rcases hb with c | c
        · exact ⟨fun _ => Or.inl c, fun _ => Or.inl c⟩
        · rw [w1 p c.1 c.2]
      have wq : (o = -1 ∨ w 527 q = o) ↔ (o = -1 ∨ el (dec m (qu k) q) = o) := by
        rcases ho with c | c
        · exact ⟨fun _ => Or.inl c, fun _ => Or.inl c⟩
        · rw [w1 q c.1 c.2]
      have w29 : w 529 = v 529 := w2 529 (by omega)
      have w28 : w 528 = v 528 := w2 528 (by omega)
      have hV0 := hV
      have hV := hVw
      simp (disch := (first | decide | omega)) only [jxs, hps, jtsw, jlsw, List.length_cons, List.length_nil, true_and, and_true, true_implies, false_implies, implies_true, not_true_eq_false, not_false_eq_true, false_and, and_false, if_true, if_false, or_true, true_or, or_false, false_or, Classical.not_not, and_self, Int.reduceAdd, Int.reduceMul, Int.reduceSub, Int.reduceNeg, Int.reduceLT, Int.reduceLE, Int.reduceEq, Int.reduceNe, Int.reduceToNat, Nat.reduceAdd, Nat.reduceMul, Nat.reduceSub, Nat.reduceLeDiff, Nat.reduceLT, Nat.reduceEqDiff, reduceIte, Nat.zero_le, Nat.le_refl, Nat.add_zero, Nat.zero_add, xwT hT, xwV hV]
      refine ⟨0, 0, ⟨by omega, by omega⟩, xw_stands (d := d + 7) hT hV hb2 ⟨fun h1 => ?_, fun h1 => ?_⟩⟩
      · simp (disch := (first | decide | omega)) only [jxs, hps, jtsw, jlsw, List.length_cons, List.length_nil, true_and, and_true, true_implies, false_implies, implies_true, not_true_eq_false, not_false_eq_true, false_and, and_false, if_true, if_false, or_true, true_or, or_false, false_or, Classical.not_not, and_self, Int.reduceAdd, Int.reduceMul, Int.reduceSub, Int.reduceNeg, Int.reduceLT, Int.reduceLE, Int.reduceEq, Int.reduceNe, Int.reduceToNat, Nat.reduceAdd, Nat.reduceMul, Nat.reduceSub, Nat.reduceLeDiff, Nat.reduceLT, Nat.reduceEqDiff, reduceIte, Nat.zero_le, Nat.le_refl, Nat.add_zero, Nat.zero_add, xwT hT, xwV hV]
        refine ⟨0, 0, ⟨by omega, by omega⟩, xw_stands (d := d + 7) hT hV ho2 ⟨fun h2 => ?_, fun h2 => ?_⟩⟩
        · rw [if_pos ⟨wb.1 h1, wq.1 h2⟩] at hQ
          simp (disch := (first | decide | omega)) only [jxs, hps, jtsw, jlsw, List.length_cons, List.length_nil, true_and, and_true, true_implies, false_implies, implies_true, not_true_eq_false, not_false_eq_true, false_and, and_false, if_true, if_false, or_true, true_or, or_false, false_or, Classical.not_not, and_self, Int.reduceAdd, Int.reduceMul, Int.reduceSub, Int.reduceNeg, Int.reduceLT, Int.reduceLE, Int.reduceEq, Int.reduceNe, Int.reduceToNat, Nat.reduceAdd, Nat.reduceMul, Nat.reduceSub, Nat.reduceLeDiff, Nat.reduceLT, Nat.reduceEqDiff, reduceIte, Nat.zero_le, Nat.le_refl, Nat.add_zero, Nat.zero_add, xwT hT, xwV hV, w29, w28]
          (repeat (refine And.intro (by (first | omega | assumption | trivial | (simp only [inI]; omega) | (simp only [inL]; omega) | (refine jb_01) | (exact jb_in))) ?_))
          rw [e1]
          (repeat (refine And.intro (by (first | omega | assumption | trivial | (simp only [inI]; omega) | (simp only [inL]; omega) | (refine jb_01) | (exact jb_in))) ?_))
          rw [e2]
          exact hQ w (fun a a1 _ _ => w2 a a1)
        · simp (disch := (first | decide | omega)) only [jxs, hps, jtsw, jlsw, List.length_cons, List.length_nil, true_and, and_true, true_implies, false_implies, implies_true, not_true_eq_false, not_false_eq_true, false_and, and_false, if_true, if_false, or_true, true_or, or_false, false_or, Classical.not_not, and_self, Int.reduceAdd, Int.reduceMul, Int.reduceSub, Int.reduceNeg, Int.reduceLT, Int.reduceLE, Int.reduceEq, Int.reduceNe, Int.reduceToNat, Nat.reduceAdd, Nat.reduceMul, Nat.reduceSub, Nat.reduceLeDiff, Nat.reduceLT, Nat.reduceEqDiff, reduceIte, Nat.zero_le, Nat.le_refl, Nat.add_zero, Nat.zero_add, xwT hT, xwV hV]
          exact k5 (fun hh => h2 (wq.2 hh.2))
      · simp (disch := (first | decide | omega)) only [jxs, hps, jtsw, jlsw, List.length_cons, List.length_nil, true_and, and_true, true_implies, false_implies, implies_true, not_true_eq_false, not_false_eq_true, false_and, and_false, if_true, if_false, or_true, true_or, or_false, false_or, Classical.not_not, and_self, Int.reduceAdd, Int.reduceMul, Int.reduceSub, Int.reduceNeg, Int.reduceLT, Int.reduceLE, Int.reduceEq, Int.reduceNe, Int.reduceToNat, Nat.reduceAdd, Nat.reduceMul, Nat.reduceSub, Nat.reduceLeDiff, Nat.reduceLT, Nat.reduceEqDiff, reduceIte, Nat.zero_le, Nat.le_refl, Nat.add_zero, Nat.zero_add, xwT hT, xwV hV]
        exact k5 (fun hh => h1 (wb.2 hh.1))
theorem xw_ng_3 {s b p o q m : Int} (hT : PT T) (hs : 0 ≤ s ∧ s < 3) (h13 : A (13 + s) = m) (hm : m ≤ 6) (l7 l8 l9 : Option jjV) : ∀ (r : Nat) (k : Int) (v : Int → Int → Int), PV v → CI (v, T) A X → v 400 13 = m → 0 ≤ k → k + r = m → EQm k (v 527) (fun x => A (16 + 10 * s + x)) →
    (∀ w, (∀ a, a ≠ 527 → w a = v a) → PV w → CI (w, T) A X → EQm m (w 527) (fun x => A (16 + 10 * s + x)) → jW bX0_nudges (g, d + 8, 0, 0, Q) 3 [some (vR 400), some (vI s), some (vI b), some (vI p), some (vI o), some (vI q), some (vI m), l7, l8, l9] [] (w, T) 0 0) →
    jW bX0_nudges (g, d + 8, 0, 0, Q) 3 [some (vR 400), some (vI s), some (vI b), some (vI p), some (vI o), some (vI q), some (vI k), l7, l8, l9] [] (v, T) 0 0 := by
  intro r
  induction r with
  | zero =>
    intro k v hV hC hv hk hr hE hQ
    have := hQ v (fun _ _ => rfl) hV hC (by rwa [show m = k by omega])
    rwa [show m = k by omega] at this
  | succ r ih =>
    intro k v hV hC hv hk hr hE hQ
    refine jW_step ?_
    simp (disch := (first | decide | omega)) only [bX0_nudges, jxs, hps, jtsw, jlsw, List.length_cons, List.length_nil, true_and, and_true, true_implies, false_implies, implies_true, not_true_eq_false, not_false_eq_true, false_and, and_false, if_true, if_false, or_true, true_or, or_false, false_or, Classical.not_not, and_self, Int.reduceAdd, Int.reduceMul, Int.reduceSub, Int.reduceNeg, Int.reduceLT, Int.reduceLE, Int.reduceEq, Int.reduceNe, Int.reduceToNat, Nat.reduceAdd, Nat.reduceMul, Nat.reduceSub, Nat.reduceLeDiff, Nat.reduceLT, Nat.reduceEqDiff, reduceIte, Nat.zero_le, Nat.le_refl, Nat.add_zero, Nat.zero_add, xwT hT, xwV hV, hv]
    (first | refine ⟨fun h9 => (by exfalso; omega), fun _ => ?_⟩ | intro _)
    refine ⟨0, 0, ⟨by omega, by omega⟩, xw_bookAt hT hV hC hs ⟨hk, by omega⟩ ?_⟩
    simp (disch := (first | decide | omega)) only [jxs, hps, jtsw, jlsw, List.length_cons, List.length_nil, true_and, and_true, true_implies, false_implies, implies_true, not_true_eq_false, not_false_eq_true, false_and, and_false, if_true, if_false, or_true, true_or, or_false, false_or, Classical.not_not, and_self, Int.reduceAdd, Int.reduceMul, Int.reduceSub, Int.reduceNeg, Int.reduceLT, Int.reduceLE, Int.reduceEq, Int.reduceNe, Int.reduceToNat, Nat.reduceAdd, Nat.reduceMul, Nat.reduceSub, Nat.reduceLeDiff, Nat.reduceLT, Nat.reduceEqDiff, reduceIte, Nat.zero_le, Nat.le_refl, Nat.add_zero, Nat.zero_add, xwT hT, xwV hV]
    (repeat (refine And.intro (by (first | omega | assumption | trivial | (simp only [inI]; omega) | (simp only [inL]; omega) | (refine jb_01) | (exact jb_in))) ?_))
    have j1 : jkK v (upA v 527 (up1 (v 527) k (A (16 + 10 * s + k)))) := jkK.up hV hC.nm (by omega)
    refine ih (k + 1) _ j1.pv (j1.ci hC) (by rw [upA_ne (by omega)]; exact hv) (by omega) (by omega) ?_ ?_
    · rw [upA_eq]
      intro i i0 i1
      by_cases e : i = k
      · rw [e, up1_eq]
      · rw [up1_ne e]; exact hE i i0 (by omega)
    · intro w w1
      exact hQ w (fun a ha => (w1 a ha).trans (upA_ne ha))
theorem xw_nudges {s b p o q : Int} {v : Int → Int → Int} (hT : PT T) (hV : PV v) (hC : CI (v, T) A X) (hH : SH A) (hQ : ∀ w, jkK v w → Q (.inl (some (vI (ndgA A s b p o q)))) (w, T)) : jmet g (d + 9) 0 0 MX0_nudges [vR 400, vI s, vI b, vI p, vI o, vI q] (v, T) Q := by
  have hE := hC.tb
  have h0 := hE.1
  refine jmet_of (ls := [some (vR 400), some (vI s), some (vI b), some (vI p), some (vI o), some (vI q), none, none, none, none]) sX0_nudges rfl (by decide +kernel) (by decide) rfl (by simp [jent]) ?_
  have k2 : ndgA A s b p o q = -1 → ∀ w l6, jkK v w → jW bX0_nudges (g, d + 8, 0, 0, Q) 2 [some (vR 400), some (vI s), some (vI b), some (vI p), some (vI o), some (vI q), l6, none, none, none] [] (w, T) 0 0 := by
    intro e w l6 hw
    rw [e] at hQ
    have hV := hw.pv
    refine jW_step ?_
    simp (disch := (first | decide | omega)) only [bX0_nudges, jxs, hps, jtsw, jlsw, List.length_cons, List.length_nil, true_and, and_true, true_implies, false_implies, implies_true, not_true_eq_false, not_false_eq_true, false_and, and_false, if_true, if_false, or_true, true_or, or_false, false_or, Classical.not_not, and_self, Int.reduceAdd, Int.reduceMul, Int.reduceSub, Int.reduceNeg, Int.reduceLT, Int.reduceLE, Int.reduceEq, Int.reduceNe, Int.reduceToNat, Nat.reduceAdd, Nat.reduceMul, Nat.reduceSub, Nat.reduceLeDiff, Nat.reduceLT, Nat.reduceEqDiff, reduceIte, Nat.zero_le, Nat.le_refl, Nat.add_zero, Nat.zero_add, xwT hT, xwV hV]
    (repeat (refine And.intro (by (first | omega | assumption | trivial | (simp only [inI]; omega) | (simp only [inL]; omega) | (refine jb_01) | (exact jb_in))) ?_))
    exact hQ w hw
  have rf := jkK.rf hV hC.nm
  unfold ndgA at hQ k2
  have k1 : (0 ≤ s ∧ s ≤ 2) → ithP A b s p → (o = -1 ∨ (o ≠ b ∧ ithP A o s q)) → jW bX0_nudges (g, d + 8, 0, 0, Q) 1 [some (vR 400), some (vI s), some (vI b), some (vI p), some (vI o), some (vI q), none, none, none, none] [] (v, T) 0 0 := by
    intro hs hb ho
    have hs3 : 0 ≤ s ∧ s < 3 := ⟨hs.1, by omega⟩
    have sa := shs_all (X := X) hE hH hs3
    have ebc := elZ_bc (s := shsA A s) h0 sa.1.1 sa.1.2
    have hbp : 0 ≤ p ∧ p < A (13 + s) := by unfold ithP at hb; omega
    have hoq : o = -1 ∨ (0 ≤ q ∧ q < A (13 + s)) := by
      rcases ho with c | c
      · exact Or.inl c
      · exact Or.inr (by unfold ithP at c; omega)
    have s0 : 1 ≤ shsA A s := by
      by_cases c : shsA A s = 0
      · have b0 : bc 0 = 0 := by decide +kernel
        rw [c, b0] at ebc
        have := sa.2.1
        rw [c] at this
        omega
      · omega
    refine jW_step ?_
    simp (disch := (first | decide | omega)) only [bX0_nudges, jxs, hps, jtsw, jlsw, List.length_cons, List.length_nil, true_and, and_true, true_implies, false_implies, implies_true, not_true_eq_false, not_false_eq_true, false_and, and_false, if_true, if_false, or_true, true_or, or_false, false_or, Classical.not_not, and_self, Int.reduceAdd, Int.reduceMul, Int.reduceSub, Int.reduceNeg, Int.reduceLT, Int.reduceLE, Int.reduceEq, Int.reduceNe, Int.reduceToNat, Nat.reduceAdd, Nat.reduceMul, Nat.reduceSub, Nat.reduceLeDiff, Nat.reduceLT, Nat.reduceEqDiff, reduceIte, Nat.zero_le, Nat.le_refl, Nat.add_zero, Nat.zero_add, xwT hT, xwV hV]
    refine ⟨0, 0, ⟨by omega, by omega⟩, xw_setOf (d := d + 6) hT hV hC hs3 ?_⟩
    simp (disch := (first | decide | omega)) only [jxs, hps, jtsw, jlsw, List.length_cons, List.length_nil, true_and, and_true, true_implies, false_implies, implies_true, not_true_eq_false, not_false_eq_true, false_and, and_false, if_true, if_false, or_true, true_or, or_false, false_or, Classical.not_not, and_self, Int.reduceAdd, Int.reduceMul, Int.reduceSub, Int.reduceNeg, Int.reduceLT, Int.reduceLE, Int.reduceEq, Int.reduceNe, Int.reduceToNat, Nat.reduceAdd, Nat.reduceMul, Nat.reduceSub, Nat.reduceLeDiff, Nat.reduceLT, Nat.reduceEqDiff, reduceIte, Nat.zero_le, Nat.le_refl, Nat.add_zero, Nat.zero_add, xwT hT, xwV hV]
    refine ⟨0, 0, ⟨by omega, by omega⟩, xw_choose (d := d + 6) hT hV hC ⟨fun hz w hw e23 hO => ?_, fun hz w hw e23 => ?_⟩⟩
    · have h6 : A (13 + s) ≤ 6 := by have := hz.2; omega
      rw [if_pos ⟨hs, h6, hb, ho⟩] at hQ
      have fd := fst_dec hE hH hs3 h6
      have mon := elZ_MON (s := shsA A s) h0.1
      rw [sa.2.1] at hO mon
      unfold ndgS at hQ
      have hm := hE.2.2.2.2.2.1 (13 + s) (by omega) (by omega)
      have hf := fac_bd h6
      have hV0 := hV
      have hV := hw.pv
      simp (disch := (first | decide | omega)) only [jxs, hps, jtsw, jlsw, List.length_cons, List.length_nil, true_and, and_true, true_implies, false_implies, implies_true, not_true_eq_false, not_false_eq_true, false_and, and_false, if_true, if_false, or_true, true_or, or_false, false_or, Classical.not_not, and_self, Int.reduceAdd, Int.reduceMul, Int.reduceSub, Int.reduceNeg, Int.reduceLT, Int.reduceLE, Int.reduceEq, Int.reduceNe, Int.reduceToNat, Nat.reduceAdd, Nat.reduceMul, Nat.reduceSub, Nat.reduceLeDiff, Nat.reduceLT, Nat.reduceEqDiff, reduceIte, Nat.zero_le, Nat.le_refl, Nat.add_zero, Nat.zero_add, xwT hT, xwV hV]
      refine xw_ng_3 (A := A) (X := X) hT hs3 rfl h6 _ _ _ (A (13 + s)).toNat 0 w hV (hw.ci hC) hO.1 (by omega) (by omega) (fun i i0 i1 => by omega) ?_
      intro u u1 hVu hCu u27
      have hOu : CHO u (A (13 + s)) (elZ (A 0) (shsA A s)).1 := hO.fr (by rw [u1 400 (by omega)]) (u1 526 (by omega))
      have ju := hw.tr (jkK.o27 hV (hw.ci hC).nm u1)
      have eno : ooA (u 527) (A (13 + s)) = fstA A s := ooA_cg u27 hm.1
      have fb := fd.1
      have I0 := INV_0 ⟨hm.1, h6⟩ fb
      generalize fstA A s = f0 at *
      have hVw := hV
      have hV := hVu
      refine jW_step ?_
      simp (disch := (first | decide | omega)) only [bX0_nudges, jxs, hps, jtsw, jlsw, List.length_cons, List.length_nil, true_and, and_true, true_implies, false_implies, implies_true, not_true_eq_false, not_false_eq_true, false_and, and_false, if_true, if_false, or_true, true_or, or_false, false_or, Classical.not_not, and_self, Int.reduceAdd, Int.reduceMul, Int.reduceSub, Int.reduceNeg, Int.reduceLT, Int.reduceLE, Int.reduceEq, Int.reduceNe, Int.reduceToNat, Nat.reduceAdd, Nat.reduceMul, Nat.reduceSub, Nat.reduceLeDiff, Nat.reduceLT, Nat.reduceEqDiff, reduceIte, Nat.zero_le, Nat.le_refl, Nat.add_zero, Nat.zero_add, xwT hT, xwV hV, hOu.1]
      (try refine ⟨fun _ => ?_, fun h9 => (by exfalso; omega)⟩)
      refine ⟨0, 0, ⟨by omega, by omega⟩, xj_fill (d := d + 7) (pt_529 hT) (pl_529 hT) (by omega) (by omega) ?_⟩
      have y29 : (upA u 529 (fun i => if 0 ≤ i ∧ i < 720 then -1 else u 529 i)) 529 = (fun i => if 0 ≤ i ∧ i < 720 then -1 else u 529 i) := upA_eq
      have yo : ∀ a, a ≠ 529 → (upA u 529 (fun i => if 0 ≤ i ∧ i < 720 then -1 else u 529 i)) a = u a := fun a ha => upA_ne ha
      have hVy : PV (upA u 529 (fun i => if 0 ≤ i ∧ i < 720 then -1 else u 529 i)) := hVu.A (by decide)
      have jy : jkK u (upA u 529 (fun i => if 0 ≤ i ∧ i < 720 then -1 else u 529 i)) := jkK.up hVu hCu.nm (by omega)
      generalize upA u 529 (fun i => if 0 ≤ i ∧ i < 720 then -1 else u 529 i) = y at *
      have hV := hVy
      simp (disch := (first | decide | omega)) only [jxs, hps, jtsw, jlsw, List.length_cons, List.length_nil, true_and, and_true, true_implies, false_implies, implies_true, not_true_eq_false, not_false_eq_true, false_and, and_false, if_true, if_false, or_true, true_or, or_false, false_or, Classical.not_not, and_self, Int.reduceAdd, Int.reduceMul, Int.reduceSub, Int.reduceNeg, Int.reduceLT, Int.reduceLE, Int.reduceEq, Int.reduceNe, Int.reduceToNat, Nat.reduceAdd, Nat.reduceMul, Nat.reduceSub, Nat.reduceLeDiff, Nat.reduceLT, Nat.reduceEqDiff, reduceIte, Nat.zero_le, Nat.le_refl, Nat.add_zero, Nat.zero_add, xwT hT, xwV hV]
      refine ⟨0, 0, ⟨by omega, by omega⟩, xw_numberOf (d := d + 7) hT hV (by rw [yo 400 (by omega)]; exact hOu.1) ⟨hm.1, h6⟩ ?_⟩
      rw [yo 527 (by omega), eno]
      simp (disch := (first | decide | omega)) only [jxs, hps, jtsw, jlsw, List.length_cons, List.length_nil, true_and, and_true, true_implies, false_implies, implies_true, not_true_eq_false, not_false_eq_true, false_and, and_false, if_true, if_false, or_true, true_or, or_false, false_or, Classical.not_not, and_self, Int.reduceAdd, Int.reduceMul, Int.reduceSub, Int.reduceNeg, Int.reduceLT, Int.reduceLE, Int.reduceEq, Int.reduceNe, Int.reduceToNat, Nat.reduceAdd, Nat.reduceMul, Nat.reduceSub, Nat.reduceLeDiff, Nat.reduceLT, Nat.reduceEqDiff, reduceIte, Nat.zero_le, Nat.le_refl, Nat.add_zero, Nat.zero_add, xwT hT, xwV hV]
      (repeat (refine And.intro (by (first | omega | assumption | trivial | (simp only [inI]; omega) | (simp only [inL]; omega) | (refine jb_01) | (exact jb_in))) ?_))
      refine xw_ng_4 (el := (elZ (A 0) (shsA A s)).1) hT ⟨hm.1, h6⟩ mon (Or.inr hbp) hoq (fac (A (13 + s))).toNat 0 (upA (upA y 528 (up1 (y 528) 0 f0)) 529 (up1 (y 529) f0 0)) (up1 (fun _ => -1) f0 0) (up1 (fun _ => 0) 0 f0) 1 _ _ (by (first | assumption | (repeat (first | assumption | refine PV.A ?_ (by decide) | refine PV.F ?_ ?_ | refine twR.up ?_ (by decide) | refine PV.r ?_)))) (hOu.fr (by rw [upA_ne (by omega), upA_ne (by omega), yo 400 (by omega)]) (by rw [upA_ne (by omega), upA_ne (by omega), yo 526 (by omega)])) (by omega) (by omega) ?_ ?_ I0 ?_ ?_
      · rw [upA_eq]
        intro i i0 i1
        by_cases e : i = f0
        · rw [e, up1_eq, up1_eq]
        · rw [up1_ne e, up1_ne e, y29]
          exact if_pos ⟨i0, by omega⟩
      · rw [upA_ne (by omega), upA_eq]
        intro i i0 i1
        rw [show i = 0 by omega, up1_eq, up1_eq]
      · intro j j0 j1
        by_cases e : j = f0
        · rw [e, up1_eq]; omega
        · rw [up1_ne e]; omega
      · intro x hx
        have jz : jkK y (upA (upA y 528 (up1 (y 528) 0 f0)) 529 (up1 (y 529) f0 0)) := (jkK.up hVy (jy.ci hCu).nm (by omega)).tr (jkK.up (hVy.A (by decide)) (by rw [upA_ne (by omega)]; exact (jy.ci hCu).nm) (by omega))
        have jt := (ju.tr jy).tr jz
        have nmz := (jt.ci hC).nm
        have jx : jkK (upA (upA y 528 (up1 (y 528) 0 f0)) 529 (up1 (y 529) f0 0)) x := ⟨fun a a0 a1 => hx a (by omega) (by omega) (by omega), fun _ _ _ _ => by rw [hx 400 (by omega) (by omega) (by omega)], by rw [hx 522 (by omega) (by omega) (by omega)]; exact nmz, jt.pv.fr (fun a ha => hx a (fun e => by subst e; revert ha; decide) (fun e => by subst e; revert ha; decide) (fun e => by subst e; revert ha; decide))⟩
        exact hQ x (jt.tr jx)
    · have h6 : ¬ A (13 + s) ≤ 6 := fun c => hz ⟨⟨s0, by omega⟩, by rw [← ebc, sa.2.1]; exact c⟩
      have hV := hw.pv
      simp (disch := (first | decide | omega)) only [jxs, hps, jtsw, jlsw, List.length_cons, List.length_nil, true_and, and_true, true_implies, false_implies, implies_true, not_true_eq_false, not_false_eq_true, false_and, and_false, if_true, if_false, or_true, true_or, or_false, false_or, Classical.not_not, and_self, Int.reduceAdd, Int.reduceMul, Int.reduceSub, Int.reduceNeg, Int.reduceLT, Int.reduceLE, Int.reduceEq, Int.reduceNe, Int.reduceToNat, Nat.reduceAdd, Nat.reduceMul, Nat.reduceSub, Nat.reduceLeDiff, Nat.reduceLT, Nat.reduceEqDiff, reduceIte, Nat.zero_le, Nat.le_refl, Nat.add_zero, Nat.zero_add, xwT hT, xwV hV]
      exact k2 (if_neg (fun q => h6 q.2.1)) w _ hw
  refine jW_step ?_
  simp (disch := (first | decide | omega)) only [bX0_nudges, jxs, hps, jtsw, jlsw, List.length_cons, List.length_nil, true_and, and_true, true_implies, false_implies, implies_true, not_true_eq_false, not_false_eq_true, false_and, and_false, if_true, if_false, or_true, true_or, or_false, false_or, Classical.not_not, and_self, Int.reduceAdd, Int.reduceMul, Int.reduceSub, Int.reduceNeg, Int.reduceLT, Int.reduceLE, Int.reduceEq, Int.reduceNe, Int.reduceToNat, Nat.reduceAdd, Nat.reduceMul, Nat.reduceSub, Nat.reduceLeDiff, Nat.reduceLT, Nat.reduceEqDiff, reduceIte, Nat.zero_le, Nat.le_refl, Nat.add_zero, Nat.zero_add, xwT hT, xwV hV]
  refine ⟨0, 0, ⟨by omega, by omega⟩, xw_isShelf (d := d + 6) ?_⟩
  simp (disch := (first | decide | omega)) only [jxs, hps, jtsw, jlsw, List.length_cons, List.length_nil, true_and, and_true, true_implies, false_implies, implies_true, not_true_eq_false, not_false_eq_true, false_and, and_false, if_true, if_false, or_true, true_or, or_false, false_or, Classical.not_not, and_self, Int.reduceAdd, Int.reduceMul, Int.reduceSub, Int.reduceNeg, Int.reduceLT, Int.reduceLE, Int.reduceEq, Int.reduceNe, Int.reduceToNat, Nat.reduceAdd, Nat.reduceMul, Nat.reduceSub, Nat.reduceLeDiff, Nat.reduceLT, Nat.reduceEqDiff, reduceIte, Nat.zero_le, Nat.le_refl, Nat.add_zero, Nat.zero_add, xwT hT, xwV hV]
  refine ⟨fun h => ?_, fun h => ?_⟩
  · exact k2 (if_neg (fun q => h q.1)) v _ rf
  · have hs3 : 0 ≤ s ∧ s < 3 := ⟨h.1, by omega⟩
    refine ⟨0, 0, ⟨by omega, by omega⟩, xw_isPlaced (d := d + 4) hT hV hC hs3 ⟨fun hb => ?_, fun hb => ?_⟩⟩
    · simp (disch := (first | decide | omega)) only [jxs, hps, jtsw, jlsw, List.length_cons, List.length_nil, true_and, and_true, true_implies, false_implies, implies_true, not_true_eq_false, not_false_eq_true, false_and, and_false, if_true, if_false, or_true, true_or, or_false, false_or, Classical.not_not, and_self, Int.reduceAdd, Int.reduceMul, Int.reduceSub, Int.reduceNeg, Int.reduceLT, Int.reduceLE, Int.reduceEq, Int.reduceNe, Int.reduceToNat, Nat.reduceAdd, Nat.reduceMul, Nat.reduceSub, Nat.reduceLeDiff, Nat.reduceLT, Nat.reduceEqDiff, reduceIte, Nat.zero_le, Nat.le_refl, Nat.add_zero, Nat.zero_add, xwT hT, xwV hV]
      refine ⟨fun h2 => ?_, fun h2 => ?_⟩
      · refine k2 (if_neg (fun q => ?_)) v _ rf
        rcases q.2.2.2 with c | c
        · unfold ithP at hb; omega
        · exact c.1 h2
      · refine ⟨fun h3 => ?_, fun h3 => ?_⟩
        · exact k1 h hb (Or.inl h3)
        · refine ⟨0, 0, ⟨by omega, by omega⟩, xw_isPlaced (d := d + 4) hT hV hC hs3 ⟨fun ho => ?_, fun ho => ?_⟩⟩
          · simp (disch := (first | decide | omega)) only [jxs, hps, jtsw, jlsw, List.length_cons, List.length_nil, true_and, and_true, true_implies, false_implies, implies_true, not_true_eq_false, not_false_eq_true, false_and, and_false, if_true, if_false, or_true, true_or, or_false, false_or, Classical.not_not, and_self, Int.reduceAdd, Int.reduceMul, Int.reduceSub, Int.reduceNeg, Int.reduceLT, Int.reduceLE, Int.reduceEq, Int.reduceNe, Int.reduceToNat, Nat.reduceAdd, Nat.reduceMul, Nat.reduceSub, Nat.reduceLeDiff, Nat.reduceLT, Nat.reduceEqDiff, reduceIte, Nat.zero_le, Nat.le_refl, Nat.add_zero, Nat.zero_add, xwT hT, xwV hV]
            exact k1 h hb (Or.inr ⟨h2, ho⟩)
          · simp (disch := (first | decide | omega)) only [jxs, hps, jtsw, jlsw, List.length_cons, List.length_nil, true_and, and_true, true_implies, false_implies, implies_true, not_true_eq_false, not_false_eq_true, false_and, and_false, if_true, if_false, or_true, true_or, or_false, false_or, Classical.not_not, and_self, Int.reduceAdd, Int.reduceMul, Int.reduceSub, Int.reduceNeg, Int.reduceLT, Int.reduceLE, Int.reduceEq, Int.reduceNe, Int.reduceToNat, Nat.reduceAdd, Nat.reduceMul, Nat.reduceSub, Nat.reduceLeDiff, Nat.reduceLT, Nat.reduceEqDiff, reduceIte, Nat.zero_le, Nat.le_refl, Nat.add_zero, Nat.zero_add, xwT hT, xwV hV]
            exact k2 (if_neg (fun q => by rcases q.2.2.2 with c | c; · exact h3 c
                                          · exact ho c.2)) v _ rf
    · simp (disch := (first | decide | omega)) only [jxs, hps, jtsw, jlsw, List.length_cons, List.length_nil, true_and, and_true, true_implies, false_implies, implies_true, not_true_eq_false, not_false_eq_true, false_and, and_false, if_true, if_false, or_true, true_or, or_false, false_or, Classical.not_not, and_self, Int.reduceAdd, Int.reduceMul, Int.reduceSub, Int.reduceNeg, Int.reduceLT, Int.reduceLE, Int.reduceEq, Int.reduceNe, Int.reduceToNat, Nat.reduceAdd, Nat.reduceMul, Nat.reduceSub, Nat.reduceLeDiff, Nat.reduceLT, Nat.reduceEqDiff, reduceIte, Nat.zero_le, Nat.le_refl, Nat.add_zero, Nat.zero_add, xwT hT, xwV hV]
      exact k2 (if_neg (fun q => hb q.2.2.1)) v _ rf
end XG
