/-! ===== the class: about, dust's laws ===== -/
-- MODE X
set_option maxRecDepth 100000
theorem PVdu {v : Int → Int → Int} (hV : PV v) {k : Int} (h : 0 ≤ k ∧ k < 12) : v 416 k = 417 + k := by
  have key : ∀ b : Fin 12, ((416 : Int), ((b.val : Nat) : Int), (417 : Int) + b.val) ∈ pvL := by decide
  have := hV _ (key ⟨k.toNat, by omega⟩)
  dsimp only at this
  rwa [show ((k.toNat : Nat) : Int) = k by omega] at this
theorem PTdu {T : jjT} (hT : PT T) {k : Int} (h : 0 ≤ k ∧ k < 12) : jok T (417 + k) (-1) ∧ jln T (417 + k) = 4 := by
  have key : ∀ b : Fin 12, ((417 : Int) + b.val, (-1 : Int), (4 : Int)) ∈ ptL := by decide
  have m := key ⟨k.toNat, by omega⟩
  dsimp only at m
  rw [show ((k.toNat : Nat) : Int) = k by omega] at m
  exact ⟨hT.ok _ _ _ m, hT.ln _ _ _ m⟩
/-- the dust's books are books -/
def DU (A : Int → Int) : Prop := ∀ k, 0 ≤ k → k < A 8 → (0 ≤ A (106 + 4 * k) ∧ A (106 + 4 * k) < A 0) ∧ (0 ≤ A (106 + 4 * k + 1) ∧ A (106 + 4 * k + 1) < A 0) ∧ (0 ≤ A (106 + 4 * k + 2) ∧ A (106 + 4 * k + 2) ≤ 1) ∧ (0 ≤ A (106 + 4 * k + 3) ∧ A (106 + 4 * k + 3) ≤ 1)
section XG
variable {g : jjG} {d : Nat} {T : jjT} {Q : jjQ} {A X : Int → Int}
theorem xw_onFloor_1 {v : Int → Int → Int} (hT : PT T) (hV : PV v) (hC : CI (v, T) A X) (hQ : Q (.inl (some (vI (gat (fun b => decide (A (46 + 6 * b + 5) = 4)) (A 0).toNat)))) (v, T)) : ∀ (n k : Nat), A 0 = ((k + n : Nat) : Int) →
    jW bX0_onFloor (g, d + 1, 0, 0, Q) 1 [some (vR 400), some (vI (gat (fun b => decide (A (46 + 6 * b + 5) = 4)) k)), some (vI (k : Int))] [] (v, T) 0 0 := by
  have h0 := hC.tb.1
  intro n
  induction n with
  | zero =>
    intro k hk
    have e : (A 0).toNat = k := by omega
    rw [e] at hQ
    have gb := gat_in (p := fun b => decide (A (46 + 6 * b + 5) = 4)) (n := k) (by omega)
    refine jW_step ?_
    simp (disch := (first | decide | omega)) only [bX0_onFloor, jxs, hps, jtsw, jlsw, List.length_cons, List.length_nil, true_and, and_true, true_implies, false_implies, implies_true, not_true_eq_false, not_false_eq_true, false_and, and_false, if_true, if_false, or_true, true_or, or_false, false_or, Classical.not_not, and_self, Int.reduceAdd, Int.reduceMul, Int.reduceSub, Int.reduceNeg, Int.reduceLT, Int.reduceLE, Int.reduceEq, Int.reduceNe, Int.reduceToNat, Nat.reduceAdd, Nat.reduceMul, Nat.reduceSub, Nat.reduceLeDiff, Nat.reduceLT, Nat.reduceEqDiff, reduceIte, Nat.zero_le, Nat.le_refl, Nat.add_zero, Nat.zero_add, xwT hT, xwV hV, hC.n0]
    (repeat (refine And.intro (by (first | omega | assumption | trivial | (simp only [inI]; omega) | (simp only [inL]; omega) | (refine jb_01) | (exact jb_in))) ?_))
    (try refine ⟨fun _ => ?_, fun h9 => (by exfalso; omega)⟩)
    (repeat (refine And.intro (by (first | omega | assumption | trivial | (simp only [inI]; omega) | (simp only [inL]; omega) | (refine jb_01) | (exact jb_in))) ?_))
    exact hQ
  | succ n ih =>
    intro k hk
    have gb := gat_in (p := fun b => decide (A (46 + 6 * b + 5) = 4)) (n := k) (by omega)
    have k2 : ∀ z, z = (if decide (A (46 + 6 * (k : Int) + 5) = 4) then 2 ^ k else 0) → jW bX0_onFloor (g, d + 1, 0, 0, Q) 2 [some (vR 400), some (vI (gat (fun b => decide (A (46 + 6 * b + 5) = 4)) k)), some (vI (k : Int))] [vI z, vI (gat (fun b => decide (A (46 + 6 * b + 5) = 4)) k)] (v, T) 0 0 := by
      intro z hz
      have e := gat_jor (p := fun b => decide (A (46 + 6 * b + 5) = 4)) (n := k) (by omega) hz
      refine jW_step ?_
      simp (disch := (first | decide | omega)) only [bX0_onFloor, jxs, hps, jtsw, jlsw, List.length_cons, List.length_nil, true_and, and_true, true_implies, false_implies, implies_true, not_true_eq_false, not_false_eq_true, false_and, and_false, if_true, if_false, or_true, true_or, or_false, false_or, Classical.not_not, and_self, Int.reduceAdd, Int.reduceMul, Int.reduceSub, Int.reduceNeg, Int.reduceLT, Int.reduceLE, Int.reduceEq, Int.reduceNe, Int.reduceToNat, Nat.reduceAdd, Nat.reduceMul, Nat.reduceSub, Nat.reduceLeDiff, Nat.reduceLT, Nat.reduceEqDiff, reduceIte, Nat.zero_le, Nat.le_refl, Nat.add_zero, Nat.zero_add, xwT hT, xwV hV]
      (repeat (refine And.intro (by (first | omega | assumption | trivial | (simp only [inI]; omega) | (simp only [inL]; omega) | (refine jb_01) | (exact jb_in))) ?_))
      rw [e]
      have nx := ih (k + 1) (by omega)
      rw [show ((k + 1 : Nat) : Int) = (k : Int) + 1 by omega] at nx
      exact nx
    refine jW_step ?_
    simp (disch := (first | decide | omega)) only [bX0_onFloor, jxs, hps, jtsw, jlsw, List.length_cons, List.length_nil, true_and, and_true, true_implies, false_implies, implies_true, not_true_eq_false, not_false_eq_true, false_and, and_false, if_true, if_false, or_true, true_or, or_false, false_or, Classical.not_not, and_self, Int.reduceAdd, Int.reduceMul, Int.reduceSub, Int.reduceNeg, Int.reduceLT, Int.reduceLE, Int.reduceEq, Int.reduceNe, Int.reduceToNat, Nat.reduceAdd, Nat.reduceMul, Nat.reduceSub, Nat.reduceLeDiff, Nat.reduceLT, Nat.reduceEqDiff, reduceIte, Nat.zero_le, Nat.le_refl, Nat.add_zero, Nat.zero_add, xwT hT, xwV hV, hC.n0]
    (repeat (refine And.intro (by (first | omega | assumption | trivial | (simp only [inI]; omega) | (simp only [inL]; omega) | (refine jb_01) | (exact jb_in))) ?_))
    (first | refine ⟨fun h9 => (by exfalso; omega), fun _ => ?_⟩ | intro _)
    refine ⟨0, 0, ⟨by omega, by omega⟩, xw_whereIs hT hV hC (by omega) ?_⟩
    simp (disch := (first | decide | omega)) only [jxs, hps, jtsw, jlsw, List.length_cons, List.length_nil, true_and, and_true, true_implies, false_implies, implies_true, not_true_eq_false, not_false_eq_true, false_and, and_false, if_true, if_false, or_true, true_or, or_false, false_or, Classical.not_not, and_self, Int.reduceAdd, Int.reduceMul, Int.reduceSub, Int.reduceNeg, Int.reduceLT, Int.reduceLE, Int.reduceEq, Int.reduceNe, Int.reduceToNat, Nat.reduceAdd, Nat.reduceMul, Nat.reduceSub, Nat.reduceLeDiff, Nat.reduceLT, Nat.reduceEqDiff, reduceIte, Nat.zero_le, Nat.le_refl, Nat.add_zero, Nat.zero_add, xwT hT, xwV hV]
    refine ⟨fun h => ?_, fun h => ?_⟩
    · exact k2 0 (by rw [if_neg (by simpa using h)])
    · rw [jshl_1 (by omega) (by omega)]
      exact k2 _ (by rw [if_pos (by simpa using h), show ((k : Int)).toNat = k by omega])
theorem xw_onFloor {v : Int → Int → Int} (hT : PT T) (hV : PV v) (hC : CI (v, T) A X) (hQ : Q (.inl (some (vI (gat (fun b => decide (A (46 + 6 * b + 5) = 4)) (A 0).toNat)))) (v, T)) : jmet g (d + 2) 0 0 MX0_onFloor [vR 400] (v, T) Q := by
  have h0 := hC.tb.1
  refine jmet_of (ls := [some (vR 400), none, none]) sX0_onFloor rfl (by decide +kernel) (by decide) rfl (by simp [jent]) ?_
  refine jW_step ?_
  simp (disch := (first | decide | omega)) only [bX0_onFloor, jxs, hps, jtsw, jlsw, List.length_cons, List.length_nil, true_and, and_true, true_implies, false_implies, implies_true, not_true_eq_false, not_false_eq_true, false_and, and_false, if_true, if_false, or_true, true_or, or_false, false_or, Classical.not_not, and_self, Int.reduceAdd, Int.reduceMul, Int.reduceSub, Int.reduceNeg, Int.reduceLT, Int.reduceLE, Int.reduceEq, Int.reduceNe, Int.reduceToNat, Nat.reduceAdd, Nat.reduceMul, Nat.reduceSub, Nat.reduceLeDiff, Nat.reduceLT, Nat.reduceEqDiff, reduceIte, Nat.zero_le, Nat.le_refl, Nat.add_zero, Nat.zero_add, xwT hT, xwV hV]
  exact xw_onFloor_1 hT hV hC hQ (A 0).toNat 0 (by omega)
theorem xw_about {w : Int} {v : Int → Int → Int} (hT : PT T) (hV : PV v) (hC : CI (v, T) A X) (hQ : Q (.inl (some (vI (abA A (v 400 3) w)))) (v, T)) : jmet g (d + 3) 0 0 MX0_about [vR 400, vI w] (v, T) Q := by
  have hB := hC.tb
  unfold abA at hQ
  refine jmet_of (ls := [some (vR 400), some (vI w)]) sX0_about rfl (by decide +kernel) (by decide) rfl (by simp [jent]) ?_
  by_cases h9 : w = 9
  · rw [if_pos h9] at hQ
    rw [h9]
    refine jW_step ?_
    simp (disch := (first | decide | omega)) only [bX0_about, jxs, hps, jtsw, jlsw, List.length_cons, List.length_nil, true_and, and_true, true_implies, false_implies, implies_true, not_true_eq_false, not_false_eq_true, false_and, and_false, if_true, if_false, or_true, true_or, or_false, false_or, Classical.not_not, and_self, Int.reduceAdd, Int.reduceMul, Int.reduceSub, Int.reduceNeg, Int.reduceLT, Int.reduceLE, Int.reduceEq, Int.reduceNe, Int.reduceToNat, Nat.reduceAdd, Nat.reduceMul, Nat.reduceSub, Nat.reduceLeDiff, Nat.reduceLT, Nat.reduceEqDiff, reduceIte, Nat.zero_le, Nat.le_refl, Nat.add_zero, Nat.zero_add, xwT hT, xwV hV]
    refine ⟨?_, fun h => (by exfalso; omega)⟩
    refine ⟨0, 0, ⟨by omega, by omega⟩, xw_onFloor hT hV hC ?_⟩
    have gb := gat_in (p := fun b => decide (A (46 + 6 * b + 5) = 4)) (n := (A 0).toNat) (by have := hB.1; omega)
    simp (disch := (first | decide | omega)) only [jxs, hps, jtsw, jlsw, List.length_cons, List.length_nil, true_and, and_true, true_implies, false_implies, implies_true, not_true_eq_false, not_false_eq_true, false_and, and_false, if_true, if_false, or_true, true_or, or_false, false_or, Classical.not_not, and_self, Int.reduceAdd, Int.reduceMul, Int.reduceSub, Int.reduceNeg, Int.reduceLT, Int.reduceLE, Int.reduceEq, Int.reduceNe, Int.reduceToNat, Nat.reduceAdd, Nat.reduceMul, Nat.reduceSub, Nat.reduceLeDiff, Nat.reduceLT, Nat.reduceEqDiff, reduceIte, Nat.zero_le, Nat.le_refl, Nat.add_zero, Nat.zero_add, xwT hT, xwV hV]
    (repeat (refine And.intro (by (first | omega | assumption | trivial | (simp only [inI]; omega) | (simp only [inL]; omega) | (refine jb_01) | (exact jb_in))) ?_))
    exact hQ
  · rw [if_neg h9] at hQ
    by_cases h8 : 0 ≤ w ∧ w ≤ 8
    · rw [if_pos h8] at hQ
      have : w = 0 ∨ w = 1 ∨ w = 2 ∨ w = 3 ∨ w = 4 ∨ w = 5 ∨ w = 6 ∨ w = 7 ∨ w = 8 := by omega
      have c7 := hC.2.2.2.2.2.1
      have c8 := hC.2.2.2.2.2.2.1
      rcases this with e | e | e | e | e | e | e | e | e
      · rw [e] at hQ ⊢
        refine jW_step ?_
        simp (disch := (first | decide | omega)) only [bX0_about, jxs, hps, jtsw, jlsw, List.length_cons, List.length_nil, true_and, and_true, true_implies, false_implies, implies_true, not_true_eq_false, not_false_eq_true, false_and, and_false, if_true, if_false, or_true, true_or, or_false, false_or, Classical.not_not, and_self, Int.reduceAdd, Int.reduceMul, Int.reduceSub, Int.reduceNeg, Int.reduceLT, Int.reduceLE, Int.reduceEq, Int.reduceNe, Int.reduceToNat, Nat.reduceAdd, Nat.reduceMul, Nat.reduceSub, Nat.reduceLeDiff, Nat.reduceLT, Nat.reduceEqDiff, reduceIte, Nat.zero_le, Nat.le_refl, Nat.add_zero, Nat.zero_add, xwT hT, xwV hV, hC.n0]
        refine ⟨?_, fun h => (by exfalso; omega)⟩
        (repeat (refine And.intro (by (first | omega | assumption | trivial | (simp only [inI]; omega) | (simp only [inL]; omega) | (refine jb_01) | (exact jb_in))) ?_))
        exact hQ
      · rw [e] at hQ ⊢
        refine jW_step ?_
        simp (disch := (first | decide | omega)) only [bX0_about, jxs, hps, jtsw, jlsw, List.length_cons, List.length_nil, true_and, and_true, true_implies, false_implies, implies_true, not_true_eq_false, not_false_eq_true, false_and, and_false, if_true, if_false, or_true, true_or, or_false, false_or, Classical.not_not, and_self, Int.reduceAdd, Int.reduceMul, Int.reduceSub, Int.reduceNeg, Int.reduceLT, Int.reduceLE, Int.reduceEq, Int.reduceNe, Int.reduceToNat, Nat.reduceAdd, Nat.reduceMul, Nat.reduceSub, Nat.reduceLeDiff, Nat.reduceLT, Nat.reduceEqDiff, reduceIte, Nat.zero_le, Nat.le_refl, Nat.add_zero, Nat.zero_add, xwT hT, xwV hV, hC.ni]
        refine ⟨?_, fun h => (by exfalso; omega)⟩
        (repeat (refine And.intro (by (first | omega | assumption | trivial | (simp only [inI]; omega) | (simp only [inL]; omega) | (refine jb_01) | (exact jb_in))) ?_))
        exact hQ
      · rw [e] at hQ ⊢
        refine jW_step ?_
        simp (disch := (first | decide | omega)) only [bX0_about, jxs, hps, jtsw, jlsw, List.length_cons, List.length_nil, true_and, and_true, true_implies, false_implies, implies_true, not_true_eq_false, not_false_eq_true, false_and, and_false, if_true, if_false, or_true, true_or, or_false, false_or, Classical.not_not, and_self, Int.reduceAdd, Int.reduceMul, Int.reduceSub, Int.reduceNeg, Int.reduceLT, Int.reduceLE, Int.reduceEq, Int.reduceNe, Int.reduceToNat, Nat.reduceAdd, Nat.reduceMul, Nat.reduceSub, Nat.reduceLeDiff, Nat.reduceLT, Nat.reduceEqDiff, reduceIte, Nat.zero_le, Nat.le_refl, Nat.add_zero, Nat.zero_add, xwT hT, xwV hV, hC.wet]
        refine ⟨?_, fun h => (by exfalso; omega)⟩
        (repeat (refine And.intro (by (first | omega | assumption | trivial | (simp only [inI]; omega) | (simp only [inL]; omega) | (refine jb_01) | (exact jb_in))) ?_))
        exact hQ
      · rw [e] at hQ ⊢
        refine jW_step ?_
        simp (disch := (first | decide | omega)) only [bX0_about, jxs, hps, jtsw, jlsw, List.length_cons, List.length_nil, true_and, and_true, true_implies, false_implies, implies_true, not_true_eq_false, not_false_eq_true, false_and, and_false, if_true, if_false, or_true, true_or, or_false, false_or, Classical.not_not, and_self, Int.reduceAdd, Int.reduceMul, Int.reduceSub, Int.reduceNeg, Int.reduceLT, Int.reduceLE, Int.reduceEq, Int.reduceNe, Int.reduceToNat, Nat.reduceAdd, Nat.reduceMul, Nat.reduceSub, Nat.reduceLeDiff, Nat.reduceLT, Nat.reduceEqDiff, reduceIte, Nat.zero_le, Nat.le_refl, Nat.add_zero, Nat.zero_add, xwT hT, xwV hV, hC.n1]
        refine ⟨?_, fun h => (by exfalso; omega)⟩
        (repeat (refine And.intro (by (first | omega | assumption | trivial | (simp only [inI]; omega) | (simp only [inL]; omega) | (refine jb_01) | (exact jb_in))) ?_))
        exact hQ
      · rw [e] at hQ ⊢
        refine jW_step ?_
        simp (disch := (first | decide | omega)) only [bX0_about, jxs, hps, jtsw, jlsw, List.length_cons, List.length_nil, true_and, and_true, true_implies, false_implies, implies_true, not_true_eq_false, not_false_eq_true, false_and, and_false, if_true, if_false, or_true, true_or, or_false, false_or, Classical.not_not, and_self, Int.reduceAdd, Int.reduceMul, Int.reduceSub, Int.reduceNeg, Int.reduceLT, Int.reduceLE, Int.reduceEq, Int.reduceNe, Int.reduceToNat, Nat.reduceAdd, Nat.reduceMul, Nat.reduceSub, Nat.reduceLeDiff, Nat.reduceLT, Nat.reduceEqDiff, reduceIte, Nat.zero_le, Nat.le_refl, Nat.add_zero, Nat.zero_add, xwT hT, xwV hV, hC.dr]
        refine ⟨?_, fun h => (by exfalso; omega)⟩
        (repeat (refine And.intro (by (first | omega | assumption | trivial | (simp only [inI]; omega) | (simp only [inL]; omega) | (refine jb_01) | (exact jb_in))) ?_))
        exact hQ
      · rw [e] at hQ ⊢
        refine jW_step ?_
        simp (disch := (first | decide | omega)) only [bX0_about, jxs, hps, jtsw, jlsw, List.length_cons, List.length_nil, true_and, and_true, true_implies, false_implies, implies_true, not_true_eq_false, not_false_eq_true, false_and, and_false, if_true, if_false, or_true, true_or, or_false, false_or, Classical.not_not, and_self, Int.reduceAdd, Int.reduceMul, Int.reduceSub, Int.reduceNeg, Int.reduceLT, Int.reduceLE, Int.reduceEq, Int.reduceNe, Int.reduceToNat, Nat.reduceAdd, Nat.reduceMul, Nat.reduceSub, Nat.reduceLeDiff, Nat.reduceLT, Nat.reduceEqDiff, reduceIte, Nat.zero_le, Nat.le_refl, Nat.add_zero, Nat.zero_add, xwT hT, xwV hV, hC.n2]
        refine ⟨?_, fun h => (by exfalso; omega)⟩
        (repeat (refine And.intro (by (first | omega | assumption | trivial | (simp only [inI]; omega) | (simp only [inL]; omega) | (refine jb_01) | (exact jb_in))) ?_))
        exact hQ
      · rw [e] at hQ ⊢
        refine jW_step ?_
        simp (disch := (first | decide | omega)) only [bX0_about, jxs, hps, jtsw, jlsw, List.length_cons, List.length_nil, true_and, and_true, true_implies, false_implies, implies_true, not_true_eq_false, not_false_eq_true, false_and, and_false, if_true, if_false, or_true, true_or, or_false, false_or, Classical.not_not, and_self, Int.reduceAdd, Int.reduceMul, Int.reduceSub, Int.reduceNeg, Int.reduceLT, Int.reduceLE, Int.reduceEq, Int.reduceNe, Int.reduceToNat, Nat.reduceAdd, Nat.reduceMul, Nat.reduceSub, Nat.reduceLeDiff, Nat.reduceLT, Nat.reduceEqDiff, reduceIte, Nat.zero_le, Nat.le_refl, Nat.add_zero, Nat.zero_add, xwT hT, xwV hV, hC.n3]
        refine ⟨?_, fun h => (by exfalso; omega)⟩
        (repeat (refine And.intro (by (first | omega | assumption | trivial | (simp only [inI]; omega) | (simp only [inL]; omega) | (refine jb_01) | (exact jb_in))) ?_))
        exact hQ
      · rw [e] at hQ ⊢
        refine jW_step ?_
        simp (disch := (first | decide | omega)) only [bX0_about, jxs, hps, jtsw, jlsw, List.length_cons, List.length_nil, true_and, and_true, true_implies, false_implies, implies_true, not_true_eq_false, not_false_eq_true, false_and, and_false, if_true, if_false, or_true, true_or, or_false, false_or, Classical.not_not, and_self, Int.reduceAdd, Int.reduceMul, Int.reduceSub, Int.reduceNeg, Int.reduceLT, Int.reduceLE, Int.reduceEq, Int.reduceNe, Int.reduceToNat, Nat.reduceAdd, Nat.reduceMul, Nat.reduceSub, Nat.reduceLeDiff, Nat.reduceLT, Nat.reduceEqDiff, reduceIte, Nat.zero_le, Nat.le_refl, Nat.add_zero, Nat.zero_add, xwT hT, xwV hV, hC.n4]
        refine ⟨?_, fun h => (by exfalso; omega)⟩
        (repeat (refine And.intro (by (first | omega | assumption | trivial | (simp only [inI]; omega) | (simp only [inL]; omega) | (refine jb_01) | (exact jb_in))) ?_))
        exact hQ
      · rw [e] at hQ ⊢
        refine jW_step ?_
        simp (disch := (first | decide | omega)) only [bX0_about, jxs, hps, jtsw, jlsw, List.length_cons, List.length_nil, true_and, and_true, true_implies, false_implies, implies_true, not_true_eq_false, not_false_eq_true, false_and, and_false, if_true, if_false, or_true, true_or, or_false, false_or, Classical.not_not, and_self, Int.reduceAdd, Int.reduceMul, Int.reduceSub, Int.reduceNeg, Int.reduceLT, Int.reduceLE, Int.reduceEq, Int.reduceNe, Int.reduceToNat, Nat.reduceAdd, Nat.reduceMul, Nat.reduceSub, Nat.reduceLeDiff, Nat.reduceLT, Nat.reduceEqDiff, reduceIte, Nat.zero_le, Nat.le_refl, Nat.add_zero, Nat.zero_add, xwT hT, xwV hV, hC.n5]
        refine ⟨?_, fun h => (by exfalso; omega)⟩
        (repeat (refine And.intro (by (first | omega | assumption | trivial | (simp only [inI]; omega) | (simp only [inL]; omega) | (refine jb_01) | (exact jb_in))) ?_))
        exact hQ
    · rw [if_neg h8] at hQ
      by_cases h10 : w = 10
      · rw [if_pos h10] at hQ
        rw [h10]
        refine jW_step ?_
        simp (disch := (first | decide | omega)) only [bX0_about, jxs, hps, jtsw, jlsw, List.length_cons, List.length_nil, true_and, and_true, true_implies, false_implies, implies_true, not_true_eq_false, not_false_eq_true, false_and, and_false, if_true, if_false, or_true, true_or, or_false, false_or, Classical.not_not, and_self, Int.reduceAdd, Int.reduceMul, Int.reduceSub, Int.reduceNeg, Int.reduceLT, Int.reduceLE, Int.reduceEq, Int.reduceNe, Int.reduceToNat, Nat.reduceAdd, Nat.reduceMul, Nat.reduceSub, Nat.reduceLeDiff, Nat.reduceLT, Nat.reduceEqDiff, reduceIte, Nat.zero_le, Nat.le_refl, Nat.add_zero, Nat.zero_add, xwT hT, xwV hV]
        refine ⟨?_, fun h => (by exfalso; omega)⟩
        (repeat (refine And.intro (by (first | omega | assumption | trivial | (simp only [inI]; omega) | (simp only [inL]; omega) | (refine jb_01) | (exact jb_in))) ?_))
        exact hQ
      · rw [if_neg h10] at hQ
        refine jW_step ?_
        simp (disch := (first | decide | omega)) only [bX0_about, jxs, hps, jtsw, jlsw, List.length_cons, List.length_nil, true_and, and_true, true_implies, false_implies, implies_true, not_true_eq_false, not_false_eq_true, false_and, and_false, if_true, if_false, or_true, true_or, or_false, false_or, Classical.not_not, and_self, Int.reduceAdd, Int.reduceMul, Int.reduceSub, Int.reduceNeg, Int.reduceLT, Int.reduceLE, Int.reduceEq, Int.reduceNe, Int.reduceToNat, Nat.reduceAdd, Nat.reduceMul, Nat.reduceSub, Nat.reduceLeDiff, Nat.reduceLT, Nat.reduceEqDiff, reduceIte, Nat.zero_le, Nat.le_refl, Nat.add_zero, Nat.zero_add, xwT hT, xwV hV]
        repeat' (first | (refine And.intro ?_ ?_) | intro _)
        all_goals first | (exfalso; omega) | exact hQ | (first | omega | assumption | trivial | (simp only [inI]; omega) | (simp only [inL]; omega) | (refine jb_01) | (exact jb_in))
theorem xw_fitsDust_1 {la b : Int} (hT : PT T) (hD : DU A) (hla : 0 ≤ la ∧ la < 6) (hb : 0 ≤ b ∧ b < A 0) : ∀ (n : Nat) (k : Int) (v : Int → Int → Int), PV v → CI (v, T) A X → 0 ≤ k → k + n = A 8 →
    (∀ w, jkq v w → Q (.inl (some (vI (fitF A X la b n k)))) (w, T)) →
    jW bX0_fitsDust (g, d + 110, 0, 0, Q) 1 [some (vR 400), some (vI la), some (vI b), some (vI k), none] [] (v, T) 0 0 := by
  intro n
  induction n with
  | zero =>
    intro k v hV hC hk hn hQ
    unfold fitF at hQ
    refine jW_step ?_
    simp (disch := (first | decide | omega)) only [bX0_fitsDust, jxs, hps, jtsw, jlsw, List.length_cons, List.length_nil, true_and, and_true, true_implies, false_implies, implies_true, not_true_eq_false, not_false_eq_true, false_and, and_false, if_true, if_false, or_true, true_or, or_false, false_or, Classical.not_not, and_self, Int.reduceAdd, Int.reduceMul, Int.reduceSub, Int.reduceNeg, Int.reduceLT, Int.reduceLE, Int.reduceEq, Int.reduceNe, Int.reduceToNat, Nat.reduceAdd, Nat.reduceMul, Nat.reduceSub, Nat.reduceLeDiff, Nat.reduceLT, Nat.reduceEqDiff, reduceIte, Nat.zero_le, Nat.le_refl, Nat.add_zero, Nat.zero_add, xwT hT, xwV hV, hC.n5]
    (repeat (refine And.intro (by (first | omega | assumption | trivial | (simp only [inI]; omega) | (simp only [inL]; omega) | (refine jb_01) | (exact jb_in))) ?_))
    (try refine ⟨fun _ => ?_, fun h9 => (by exfalso; omega)⟩)
    (repeat (refine And.intro (by (first | omega | assumption | trivial | (simp only [inI]; omega) | (simp only [inL]; omega) | (refine jb_01) | (exact jb_in))) ?_))
    exact hQ v (jkq.rf hC.nm)
  | succ n ih =>
    intro k v hV hC hk hn hQ
    have c8 := hC.2.2.2.2.2.2.1
    have du := hD k hk (by omega)
    have e1 := PVdu hV (k := k) (by omega)
    have e2 := PTdu hT (k := k) (by omega)
    have e3 := e2.1
    have e4 := e2.2
    have d0 := hC.d (k := k) (w := 0) ⟨hk, by omega⟩ (by omega)
    have d1 := hC.d (k := k) (w := 1) ⟨hk, by omega⟩ (by omega)
    have d2 := hC.d (k := k) (w := 2) ⟨hk, by omega⟩ (by omega)
    have d3 := hC.d (k := k) (w := 3) ⟨hk, by omega⟩ (by omega)
    rw [show 106 + 4 * k + 0 = 106 + 4 * k by omega] at d0
    unfold fitF at hQ
    -- on
    have k4 : ∀ u l4, jkq v u → (∀ w, jkq v w → Q (.inl (some (vI (fitF A X la b n (k + 1))))) (w, T)) → jW bX0_fitsDust (g, d + 110, 0, 0, Q) 4 [some (vR 400), some (vI la), some (vI b), some (vI k), l4] [] (u, T) 0 0 := by
      intro u l4 hu hq
      have hVu := hu.pv hV
      have hV := hVu
      refine jW_step ?_
      simp (disch := (first | decide | omega)) only [bX0_fitsDust, jxs, hps, jtsw, jlsw, List.length_cons, List.length_nil, true_and, and_true, true_implies, false_implies, implies_true, not_true_eq_false, not_false_eq_true, false_and, and_false, if_true, if_false, or_true, true_or, or_false, false_or, Classical.not_not, and_self, Int.reduceAdd, Int.reduceMul, Int.reduceSub, Int.reduceNeg, Int.reduceLT, Int.reduceLE, Int.reduceEq, Int.reduceNe, Int.reduceToNat, Nat.reduceAdd, Nat.reduceMul, Nat.reduceSub, Nat.reduceLeDiff, Nat.reduceLT, Nat.reduceEqDiff, reduceIte, Nat.zero_le, Nat.le_refl, Nat.add_zero, Nat.zero_add, xwT hT, xwV hV]
      (repeat (refine And.intro (by (first | omega | assumption | trivial | (simp only [inI]; omega) | (simp only [inL]; omega) | (refine jb_01) | (exact jb_in))) ?_))
      refine jW_sub (ls' := [some (vR 400), some (vI la), some (vI b), some (vI (k + 1)), none]) (by simp [jsub]) ?_
      exact ih (k + 1) u hVu (hu.ci hC) (by omega) (by omega) (fun w hw => hq w (hu.tr hw))
    generalize A (106 + 4 * k) = x0 at *
    generalize A (106 + 4 * k + 1) = x1 at *
    generalize A (106 + 4 * k + 2) = x2 at *
    generalize A (106 + 4 * k + 3) = x3 at *
    refine jW_step ?_
    simp (disch := (first | decide | omega)) only [bX0_fitsDust, jxs, hps, jtsw, jlsw, List.length_cons, List.length_nil, true_and, and_true, true_implies, false_implies, implies_true, not_true_eq_false, not_false_eq_true, false_and, and_false, if_true, if_false, or_true, true_or, or_false, false_or, Classical.not_not, and_self, Int.reduceAdd, Int.reduceMul, Int.reduceSub, Int.reduceNeg, Int.reduceLT, Int.reduceLE, Int.reduceEq, Int.reduceNe, Int.reduceToNat, Nat.reduceAdd, Nat.reduceMul, Nat.reduceSub, Nat.reduceLeDiff, Nat.reduceLT, Nat.reduceEqDiff, reduceIte, Nat.zero_le, Nat.le_refl, Nat.add_zero, Nat.zero_add, xwT hT, xwV hV, hC.n5, e1, e3, e4, d0, d1, d2]
    (repeat (refine And.intro (by (first | omega | assumption | trivial | (simp only [inI]; omega) | (simp only [inL]; omega) | (refine jb_01) | (exact jb_in))) ?_))
    (first | refine ⟨fun h9 => (by exfalso; omega), fun _ => ?_⟩ | intro _)
    (repeat (refine And.intro (by (first | omega | assumption | trivial | (simp only [inI]; omega) | (simp only [inL]; omega) | (refine jb_01) | (exact jb_in))) ?_))
    by_cases h : x0 = b
    · refine ⟨fun h9 => absurd h h9, fun _ => ?_⟩
      have e5 : (if x2 = 1 then (1 : Int) else 0) = x2 := by split <;> omega
      have e6 : (if x3 = 1 then (1 : Int) else 0) = x3 := by split <;> omega
      rw [e5, e6] at hQ
      have k2 : jW bX0_fitsDust (g, d + 110, 0, 0, Q) 2 [some (vR 400), some (vI la), some (vI b), some (vI k), some (vR (417 + k))] [vI x2, vI x1, vI b, vI la, vR 400] (v, T) 0 0 := by
        refine jW_step ?_
        simp (disch := (first | decide | omega)) only [bX0_fitsDust, jxs, hps, jtsw, jlsw, List.length_cons, List.length_nil, true_and, and_true, true_implies, false_implies, implies_true, not_true_eq_false, not_false_eq_true, false_and, and_false, if_true, if_false, or_true, true_or, or_false, false_or, Classical.not_not, and_self, Int.reduceAdd, Int.reduceMul, Int.reduceSub, Int.reduceNeg, Int.reduceLT, Int.reduceLE, Int.reduceEq, Int.reduceNe, Int.reduceToNat, Nat.reduceAdd, Nat.reduceMul, Nat.reduceSub, Nat.reduceLeDiff, Nat.reduceLT, Nat.reduceEqDiff, reduceIte, Nat.zero_le, Nat.le_refl, Nat.add_zero, Nat.zero_add, xwT hT, xwV hV]
        refine ⟨0, 0, ⟨by omega, by omega⟩, xw_pushesBy hT hV hC ⟨hla, hb, du.2.1, du.2.2.1⟩ ?_⟩
        intro w hw
        have p01 := pbA_c01 (la := la) (b := b) (o := x1) (r := x2) hC
        have hVw := hw.pv hV
        have d3w : w (417 + k) 3 = x3 := by rw [hw.1 _ (by omega)]; exact d3
        generalize pbA A X la b x1 x2 = z at *
        have k3 : jW bX0_fitsDust (g, d + 110, 0, 0, Q) 3 [some (vR 400), some (vI la), some (vI b), some (vI k), some (vR (417 + k))] [vI x3, vI z] (w, T) 0 0 := by
          have hV := hVw
          refine jW_step ?_
          simp (disch := (first | decide | omega)) only [bX0_fitsDust, jxs, hps, jtsw, jlsw, List.length_cons, List.length_nil, true_and, and_true, true_implies, false_implies, implies_true, not_true_eq_false, not_false_eq_true, false_and, and_false, if_true, if_false, or_true, true_or, or_false, false_or, Classical.not_not, and_self, Int.reduceAdd, Int.reduceMul, Int.reduceSub, Int.reduceNeg, Int.reduceLT, Int.reduceLE, Int.reduceEq, Int.reduceNe, Int.reduceToNat, Nat.reduceAdd, Nat.reduceMul, Nat.reduceSub, Nat.reduceLeDiff, Nat.reduceLT, Nat.reduceEqDiff, reduceIte, Nat.zero_le, Nat.le_refl, Nat.add_zero, Nat.zero_add, xwT hT, xwV hV]
          by_cases hz : z = x3
          · refine ⟨fun _ => ?_, fun h9 => absurd hz h9⟩
            rw [if_neg (fun q => q.2 hz)] at hQ
            exact k4 w _ hw hQ
          · refine ⟨fun h9 => absurd h9 hz, fun _ => ?_⟩
            rw [if_pos ⟨h, hz⟩] at hQ
            (repeat (refine And.intro (by (first | omega | assumption | trivial | (simp only [inI]; omega) | (simp only [inL]; omega) | (refine jb_01) | (exact jb_in))) ?_))
            exact hQ w hw
        have hV := hVw
        simp (disch := (first | decide | omega)) only [jxs, hps, jtsw, jlsw, List.length_cons, List.length_nil, true_and, and_true, true_implies, false_implies, implies_true, not_true_eq_false, not_false_eq_true, false_and, and_false, if_true, if_false, or_true, true_or, or_false, false_or, Classical.not_not, and_self, Int.reduceAdd, Int.reduceMul, Int.reduceSub, Int.reduceNeg, Int.reduceLT, Int.reduceLE, Int.reduceEq, Int.reduceNe, Int.reduceToNat, Nat.reduceAdd, Nat.reduceMul, Nat.reduceSub, Nat.reduceLeDiff, Nat.reduceLT, Nat.reduceEqDiff, reduceIte, Nat.zero_le, Nat.le_refl, Nat.add_zero, Nat.zero_add, xwT hT, xwV hV, e3, e4, d3w]
        (repeat (refine And.intro (by (first | omega | assumption | trivial | (simp only [inI]; omega) | (simp only [inL]; omega) | (refine jb_01) | (exact jb_in))) ?_))
        refine ⟨fun h5 => ?_, fun h5 => ?_⟩
        · rw [show x3 = 0 by omega] at k3
          exact k3
        · rw [show x3 = 1 by omega] at k3
          exact k3
      (repeat (refine And.intro (by (first | omega | assumption | trivial | (simp only [inI]; omega) | (simp only [inL]; omega) | (refine jb_01) | (exact jb_in))) ?_))
      refine ⟨fun h5 => ?_, fun h5 => ?_⟩
      · rw [show x2 = 0 by omega] at k2
        exact k2
      · rw [show x2 = 1 by omega] at k2
        exact k2
    · rw [if_neg (fun q => h q.1)] at hQ
      refine ⟨fun _ => ?_, fun h9 => absurd h9 h⟩
      exact k4 v _ (jkq.rf hC.nm) hQ
theorem xw_fitsDust {la b : Int} {v : Int → Int → Int} (hT : PT T) (hV : PV v) (hC : CI (v, T) A X) (hS : DU A ∧ (0 ≤ la ∧ la < 6) ∧ (0 ≤ b ∧ b < A 0)) (hQ : ∀ w, jkq v w → Q (.inl (some (vI (fitA A X la b)))) (w, T)) : jmet g (d + 111) 0 0 MX0_fitsDust [vR 400, vI la, vI b] (v, T) Q := by
  have c8 := hC.2.2.2.2.2.2.1
  refine jmet_of (ls := [some (vR 400), some (vI la), some (vI b), none, none]) sX0_fitsDust rfl (by decide +kernel) (by decide) rfl (by simp [jent]) ?_
  refine jW_step ?_
  simp (disch := (first | decide | omega)) only [bX0_fitsDust, jxs, hps, jtsw, jlsw, List.length_cons, List.length_nil, true_and, and_true, true_implies, false_implies, implies_true, not_true_eq_false, not_false_eq_true, false_and, and_false, if_true, if_false, or_true, true_or, or_false, false_or, Classical.not_not, and_self, Int.reduceAdd, Int.reduceMul, Int.reduceSub, Int.reduceNeg, Int.reduceLT, Int.reduceLE, Int.reduceEq, Int.reduceNe, Int.reduceToNat, Nat.reduceAdd, Nat.reduceMul, Nat.reduceSub, Nat.reduceLeDiff, Nat.reduceLT, Nat.reduceEqDiff, reduceIte, Nat.zero_le, Nat.le_refl, Nat.add_zero, Nat.zero_add, xwT hT, xwV hV]
  exact xw_fitsDust_1 hT hS.1 hS.2.1 hS.2.2 (A 8).toNat 0 v hV hC (by omega) (by omega) hQ
end XG
