/-! ===== the reference: theft ===== -/
set_option maxRecDepth 100000
def coA (A X : Int → Int) (b : Int) : Int := if (rsA A X (A (46 + 6 * b + 5)) b).2 < 0 then -1 else if (rsA A X (A (46 + 6 * b + 5)) (-1)).2 < 0 then -1 else coL (rsA A X (A (46 + 6 * b + 5)) (-1)).1 (rsA A X (A (46 + 6 * b + 5)) b).1 b (lrZ A (A (46 + 6 * b + 5)) (-1)).2.toNat 0 0 0
section TG
variable {g : jjG} {d : Nat} {T : jjT} {Q : jjQ}
theorem tw_costOf {v : Int → Int → Int} {b : Int} (hT : PT T) (hV : PV v) (hS : TE v ∧ SH (v 540) ∧ (0 ≤ v 540 1 ∧ v 540 1 < 100000) ∧ (0 ≤ b ∧ b < v 540 0) ∧ v 540 (46 + 6 * b + 5) < 3) (hQ : ∀ u, jkx v u → Q (.inl (some (vI (coA (v 540) (v 542) b)))) (u, T)) : jmet g (d + 9) 0 0 MX2_costOf [vR 539, vI b] (v, T) Q := by
  obtain ⟨hE, hH, h1, hb, hs⟩ := hS
  have h0 := hE.1.1
  have w0 := (hE.1.2.2.2.2.2.2 (46 + 6 * b + 5) (by omega) (by omega)).1
  have hge := fun p (p0 : 0 ≤ p) (p1 : p < v 540 (13 + v 540 (46 + 6 * b + 5))) => (hE.1.2.2.2.2.2.2 (16 + 10 * v 540 (46 + 6 * b + 5) + p) (by omega) (by have := hE.1.2.2.2.2.2.1 (13 + v 540 (46 + 6 * b + 5)) (by omega) (by omega); omega)).1
  refine jmet_of (ls := [some (vR 539), some (vI b), none, none, none, none]) sX2_costOf rfl (by decide +kernel) (by decide) rfl (by simp [jent]) ?_
  unfold coA at hQ
  refine jW_step ?_
  simp (disch := (first | decide | omega)) only [bX2_costOf, jxs, hps, jtsw, jlsw, List.length_cons, List.length_nil, true_and, and_true, true_implies, false_implies, implies_true, not_true_eq_false, not_false_eq_true, false_and, and_false, if_true, if_false, or_true, true_or, or_false, false_or, Classical.not_not, and_self, Int.reduceAdd, Int.reduceMul, Int.reduceSub, Int.reduceNeg, Int.reduceLT, Int.reduceLE, Int.reduceEq, Int.reduceNe, Int.reduceToNat, Nat.reduceAdd, Nat.reduceMul, Nat.reduceSub, Nat.reduceLeDiff, Nat.reduceLT, Nat.reduceEqDiff, reduceIte, Nat.zero_le, Nat.le_refl, Nat.add_zero, Nat.zero_add, twT hT, twV hV]
  (repeat (refine And.intro (by (first | omega | assumption | trivial | (simp only [inI]; omega) | (simp only [inL]; omega) | (refine jb_01) | (exact jb_in))) ?_))
  refine ⟨0, 0, ⟨by omega, by omega⟩, tw_get hT (by (first | assumption | (repeat (first | assumption | refine PV.A ?_ (by decide) | refine PV.F ?_ ?_ | refine twR.up ?_ (by decide) | refine PV.r ?_)))) (by (first | omega | assumption | trivial | (simp only [inI]; omega) | (simp only [inL]; omega) | (refine jb_01) | (exact jb_in))) ?_⟩
  simp (disch := (first | decide | omega)) only [jxs, hps, jtsw, jlsw, List.length_cons, List.length_nil, true_and, and_true, true_implies, false_implies, implies_true, not_true_eq_false, not_false_eq_true, false_and, and_false, if_true, if_false, or_true, true_or, or_false, false_or, Classical.not_not, and_self, Int.reduceAdd, Int.reduceMul, Int.reduceSub, Int.reduceNeg, Int.reduceLT, Int.reduceLE, Int.reduceEq, Int.reduceNe, Int.reduceToNat, Nat.reduceAdd, Nat.reduceMul, Nat.reduceSub, Nat.reduceLeDiff, Nat.reduceLT, Nat.reduceEqDiff, reduceIte, Nat.zero_le, Nat.le_refl, Nat.add_zero, Nat.zero_add, twT hT, twV hV]
  (repeat (refine And.intro (by (first | omega | assumption | trivial | (simp only [inI]; omega) | (simp only [inL]; omega) | (refine jb_01) | (exact jb_in))) ?_))
  have hm := hE.1.2.2.2.2.2.1 (13 + v 540 (46 + 6 * b + 5)) (by omega) (by omega)
  have cnt := lrF_cn (A := v 540) (s := v 540 (46 + 6 * b + 5)) (b := b) hb.1 hge (v 540 (13 + v 540 (46 + 6 * b + 5))).toNat 0 0 0 (fun _ => 0) (fun _ => 0) (by omega) (by omega) rfl
  have lcg := lrF_cg (wo := -1) hE.1 hH ⟨w0, hs⟩ rfl (v 540 (13 + v 540 (46 + 6 * b + 5))).toNat 0 0 (fun _ => 0) (fun _ => 0) (by omega) (by omega) (by omega) (fun i h0 h1 => rfl) (fun i h0 h1 => by omega)
  generalize v 540 (46 + 6 * b + 5) = s at *
  refine ⟨0, 0, ⟨by omega, by omega⟩, tw_layRow2 hT hV ⟨hE, hH, w0, hs⟩ ?_⟩
  intro w hw
  have hVw := hw.pv hV
  simp (disch := (first | decide | omega)) only [jxs, hps, jtsw, jlsw, List.length_cons, List.length_nil, true_and, and_true, true_implies, false_implies, implies_true, not_true_eq_false, not_false_eq_true, false_and, and_false, if_true, if_false, or_true, true_or, or_false, false_or, Classical.not_not, and_self, Int.reduceAdd, Int.reduceMul, Int.reduceSub, Int.reduceNeg, Int.reduceLT, Int.reduceLE, Int.reduceEq, Int.reduceNe, Int.reduceToNat, Nat.reduceAdd, Nat.reduceMul, Nat.reduceSub, Nat.reduceLeDiff, Nat.reduceLT, Nat.reduceEqDiff, reduceIte, Nat.zero_le, Nat.le_refl, Nat.add_zero, Nat.zero_add, twT hT, twV hV]
  (repeat (refine And.intro (by (first | omega | assumption | trivial | (simp only [inI]; omega) | (simp only [inL]; omega) | (refine jb_01) | (exact jb_in))) ?_))
  refine ⟨0, 0, ⟨by omega, by omega⟩, tw_goToRest2 hT hV ⟨hE, h1⟩ hw ?_⟩
  intro w1 hw1
  have hV1 := hw1.pv hV
  have e28 : w1 539 28 = (lrZ (v 540) s b).2 := by rw [hw1.2.2.2.1, up1_eq]
  have j1 : jkx v w1 := ⟨⟨_, hw1.2.2.2.1⟩, fun a a1 a2 a3 => hw1.2.2.2.2.2 a a1 (by omega) (by omega) (by omega) (by omega) (by omega)⟩
  simp (disch := (first | decide | omega)) only [jxs, hps, jtsw, jlsw, List.length_cons, List.length_nil, true_and, and_true, true_implies, false_implies, implies_true, not_true_eq_false, not_false_eq_true, false_and, and_false, if_true, if_false, or_true, true_or, or_false, false_or, Classical.not_not, and_self, Int.reduceAdd, Int.reduceMul, Int.reduceSub, Int.reduceNeg, Int.reduceLT, Int.reduceLE, Int.reduceEq, Int.reduceNe, Int.reduceToNat, Nat.reduceAdd, Nat.reduceMul, Nat.reduceSub, Nat.reduceLeDiff, Nat.reduceLT, Nat.reduceEqDiff, reduceIte, Nat.zero_le, Nat.le_refl, Nat.add_zero, Nat.zero_add, twT hT, twV hV]
  refine ⟨fun h => ?_, fun h => ?_⟩
  · rw [if_neg (by omega)] at hQ
    refine tw_costOf_1 (l4 := none) (l5 := none) hT (w1 539 28).toNat 0 w1 hV1 (by rw [e28]; exact hw1.2.2.1) (by omega) (by have := hw1.2.2.1; omega) ?_
    have eb : w1 539 28 = (lrZ (v 540) s b).2 := e28
    have u40 : (upA w1 561 (fun i => if 0 ≤ i ∧ i < w1 539 28 then w1 549 i else w1 561 i)) 540 = v 540 := (upA_ne (by omega)).trans (hw1.2.2.2.2.2 540 (by omega) (by omega) (by omega) (by omega) (by omega) (by omega))
    have u42 : (upA w1 561 (fun i => if 0 ≤ i ∧ i < w1 539 28 then w1 549 i else w1 561 i)) 542 = v 542 := (upA_ne (by omega)).trans (hw1.2.2.2.2.2 542 (by omega) (by omega) (by omega) (by omega) (by omega) (by omega))
    have u39 : (upA w1 561 (fun i => if 0 ≤ i ∧ i < w1 539 28 then w1 549 i else w1 561 i)) 539 = up1 (v 539) 28 (lrZ (v 540) s b).2 := (upA_ne (by omega)).trans hw1.2.2.2.1
    have u61 : EQm (lrZ (v 540) s b).2 ((upA w1 561 (fun i => if 0 ≤ i ∧ i < w1 539 28 then w1 549 i else w1 561 i)) 561) (rsA (v 540) (v 542) s b).1 := by
      intro i i0 i1
      rw [upA_eq, if_pos ⟨i0, by omega⟩]
      exact hw1.1 i i0 i1
    have uo : ∀ a, a ≠ 539 → (a < 545 ∨ 550 < a) → a ≠ 561 → (upA w1 561 (fun i => if 0 ≤ i ∧ i < w1 539 28 then w1 549 i else w1 561 i)) a = v a := fun a a1 a2 a3 => (upA_ne a3).trans (j1.2 a a1 a2 a3)
    have hVu : PV (upA w1 561 (fun i => if 0 ≤ i ∧ i < w1 539 28 then w1 549 i else w1 561 i)) := hV1.A (by decide)
    rw [e28] at *
    generalize upA w1 561 (fun i => if 0 ≤ i ∧ i < (lrZ (v 540) s b).2 then w1 549 i else w1 561 i) = u at *
    have hEu : TE u := by unfold TE; rw [u40, u42]; exact hE
    have hV := hVu
    have u28 : u 539 28 = (lrZ (v 540) s b).2 := by rw [u39, up1_eq]
    refine jW_step ?_
    simp (disch := (first | decide | omega)) only [bX2_costOf, jxs, hps, jtsw, jlsw, List.length_cons, List.length_nil, true_and, and_true, true_implies, false_implies, implies_true, not_true_eq_false, not_false_eq_true, false_and, and_false, if_true, if_false, or_true, true_or, or_false, false_or, Classical.not_not, and_self, Int.reduceAdd, Int.reduceMul, Int.reduceSub, Int.reduceNeg, Int.reduceLT, Int.reduceLE, Int.reduceEq, Int.reduceNe, Int.reduceToNat, Nat.reduceAdd, Nat.reduceMul, Nat.reduceSub, Nat.reduceLeDiff, Nat.reduceLT, Nat.reduceEqDiff, reduceIte, Nat.zero_le, Nat.le_refl, Nat.add_zero, Nat.zero_add, twT hT, twV hV, u28]
    (repeat (refine And.intro (by (first | omega | assumption | trivial | (simp only [inI]; omega) | (simp only [inL]; omega) | (refine jb_01) | (exact jb_in))) ?_))
    (try refine ⟨fun _ => ?_, fun h9 => (by exfalso; omega)⟩)
    (repeat (refine And.intro (by (first | omega | assumption | trivial | (simp only [inI]; omega) | (simp only [inL]; omega) | (refine jb_01) | (exact jb_in))) ?_))
    refine ⟨0, 0, ⟨by omega, by omega⟩, tw_layRow2 hT hV ⟨hEu, by rw [u40]; exact hH, w0, hs⟩ ?_⟩
    intro w2 hw2
    have hV2 := hw2.pv hVu
    have hV := hV2
    simp (disch := (first | decide | omega)) only [jxs, hps, jtsw, jlsw, List.length_cons, List.length_nil, true_and, and_true, true_implies, false_implies, implies_true, not_true_eq_false, not_false_eq_true, false_and, and_false, if_true, if_false, or_true, true_or, or_false, false_or, Classical.not_not, and_self, Int.reduceAdd, Int.reduceMul, Int.reduceSub, Int.reduceNeg, Int.reduceLT, Int.reduceLE, Int.reduceEq, Int.reduceNe, Int.reduceToNat, Nat.reduceAdd, Nat.reduceMul, Nat.reduceSub, Nat.reduceLeDiff, Nat.reduceLT, Nat.reduceEqDiff, reduceIte, Nat.zero_le, Nat.le_refl, Nat.add_zero, Nat.zero_add, twT hT, twV hV]
    (repeat (refine And.intro (by (first | omega | assumption | trivial | (simp only [inI]; omega) | (simp only [inL]; omega) | (refine jb_01) | (exact jb_in))) ?_))
    refine ⟨0, 0, ⟨by omega, by omega⟩, tw_goToRest2 hT hVu ⟨hEu, by rw [u40]; exact h1⟩ hw2 ?_⟩
    rw [u40, u42]
    intro w3 hw3
    have hV3 := hw3.pv hVu
    have hV := hV3
    have c28 : w3 539 28 = (lrZ (v 540) s (-1)).2 := by rw [hw3.2.2.2.1, up1_eq]
    have c61 : w3 561 = u 561 := hw3.2.2.2.2.2 561 (by omega) (by omega) (by omega) (by omega) (by omega) (by omega)
    have j3 : jkx v w3 := by
      refine ⟨⟨(lrZ (v 540) s (-1)).2, ?_⟩, fun a a1 a2 a3 => ?_⟩
      · rw [hw3.2.2.2.1, u39, up1_same]
      · rw [hw3.2.2.2.2.2 a a1 (by omega) (by omega) (by omega) (by omega) (by omega)]
        exact uo a a1 a2 a3
    have m3 := hw3.2.2.1
    simp (disch := (first | decide | omega)) only [jxs, hps, jtsw, jlsw, List.length_cons, List.length_nil, true_and, and_true, true_implies, false_implies, implies_true, not_true_eq_false, not_false_eq_true, false_and, and_false, if_true, if_false, or_true, true_or, or_false, false_or, Classical.not_not, and_self, Int.reduceAdd, Int.reduceMul, Int.reduceSub, Int.reduceNeg, Int.reduceLT, Int.reduceLE, Int.reduceEq, Int.reduceNe, Int.reduceToNat, Nat.reduceAdd, Nat.reduceMul, Nat.reduceSub, Nat.reduceLeDiff, Nat.reduceLT, Nat.reduceEqDiff, reduceIte, Nat.zero_le, Nat.le_refl, Nat.add_zero, Nat.zero_add, twT hT, twV hV]
    refine ⟨fun h2 => ?_, fun h2 => ?_⟩
    · rw [if_neg (by omega)] at hQ
      refine tw_costOf_2 hT hV (by rw [c28]; exact m3) (w3 539 28).toNat 0 0 0 (by omega) (by omega) (by omega) (by omega) ?_
      have cn1 : cnF (rsA (v 540) (v 542) s (-1)).1 b (lrZ (v 540) s (-1)).2.toNat = cnF (lrZ (v 540) s (-1)).1 b (lrZ (v 540) s (-1)).2.toNat := cnF_rst 501 0 _
      have cn2 : (lrZ (v 540) s b).2 = cnF (lrZ (v 540) s (-1)).1 b (lrZ (v 540) s (-1)).2.toNat := cnt
      have cn3 : cnF (w3 549) b (lrZ (v 540) s (-1)).2.toNat = cnF (rsA (v 540) (v 542) s (-1)).1 b (lrZ (v 540) s (-1)).2.toNat := cnF_cg _ (fun i i0 i1 => hw3.1 i i0 (by omega))
      have fin := coL_cg (b := b) (m := (lrZ (v 540) s (-1)).2) (mr := (lrZ (v 540) s b).2) hw3.1 (r := w3 561) (r' := (rsA (v 540) (v 542) s b).1) (by rw [c61]; exact u61) (lrZ (v 540) s (-1)).2.toNat 0 0 0 (by omega) (by omega) (by
        rw [Nat.zero_add, cn3, cn1, ← cn2]
        show 0 + ((lrZ (v 540) s b).2 - 0) ≤ _
        omega)
      rw [c28]
      have fin2 : coL (w3 549) (w3 561) b (lrZ (v 540) s (-1)).2.toNat 0 0 0 = coL (rsA (v 540) (v 542) s (-1)).1 (rsA (v 540) (v 542) s b).1 b (lrZ (v 540) s (-1)).2.toNat 0 0 0 := fin
      rw [fin2]
      exact hQ w3 j3
    · rw [if_pos (by omega)] at hQ
      (repeat (refine And.intro (by (first | omega | assumption | trivial | (simp only [inI]; omega) | (simp only [inL]; omega) | (refine jb_01) | (exact jb_in))) ?_))
      exact hQ w3 j3
  · rw [if_pos (by omega)] at hQ
    (repeat (refine And.intro (by (first | omega | assumption | trivial | (simp only [inI]; omega) | (simp only [inL]; omega) | (refine jb_01) | (exact jb_in))) ?_))
    exact hQ w1 j1
end TG
