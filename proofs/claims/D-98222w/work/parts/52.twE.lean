/-! ===== the reference: what a theft costs ===== -/
set_option maxRecDepth 100000
def coL (f r : Int → Int) (b : Int) : Nat → Int → Int → Int → Int
  | 0, _, _, n => n
  | k + 1, p, q, n => if f p = b then coL f r b k (p + 1) q n else coL f r b k (p + 1) (q + 1) (n + (if f p = r q then 0 else 1))
/-- as costs are worked out: this has changed -/
def jkx (v w : Int → Int → Int) : Prop := (∃ m, w 539 = up1 (v 539) 28 m) ∧ ∀ a, a ≠ 539 → (a < 545 ∨ 550 < a) → a ≠ 561 → w a = v a
section TG
variable {g : jjG} {d : Nat} {T : jjT} {Q : jjQ}
theorem tw_goToRest2 {v w : Int → Int → Int} {s wo : Int} (hT : PT T) (hV : PV v) (hS : TE v ∧ (0 ≤ v 540 1 ∧ v 540 1 < 100000)) (hw : jkw v (lrZ (v 540) s wo).1 (lrZ (v 540) s wo).2 w)
    (hQ : ∀ u, jkw v (rsA (v 540) (v 542) s wo).1 (lrZ (v 540) s wo).2 u → Q (.inl (some (vI (rsA (v 540) (v 542) s wo).2))) (u, T)) : jmet g (d + 3) 0 0 MX2_goToRest [vR 539] (w, T) Q := by
  have h0 := hS.1.1.1
  have e28 : w 539 28 = (lrZ (v 540) s wo).2 := by rw [hw.2.2.2.1, up1_eq]
  have e40 : w 540 = v 540 := hw.2.2.2.2.2 540 (by omega) (by omega) (by omega) (by omega) (by omega) (by omega)
  have cg := rstL_cg (ni := v 540 1) (hw.2.2.2.2.1.tag h0.2) 501 0 (w 549) (lrZ (v 540) s wo).1 hw.1 hw.2.1
  refine tw_goToRest hT (hw.pv hV) ⟨⟨by rw [e28]; exact hw.2.2.1, fun i i0 i1 => by rw [e28] at i1; have := hw.2.1 i i0 i1; omega⟩, by rw [e40]; exact hS.2⟩ ?_
  rw [e28, e40]
  have e2 : (rstR (w 548) (lrZ (v 540) s wo).2 (v 540 1) (w 549)).2 = (rsA (v 540) (v 542) s wo).2 := cg.2.1
  rw [e2]
  refine hQ _ ⟨?_, ?_, hw.2.2.1, ?_, ?_, ?_⟩
  · rw [upA_eq]; exact cg.1
  · rw [upA_eq]; exact cg.2.2
  · rw [upA_ne (by omega)]; exact hw.2.2.2.1
  · rw [upA_ne (by omega)]; exact hw.2.2.2.2.1
  · intro a a1 a2 a3 a4 a5 a6
    rw [upA_ne a6]
    exact hw.2.2.2.2.2 a a1 a2 a3 a4 a5 a6
theorem tw_costOf_1 {b s : Int} {l4 l5 : Option jjV} (hT : PT T) : ∀ (n : Nat) (p : Int) (v : Int → Int → Int), PV v → (0 ≤ v 539 28 ∧ v 539 28 ≤ 10) → 0 ≤ p → v 539 28 = p + n →
    jW bX2_costOf (g, d, 0, 0, Q) 1 [some (vR 539), some (vI b), some (vI s), some (vI (v 539 28)), none, none] [] (upA v 561 (fun i => if p ≤ i ∧ i < v 539 28 then v 549 i else v 561 i), T) 0 0 →
    jW bX2_costOf (g, d, 0, 0, Q) 1 [some (vR 539), some (vI b), some (vI s), some (vI p), none, none] [] (v, T) 0 0 := by
  intro n
  induction n with
  | zero =>
    intro p v hV hm hp hn hQ
    have e : upA v 561 (fun i => if p ≤ i ∧ i < v 539 28 then v 549 i else v 561 i) = v := by
      have : (fun i => if p ≤ i ∧ i < v 539 28 then v 549 i else v 561 i) = v 561 := by
        funext i; rw [if_neg (by omega)]
      rw [this, upA_id]
    rw [e, show v 539 28 = p by omega] at hQ
    exact hQ
  | succ n ih =>
    intro p v hV hm hp hn hQ
    refine jW_step ?_
    simp (disch := (first | decide | omega)) only [bX2_costOf, jxs, hps, jtsw, jlsw, List.length_cons, List.length_nil, true_and, and_true, true_implies, false_implies, implies_true, not_true_eq_false, not_false_eq_true, false_and, and_false, if_true, if_false, or_true, true_or, or_false, false_or, Classical.not_not, and_self, Int.reduceAdd, Int.reduceMul, Int.reduceSub, Int.reduceNeg, Int.reduceLT, Int.reduceLE, Int.reduceEq, Int.reduceNe, Int.reduceToNat, Nat.reduceAdd, Nat.reduceMul, Nat.reduceSub, Nat.reduceLeDiff, Nat.reduceLT, Nat.reduceEqDiff, reduceIte, Nat.zero_le, Nat.le_refl, Nat.add_zero, Nat.zero_add, twT hT, twV hV]
    (repeat (refine And.intro (by (first | omega | assumption | trivial | (simp only [inI]; omega) | (simp only [inL]; omega) | (refine jb_01) | (exact jb_in))) ?_))
    (first | refine ⟨fun h9 => (by exfalso; omega), fun _ => ?_⟩ | intro _)
    (repeat (refine And.intro (by (first | omega | assumption | trivial | (simp only [inI]; omega) | (simp only [inL]; omega) | (refine jb_01) | (exact jb_in))) ?_))
    refine ih (p + 1) _ (by (first | assumption | (repeat (first | assumption | refine PV.A ?_ (by decide) | refine PV.F ?_ ?_ | refine twR.up ?_ (by decide) | refine PV.r ?_)))) (by rw [upA_ne (by omega)]; exact hm) (by omega) (by rw [upA_ne (by omega)]; omega) ?_
    rw [upA_same, upA_eq, upA_ne (by omega), upA_ne (by omega)]
    have e : (fun i => if p + 1 ≤ i ∧ i < v 539 28 then v 549 i else up1 (v 561) p (v 549 p) i) = (fun i => if p ≤ i ∧ i < v 539 28 then v 549 i else v 561 i) := by
      funext i
      by_cases h1 : i = p
      · subst h1; rw [if_neg (by omega), up1_eq, if_pos (by omega)]
      · rw [up1_ne h1]
        by_cases h2 : p ≤ i ∧ i < v 539 28
        · rw [if_pos h2, if_pos (by omega)]
        · rw [if_neg h2, if_neg (by omega)]
    rw [e]
    exact hQ
theorem tw_costOf_2 {v : Int → Int → Int} {b s : Int} (hT : PT T) (hV : PV v) (hm : 0 ≤ v 539 28 ∧ v 539 28 ≤ 10) : ∀ (k : Nat) (p q n : Int), 0 ≤ p → v 539 28 = p + k → (0 ≤ q ∧ q ≤ p) → (0 ≤ n ∧ n ≤ p) →
    Q (.inl (some (vI (coL (v 549) (v 561) b k p q n)))) (v, T) → jW bX2_costOf (g, d, 0, 0, Q) 2 [some (vR 539), some (vI b), some (vI s), some (vI n), some (vI q), some (vI p)] [] (v, T) 0 0 := by
  intro k
  induction k with
  | zero =>
    intro p q n hp hk hq hn hQ
    refine jW_step ?_
    simp (disch := (first | decide | omega)) only [bX2_costOf, jxs, hps, jtsw, jlsw, List.length_cons, List.length_nil, true_and, and_true, true_implies, false_implies, implies_true, not_true_eq_false, not_false_eq_true, false_and, and_false, if_true, if_false, or_true, true_or, or_false, false_or, Classical.not_not, and_self, Int.reduceAdd, Int.reduceMul, Int.reduceSub, Int.reduceNeg, Int.reduceLT, Int.reduceLE, Int.reduceEq, Int.reduceNe, Int.reduceToNat, Nat.reduceAdd, Nat.reduceMul, Nat.reduceSub, Nat.reduceLeDiff, Nat.reduceLT, Nat.reduceEqDiff, reduceIte, Nat.zero_le, Nat.le_refl, Nat.add_zero, Nat.zero_add, twT hT, twV hV]
    (repeat (refine And.intro (by (first | omega | assumption | trivial | (simp only [inI]; omega) | (simp only [inL]; omega) | (refine jb_01) | (exact jb_in))) ?_))
    (try refine ⟨fun _ => ?_, fun h9 => (by exfalso; omega)⟩)
    (repeat (refine And.intro (by (first | omega | assumption | trivial | (simp only [inI]; omega) | (simp only [inL]; omega) | (refine jb_01) | (exact jb_in))) ?_))
    exact hQ
  | succ k ih =>
    intro p q n hp hk hq hn hQ
    unfold coL at hQ
    refine jW_step ?_
    simp (disch := (first | decide | omega)) only [bX2_costOf, jxs, hps, jtsw, jlsw, List.length_cons, List.length_nil, true_and, and_true, true_implies, false_implies, implies_true, not_true_eq_false, not_false_eq_true, false_and, and_false, if_true, if_false, or_true, true_or, or_false, false_or, Classical.not_not, and_self, Int.reduceAdd, Int.reduceMul, Int.reduceSub, Int.reduceNeg, Int.reduceLT, Int.reduceLE, Int.reduceEq, Int.reduceNe, Int.reduceToNat, Nat.reduceAdd, Nat.reduceMul, Nat.reduceSub, Nat.reduceLeDiff, Nat.reduceLT, Nat.reduceEqDiff, reduceIte, Nat.zero_le, Nat.le_refl, Nat.add_zero, Nat.zero_add, twT hT, twV hV]
    (repeat (refine And.intro (by (first | omega | assumption | trivial | (simp only [inI]; omega) | (simp only [inL]; omega) | (refine jb_01) | (exact jb_in))) ?_))
    (first | refine ⟨fun h9 => (by exfalso; omega), fun _ => ?_⟩ | intro _)
    (repeat (refine And.intro (by (first | omega | assumption | trivial | (simp only [inI]; omega) | (simp only [inL]; omega) | (refine jb_01) | (exact jb_in))) ?_))
    refine ⟨fun h => ?_, fun h => ?_⟩
    · rw [if_neg h] at hQ
      (repeat (refine And.intro (by (first | omega | assumption | trivial | (simp only [inI]; omega) | (simp only [inL]; omega) | (refine jb_01) | (exact jb_in))) ?_))
      have k3 : ∀ z, z = (if v 549 p = v 561 q then (0 : Int) else 1) → jW bX2_costOf (g, d, 0, 0, Q) 3 [some (vR 539), some (vI b), some (vI s), some (vI n), some (vI q), some (vI p)] [vI z, vI n] (v, T) 0 0 := by
        intro z hz
        have z1 : 0 ≤ z ∧ z ≤ 1 := by rw [hz]; split <;> omega
        rw [← hz] at hQ
        refine jW_step ?_
        simp (disch := (first | decide | omega)) only [bX2_costOf, jxs, hps, jtsw, jlsw, List.length_cons, List.length_nil, true_and, and_true, true_implies, false_implies, implies_true, not_true_eq_false, not_false_eq_true, false_and, and_false, if_true, if_false, or_true, true_or, or_false, false_or, Classical.not_not, and_self, Int.reduceAdd, Int.reduceMul, Int.reduceSub, Int.reduceNeg, Int.reduceLT, Int.reduceLE, Int.reduceEq, Int.reduceNe, Int.reduceToNat, Nat.reduceAdd, Nat.reduceMul, Nat.reduceSub, Nat.reduceLeDiff, Nat.reduceLT, Nat.reduceEqDiff, reduceIte, Nat.zero_le, Nat.le_refl, Nat.add_zero, Nat.zero_add, twT hT, twV hV]
        (repeat (refine And.intro (by (first | omega | assumption | trivial | (simp only [inI]; omega) | (simp only [inL]; omega) | (refine jb_01) | (exact jb_in))) ?_))
        refine jW_step ?_
        simp (disch := (first | decide | omega)) only [bX2_costOf, jxs, hps, jtsw, jlsw, List.length_cons, List.length_nil, true_and, and_true, true_implies, false_implies, implies_true, not_true_eq_false, not_false_eq_true, false_and, and_false, if_true, if_false, or_true, true_or, or_false, false_or, Classical.not_not, and_self, Int.reduceAdd, Int.reduceMul, Int.reduceSub, Int.reduceNeg, Int.reduceLT, Int.reduceLE, Int.reduceEq, Int.reduceNe, Int.reduceToNat, Nat.reduceAdd, Nat.reduceMul, Nat.reduceSub, Nat.reduceLeDiff, Nat.reduceLT, Nat.reduceEqDiff, reduceIte, Nat.zero_le, Nat.le_refl, Nat.add_zero, Nat.zero_add, twT hT, twV hV]
        (repeat (refine And.intro (by (first | omega | assumption | trivial | (simp only [inI]; omega) | (simp only [inL]; omega) | (refine jb_01) | (exact jb_in))) ?_))
        exact ih (p + 1) (q + 1) (n + z) (by omega) (by omega) (by omega) (by omega) hQ
      refine ⟨fun h2 => ?_, fun h2 => ?_⟩
      · exact k3 0 (by rw [if_pos h2])
      · exact k3 1 (by rw [if_neg h2])
    · rw [if_pos h] at hQ
      (repeat (refine And.intro (by (first | omega | assumption | trivial | (simp only [inI]; omega) | (simp only [inL]; omega) | (refine jb_01) | (exact jb_in))) ?_))
      refine jW_step ?_
      simp (disch := (first | decide | omega)) only [bX2_costOf, jxs, hps, jtsw, jlsw, List.length_cons, List.length_nil, true_and, and_true, true_implies, false_implies, implies_true, not_true_eq_false, not_false_eq_true, false_and, and_false, if_true, if_false, or_true, true_or, or_false, false_or, Classical.not_not, and_self, Int.reduceAdd, Int.reduceMul, Int.reduceSub, Int.reduceNeg, Int.reduceLT, Int.reduceLE, Int.reduceEq, Int.reduceNe, Int.reduceToNat, Nat.reduceAdd, Nat.reduceMul, Nat.reduceSub, Nat.reduceLeDiff, Nat.reduceLT, Nat.reduceEqDiff, reduceIte, Nat.zero_le, Nat.le_refl, Nat.add_zero, Nat.zero_add, twT hT, twV hV]
      (repeat (refine And.intro (by (first | omega | assumption | trivial | (simp only [inI]; omega) | (simp only [inL]; omega) | (refine jb_01) | (exact jb_in))) ?_))
      exact ih (p + 1) q n (by omega) (by omega) (by omega) (by omega) hQ
end TG
