/-! ===== the reference by hand: nudge, take, put, wet ===== -/
set_option maxRecDepth 100000
def plF (A : Int → Int) (s b : Int) : Nat → Int → Int
  | 0, _ => -1
  | n + 1, p => if A (16 + 10 * s + p) = b then p else plF A s b n (p + 1)
def plA (A : Int → Int) (b : Int) : Int := plF A (A (46 + 6 * b + 5)) b 10 0
theorem plF_ok {A : Int → Int} {s b : Int} : ∀ (n : Nat) (p r : Int), p ≤ r → r < p + n → A (16 + 10 * s + r) = b → p ≤ plF A s b n p ∧ plF A s b n p ≤ r ∧ A (16 + 10 * s + plF A s b n p) = b ∧ ∀ q, p ≤ q → q < plF A s b n p → ¬ A (16 + 10 * s + q) = b
  | 0, p, r, h1, h2, _ => by omega
  | n + 1, p, r, h1, h2, h3 => by
    unfold plF
    by_cases e : A (16 + 10 * s + p) = b
    · rw [if_pos e]; exact ⟨by omega, h1, e, fun q h4 h5 => by omega⟩
    · rw [if_neg e]
      have hr : ¬ p = r := fun h => e (by rw [h]; exact h3)
      have := plF_ok n (p + 1) r (by omega) (by omega) h3
      exact ⟨by omega, this.2.1, this.2.2.1, fun q h4 h5 => by
        by_cases e2 : q = p
        · rw [e2]; exact e
        · exact this.2.2.2 q (by omega) h5⟩
theorem plA_ok {A : Int → Int} (hB : TB A) (hS : SH A) {b : Int} (hb : 0 ≤ b ∧ b < A 0) (hw : A (46 + 6 * b + 5) < 3) : (0 ≤ A (46 + 6 * b + 5) ∧ A (46 + 6 * b + 5) < 3) ∧ (0 ≤ plA A b ∧ plA A b < A (13 + A (46 + 6 * b + 5))) ∧ A (16 + 10 * A (46 + 6 * b + 5) + plA A b) = b ∧ ∀ q, 0 ≤ q → q < plA A b → ¬ A (16 + 10 * A (46 + 6 * b + 5) + q) = b := by
  have h0 := hB.1
  have w0 := (hB.2.2.2.2.2.2 (46 + 6 * b + 5) (by omega) (by omega)).1
  obtain ⟨p, p0, p1, p2⟩ := hS.2.2.1 b hb.1 hb.2 hw
  have m := hB.2.2.2.2.2.1 (13 + A (46 + 6 * b + 5)) (by omega) (by omega)
  have := plF_ok 10 0 p p0 (by omega) p2
  exact ⟨⟨w0, hw⟩, ⟨this.1, by unfold plA; omega⟩, this.2.2.1, this.2.2.2⟩
abbrev opR : Type := (Int → Int) × Int × Int
def opNight (A X : Int → Int) (f n : Int) : opR := if (1 ≤ n ∧ n ≤ 99) ∧ A 1 + n ≤ 9999 then ntL X n.toNat A f 0 else (A, f, -1)
def opNudge (A : Int → Int) (f s p : Int) : opR := if (0 ≤ s ∧ s ≤ 2) ∧ (0 ≤ p ∧ p ≤ A (13 + s) - 2) then (excA (keepA A) s p, f, A (16 + 10 * s + (p + 1))) else (A, f, -1)
def tak (A : Int → Int) (b : Int) : Int → Int := if A (46 + 6 * b + 5) < 3 then pullA (keepA A) (A (46 + 6 * b + 5)) (plA A b) 3 else up1 (keepA A) (46 + 6 * b + 5) 3
def opTake (A : Int → Int) (f b : Int) : opR := if (0 ≤ b ∧ b ≤ A 0 - 1) ∧ ¬ A (46 + 6 * b + 5) = 3 then (tak A b, f, A (46 + 6 * b + 5)) else (A, f, -1)
def opPut (A X : Int → Int) (f b s p : Int) : opR := if (0 ≤ b ∧ b ≤ A 0 - 1) ∧ 3 ≤ A (46 + 6 * b + 5) ∧ (0 ≤ s ∧ s ≤ 2) ∧ (0 ≤ p ∧ p ≤ A (13 + s)) ∧ fuA A X s + thA A X b ≤ A (10 + s) then (setA (keepA A) b s p, f, A (13 + s) + 1) else (A, f, -1)
def opWet (A X : Int → Int) (f is : Int) : opR := if A 2 = is then (A, f, -1) else if is = 0 then (up1 (keepA A) 2 0, f, 0) else ((fallA (up1 (keepA A) 2 1) X).1, f, (fallA (up1 (keepA A) 2 1) X).2)
theorem jkn.rf {v : Int → Int → Int} : jkn v (v 540) (v 539 25) v := jka.rf.n
theorem keepA_p {A : Int → Int} (h7 : 0 ≤ A 7 ∧ A 7 ≤ 30) {i : Int} (h1 : 8 ≤ i) (h2 : i < 106) : keepA A i = A i := keepA_lo h7 (by omega) (by omega)
section TG
variable {g : jjG} {d : Nat} {T : jjT} {Q : jjQ} {v : Int → Int → Int}
theorem tw_nudge {s p : Int} (hT : PT T) (hV : PV v) (hS : TE v ∧ TI (v 540)) (hQ : ∀ w, jkn v (opNudge (v 540) (v 539 25) s p).1 (opNudge (v 540) (v 539 25) s p).2.1 w → Q (.inl (some (vI (opNudge (v 540) (v 539 25) s p).2.2))) (w, T)) : jmet g (d + 4) 0 0 MX2_nudge [vR 539, vI s, vI p] (v, T) Q := by
  obtain ⟨hE, hI⟩ := hS
  have h7 := hI.1.2.2.1
  have hB := hE.1
  refine jmet_of (ls := [some (vR 539), some (vI s), some (vI p)]) sX2_nudge rfl (by decide +kernel) (by decide) rfl (by simp [jent]) ?_
  unfold opNudge at hQ
  have no : ¬ ((0 ≤ s ∧ s ≤ 2) ∧ (0 ≤ p ∧ p ≤ v 540 (13 + s) - 2)) → jW bX2_nudge (g, d + 3, 0, 0, Q) 1 [some (vR 539), some (vI s), some (vI p)] [] (v, T) 0 0 := by
    intro h
    rw [if_neg h] at hQ
    refine jW_step ?_
    simp (disch := (first | decide | omega)) only [bX2_nudge, jxs, hps, jtsw, jlsw, List.length_cons, List.length_nil, true_and, and_true, true_implies, false_implies, implies_true, not_true_eq_false, not_false_eq_true, false_and, and_false, if_true, if_false, or_true, true_or, or_false, false_or, Classical.not_not, and_self, Int.reduceAdd, Int.reduceMul, Int.reduceSub, Int.reduceNeg, Int.reduceLT, Int.reduceLE, Int.reduceEq, Int.reduceNe, Int.reduceToNat, Nat.reduceAdd, Nat.reduceMul, Nat.reduceSub, Nat.reduceLeDiff, Nat.reduceLT, Nat.reduceEqDiff, reduceIte, Nat.zero_le, Nat.le_refl, Nat.add_zero, Nat.zero_add, twT hT, twV hV]
    (repeat (refine And.intro (by (first | omega | assumption | trivial | (simp only [inI]; omega) | (simp only [inL]; omega) | (refine jb_01) | (exact jb_in))) ?_))
    exact hQ v jkn.rf
  refine jW_step ?_
  simp (disch := (first | decide | omega)) only [bX2_nudge, jxs, hps, jtsw, jlsw, List.length_cons, List.length_nil, true_and, and_true, true_implies, false_implies, implies_true, not_true_eq_false, not_false_eq_true, false_and, and_false, if_true, if_false, or_true, true_or, or_false, false_or, Classical.not_not, and_self, Int.reduceAdd, Int.reduceMul, Int.reduceSub, Int.reduceNeg, Int.reduceLT, Int.reduceLE, Int.reduceEq, Int.reduceNe, Int.reduceToNat, Nat.reduceAdd, Nat.reduceMul, Nat.reduceSub, Nat.reduceLeDiff, Nat.reduceLT, Nat.reduceEqDiff, reduceIte, Nat.zero_le, Nat.le_refl, Nat.add_zero, Nat.zero_add, twT hT, twV hV]
  (repeat (refine And.intro (by (first | omega | assumption | trivial | (simp only [inI]; omega) | (simp only [inL]; omega) | (refine jb_01) | (exact jb_in))) ?_))
  refine ⟨0, 0, ⟨by omega, by omega⟩, tw_isShelf hT (by (first | assumption | (repeat (first | assumption | refine PV.A ?_ (by decide) | refine PV.F ?_ ?_ | refine twR.up ?_ (by decide) | refine PV.r ?_)))) (by (first | omega | assumption | trivial | (simp only [inI]; omega) | (simp only [inL]; omega) | (refine jb_01) | (exact jb_in))) ?_⟩
  simp (disch := (first | decide | omega)) only [jxs, hps, jtsw, jlsw, List.length_cons, List.length_nil, true_and, and_true, true_implies, false_implies, implies_true, not_true_eq_false, not_false_eq_true, false_and, and_false, if_true, if_false, or_true, true_or, or_false, false_or, Classical.not_not, and_self, Int.reduceAdd, Int.reduceMul, Int.reduceSub, Int.reduceNeg, Int.reduceLT, Int.reduceLE, Int.reduceEq, Int.reduceNe, Int.reduceToNat, Nat.reduceAdd, Nat.reduceMul, Nat.reduceSub, Nat.reduceLeDiff, Nat.reduceLT, Nat.reduceEqDiff, reduceIte, Nat.zero_le, Nat.le_refl, Nat.add_zero, Nat.zero_add, twT hT, twV hV]
  refine ⟨fun h => ?_, fun h => ?_⟩
  · exact no (fun q => h q.1)
  · have hm := hB.2.2.2.2.2.1 (13 + s) (by omega) (by omega)
    (repeat (refine And.intro (by (first | omega | assumption | trivial | (simp only [inI]; omega) | (simp only [inL]; omega) | (refine jb_01) | (exact jb_in))) ?_))
    refine ⟨0, 0, ⟨by omega, by omega⟩, tw_isIn hT (by (first | assumption | (repeat (first | assumption | refine PV.A ?_ (by decide) | refine PV.F ?_ ?_ | refine twR.up ?_ (by decide) | refine PV.r ?_)))) (by (first | omega | assumption | trivial | (simp only [inI]; omega) | (simp only [inL]; omega) | (refine jb_01) | (exact jb_in))) ?_⟩
    simp (disch := (first | decide | omega)) only [jxs, hps, jtsw, jlsw, List.length_cons, List.length_nil, true_and, and_true, true_implies, false_implies, implies_true, not_true_eq_false, not_false_eq_true, false_and, and_false, if_true, if_false, or_true, true_or, or_false, false_or, Classical.not_not, and_self, Int.reduceAdd, Int.reduceMul, Int.reduceSub, Int.reduceNeg, Int.reduceLT, Int.reduceLE, Int.reduceEq, Int.reduceNe, Int.reduceToNat, Nat.reduceAdd, Nat.reduceMul, Nat.reduceSub, Nat.reduceLeDiff, Nat.reduceLT, Nat.reduceEqDiff, reduceIte, Nat.zero_le, Nat.le_refl, Nat.add_zero, Nat.zero_add, twT hT, twV hV]
    refine ⟨fun h2 => ?_, fun h2 => ?_⟩
    · rw [if_pos ⟨h, h2⟩] at hQ
      (repeat (refine And.intro (by (first | omega | assumption | trivial | (simp only [inI]; omega) | (simp only [inL]; omega) | (refine jb_01) | (exact jb_in))) ?_))
      refine ⟨0, 0, ⟨by omega, by omega⟩, tw_keep hT hV h7 ?_⟩
      simp (disch := (first | decide | omega)) only [jxs, hps, jtsw, jlsw, List.length_cons, List.length_nil, true_and, and_true, true_implies, false_implies, implies_true, not_true_eq_false, not_false_eq_true, false_and, and_false, if_true, if_false, or_true, true_or, or_false, false_or, Classical.not_not, and_self, Int.reduceAdd, Int.reduceMul, Int.reduceSub, Int.reduceNeg, Int.reduceLT, Int.reduceLE, Int.reduceEq, Int.reduceNe, Int.reduceToNat, Nat.reduceAdd, Nat.reduceMul, Nat.reduceSub, Nat.reduceLeDiff, Nat.reduceLT, Nat.reduceEqDiff, reduceIte, Nat.zero_le, Nat.le_refl, Nat.add_zero, Nat.zero_add, twT hT, twV hV]
      (repeat (refine And.intro (by (first | omega | assumption | trivial | (simp only [inI]; omega) | (simp only [inL]; omega) | (refine jb_01) | (exact jb_in))) ?_))
      refine ⟨0, 0, ⟨by omega, by omega⟩, tw_exchange hT (by (first | assumption | (repeat (first | assumption | refine PV.A ?_ (by decide) | refine PV.F ?_ ?_ | refine twR.up ?_ (by decide) | refine PV.r ?_)))) (by omega) ?_⟩
      simp (disch := (first | decide | omega)) only [jxs, hps, jtsw, jlsw, List.length_cons, List.length_nil, true_and, and_true, true_implies, false_implies, implies_true, not_true_eq_false, not_false_eq_true, false_and, and_false, if_true, if_false, or_true, true_or, or_false, false_or, Classical.not_not, and_self, Int.reduceAdd, Int.reduceMul, Int.reduceSub, Int.reduceNeg, Int.reduceLT, Int.reduceLE, Int.reduceEq, Int.reduceNe, Int.reduceToNat, Nat.reduceAdd, Nat.reduceMul, Nat.reduceSub, Nat.reduceLeDiff, Nat.reduceLT, Nat.reduceEqDiff, reduceIte, Nat.zero_le, Nat.le_refl, Nat.add_zero, Nat.zero_add, twT hT, twV hV]
      (repeat (refine And.intro (by (first | omega | assumption | trivial | (simp only [inI]; omega) | (simp only [inL]; omega) | (refine jb_01) | (exact jb_in))) ?_))
      refine ⟨0, 0, ⟨by omega, by omega⟩, tw_bookAt hT (by (first | assumption | (repeat (first | assumption | refine PV.A ?_ (by decide) | refine PV.F ?_ ?_ | refine twR.up ?_ (by decide) | refine PV.r ?_)))) (by (first | omega | assumption | trivial | (simp only [inI]; omega) | (simp only [inL]; omega) | (refine jb_01) | (exact jb_in))) ?_⟩
      simp (disch := (first | decide | omega)) only [jxs, hps, jtsw, jlsw, List.length_cons, List.length_nil, true_and, and_true, true_implies, false_implies, implies_true, not_true_eq_false, not_false_eq_true, false_and, and_false, if_true, if_false, or_true, true_or, or_false, false_or, Classical.not_not, and_self, Int.reduceAdd, Int.reduceMul, Int.reduceSub, Int.reduceNeg, Int.reduceLT, Int.reduceLE, Int.reduceEq, Int.reduceNe, Int.reduceToNat, Nat.reduceAdd, Nat.reduceMul, Nat.reduceSub, Nat.reduceLeDiff, Nat.reduceLT, Nat.reduceEqDiff, reduceIte, Nat.zero_le, Nat.le_refl, Nat.add_zero, Nat.zero_add, twT hT, twV hV]
      (repeat (refine And.intro (by (first | omega | assumption | trivial | (simp only [inI]; omega) | (simp only [inL]; omega) | (refine jb_01) | (exact jb_in))) ?_))
      have e : excA (keepA (v 540)) s p (16 + 10 * s + p) = v 540 (16 + 10 * s + (p + 1)) := by
        rw [excA_p (by omega) (by omega) (by omega) (by omega), if_pos ⟨rfl, rfl⟩, keepA_p h7 (by omega) (by omega)]
      rw [e]
      exact hQ _ jka.rf.up.n
    · exact no (fun q => h2 q.2)
theorem tw_take {b : Int} (hT : PT T) (hV : PV v) (hS : TE v ∧ TI (v 540)) (hQ : ∀ w, jkn v (opTake (v 540) (v 539 25) b).1 (opTake (v 540) (v 539 25) b).2.1 w → Q (.inl (some (vI (opTake (v 540) (v 539 25) b).2.2))) (w, T)) : jmet g (d + 4) 0 0 MX2_take [vR 539, vI b] (v, T) Q := by
  obtain ⟨hE, hI⟩ := hS
  have h7 := hI.1.2.2.1
  have hB := hE.1
  have h0 := hB.1
  refine jmet_of (ls := [some (vR 539), some (vI b), none]) sX2_take rfl (by decide +kernel) (by decide) rfl (by simp [jent]) ?_
  unfold opTake at hQ
  have no : ¬ ((0 ≤ b ∧ b ≤ v 540 0 - 1) ∧ ¬ v 540 (46 + 6 * b + 5) = 3) → jW bX2_take (g, d + 3, 0, 0, Q) 1 [some (vR 539), some (vI b), none] [] (v, T) 0 0 := by
    intro h
    rw [if_neg h] at hQ
    refine jW_step ?_
    simp (disch := (first | decide | omega)) only [bX2_take, jxs, hps, jtsw, jlsw, List.length_cons, List.length_nil, true_and, and_true, true_implies, false_implies, implies_true, not_true_eq_false, not_false_eq_true, false_and, and_false, if_true, if_false, or_true, true_or, or_false, false_or, Classical.not_not, and_self, Int.reduceAdd, Int.reduceMul, Int.reduceSub, Int.reduceNeg, Int.reduceLT, Int.reduceLE, Int.reduceEq, Int.reduceNe, Int.reduceToNat, Nat.reduceAdd, Nat.reduceMul, Nat.reduceSub, Nat.reduceLeDiff, Nat.reduceLT, Nat.reduceEqDiff, reduceIte, Nat.zero_le, Nat.le_refl, Nat.add_zero, Nat.zero_add, twT hT, twV hV]
    (repeat (refine And.intro (by (first | omega | assumption | trivial | (simp only [inI]; omega) | (simp only [inL]; omega) | (refine jb_01) | (exact jb_in))) ?_))
    exact hQ v jkn.rf
  refine jW_step ?_
  simp (disch := (first | decide | omega)) only [bX2_take, jxs, hps, jtsw, jlsw, List.length_cons, List.length_nil, true_and, and_true, true_implies, false_implies, implies_true, not_true_eq_false, not_false_eq_true, false_and, and_false, if_true, if_false, or_true, true_or, or_false, false_or, Classical.not_not, and_self, Int.reduceAdd, Int.reduceMul, Int.reduceSub, Int.reduceNeg, Int.reduceLT, Int.reduceLE, Int.reduceEq, Int.reduceNe, Int.reduceToNat, Nat.reduceAdd, Nat.reduceMul, Nat.reduceSub, Nat.reduceLeDiff, Nat.reduceLT, Nat.reduceEqDiff, reduceIte, Nat.zero_le, Nat.le_refl, Nat.add_zero, Nat.zero_add, twT hT, twV hV]
  (repeat (refine And.intro (by (first | omega | assumption | trivial | (simp only [inI]; omega) | (simp only [inL]; omega) | (refine jb_01) | (exact jb_in))) ?_))
  refine ⟨0, 0, ⟨by omega, by omega⟩, tw_isBook hT (by (first | assumption | (repeat (first | assumption | refine PV.A ?_ (by decide) | refine PV.F ?_ ?_ | refine twR.up ?_ (by decide) | refine PV.r ?_)))) (by (first | omega | assumption | trivial | (simp only [inI]; omega) | (simp only [inL]; omega) | (refine jb_01) | (exact jb_in))) ?_⟩
  simp (disch := (first | decide | omega)) only [jxs, hps, jtsw, jlsw, List.length_cons, List.length_nil, true_and, and_true, true_implies, false_implies, implies_true, not_true_eq_false, not_false_eq_true, false_and, and_false, if_true, if_false, or_true, true_or, or_false, false_or, Classical.not_not, and_self, Int.reduceAdd, Int.reduceMul, Int.reduceSub, Int.reduceNeg, Int.reduceLT, Int.reduceLE, Int.reduceEq, Int.reduceNe, Int.reduceToNat, Nat.reduceAdd, Nat.reduceMul, Nat.reduceSub, Nat.reduceLeDiff, Nat.reduceLT, Nat.reduceEqDiff, reduceIte, Nat.zero_le, Nat.le_refl, Nat.add_zero, Nat.zero_add, twT hT, twV hV]
  refine ⟨fun h => ?_, fun h => ?_⟩
  · exact no (fun q => h q.1)
  · (repeat (refine And.intro (by (first | omega | assumption | trivial | (simp only [inI]; omega) | (simp only [inL]; omega) | (refine jb_01) | (exact jb_in))) ?_))
    refine ⟨0, 0, ⟨by omega, by omega⟩, tw_get hT (by (first | assumption | (repeat (first | assumption | refine PV.A ?_ (by decide) | refine PV.F ?_ ?_ | refine twR.up ?_ (by decide) | refine PV.r ?_)))) (by (first | omega | assumption | trivial | (simp only [inI]; omega) | (simp only [inL]; omega) | (refine jb_01) | (exact jb_in))) ?_⟩
    simp (disch := (first | decide | omega)) only [jxs, hps, jtsw, jlsw, List.length_cons, List.length_nil, true_and, and_true, true_implies, false_implies, implies_true, not_true_eq_false, not_false_eq_true, false_and, and_false, if_true, if_false, or_true, true_or, or_false, false_or, Classical.not_not, and_self, Int.reduceAdd, Int.reduceMul, Int.reduceSub, Int.reduceNeg, Int.reduceLT, Int.reduceLE, Int.reduceEq, Int.reduceNe, Int.reduceToNat, Nat.reduceAdd, Nat.reduceMul, Nat.reduceSub, Nat.reduceLeDiff, Nat.reduceLT, Nat.reduceEqDiff, reduceIte, Nat.zero_le, Nat.le_refl, Nat.add_zero, Nat.zero_add, twT hT, twV hV]
    refine ⟨fun h2 => ?_, fun h2 => ?_⟩
    · rw [if_pos ⟨h, h2⟩] at hQ
      (repeat (refine And.intro (by (first | omega | assumption | trivial | (simp only [inI]; omega) | (simp only [inL]; omega) | (refine jb_01) | (exact jb_in))) ?_))
      refine ⟨0, 0, ⟨by omega, by omega⟩, tw_keep hT hV h7 ?_⟩
      simp (disch := (first | decide | omega)) only [jxs, hps, jtsw, jlsw, List.length_cons, List.length_nil, true_and, and_true, true_implies, false_implies, implies_true, not_true_eq_false, not_false_eq_true, false_and, and_false, if_true, if_false, or_true, true_or, or_false, false_or, Classical.not_not, and_self, Int.reduceAdd, Int.reduceMul, Int.reduceSub, Int.reduceNeg, Int.reduceLT, Int.reduceLE, Int.reduceEq, Int.reduceNe, Int.reduceToNat, Nat.reduceAdd, Nat.reduceMul, Nat.reduceSub, Nat.reduceLeDiff, Nat.reduceLT, Nat.reduceEqDiff, reduceIte, Nat.zero_le, Nat.le_refl, Nat.add_zero, Nat.zero_add, twT hT, twV hV]
      (repeat (refine And.intro (by (first | omega | assumption | trivial | (simp only [inI]; omega) | (simp only [inL]; omega) | (refine jb_01) | (exact jb_in))) ?_))
      have ek : keepA (v 540) (46 + 6 * b + 5) = v 540 (46 + 6 * b + 5) := keepA_p h7 (by omega) (by omega)
      refine ⟨0, 0, ⟨by omega, by omega⟩, tw_get hT (by (first | assumption | (repeat (first | assumption | refine PV.A ?_ (by decide) | refine PV.F ?_ ?_ | refine twR.up ?_ (by decide) | refine PV.r ?_)))) (by omega) ?_⟩
      simp (disch := (first | decide | omega)) only [jxs, hps, jtsw, jlsw, List.length_cons, List.length_nil, true_and, and_true, true_implies, false_implies, implies_true, not_true_eq_false, not_false_eq_true, false_and, and_false, if_true, if_false, or_true, true_or, or_false, false_or, Classical.not_not, and_self, Int.reduceAdd, Int.reduceMul, Int.reduceSub, Int.reduceNeg, Int.reduceLT, Int.reduceLE, Int.reduceEq, Int.reduceNe, Int.reduceToNat, Nat.reduceAdd, Nat.reduceMul, Nat.reduceSub, Nat.reduceLeDiff, Nat.reduceLT, Nat.reduceEqDiff, reduceIte, Nat.zero_le, Nat.le_refl, Nat.add_zero, Nat.zero_add, twT hT, twV hV, ek]
      unfold tak at hQ
      refine ⟨fun h3 => ?_, fun h3 => ?_⟩
      · rw [if_neg (by omega)] at hQ
        (repeat (refine And.intro (by (first | omega | assumption | trivial | (simp only [inI]; omega) | (simp only [inL]; omega) | (refine jb_01) | (exact jb_in))) ?_))
        refine ⟨0, 0, ⟨by omega, by omega⟩, tw_set hT (by (first | assumption | (repeat (first | assumption | refine PV.A ?_ (by decide) | refine PV.F ?_ ?_ | refine twR.up ?_ (by decide) | refine PV.r ?_)))) (by omega) ?_⟩
        simp (disch := (first | decide | omega)) only [jxs, hps, jtsw, jlsw, List.length_cons, List.length_nil, true_and, and_true, true_implies, false_implies, implies_true, not_true_eq_false, not_false_eq_true, false_and, and_false, if_true, if_false, or_true, true_or, or_false, false_or, Classical.not_not, and_self, Int.reduceAdd, Int.reduceMul, Int.reduceSub, Int.reduceNeg, Int.reduceLT, Int.reduceLE, Int.reduceEq, Int.reduceNe, Int.reduceToNat, Nat.reduceAdd, Nat.reduceMul, Nat.reduceSub, Nat.reduceLeDiff, Nat.reduceLT, Nat.reduceEqDiff, reduceIte, Nat.zero_le, Nat.le_refl, Nat.add_zero, Nat.zero_add, twT hT, twV hV]
        refine jW_step ?_
        simp (disch := (first | decide | omega)) only [bX2_take, jxs, hps, jtsw, jlsw, List.length_cons, List.length_nil, true_and, and_true, true_implies, false_implies, implies_true, not_true_eq_false, not_false_eq_true, false_and, and_false, if_true, if_false, or_true, true_or, or_false, false_or, Classical.not_not, and_self, Int.reduceAdd, Int.reduceMul, Int.reduceSub, Int.reduceNeg, Int.reduceLT, Int.reduceLE, Int.reduceEq, Int.reduceNe, Int.reduceToNat, Nat.reduceAdd, Nat.reduceMul, Nat.reduceSub, Nat.reduceLeDiff, Nat.reduceLT, Nat.reduceEqDiff, reduceIte, Nat.zero_le, Nat.le_refl, Nat.add_zero, Nat.zero_add, twT hT, twV hV]
        (repeat (refine And.intro (by (first | omega | assumption | trivial | (simp only [inI]; omega) | (simp only [inL]; omega) | (refine jb_01) | (exact jb_in))) ?_))
        exact hQ _ jka.rf.up.n
      · rw [if_pos (by omega)] at hQ
        have pl := plA_ok hB hI.2.1 (b := b) (by omega) (by omega)
        have m := hB.2.2.2.2.2.1 (13 + v 540 (46 + 6 * b + 5)) (by omega) (by omega)
        have ep : ∀ q, 0 ≤ q → q < 10 → keepA (v 540) (16 + 10 * v 540 (46 + 6 * b + 5) + q) = v 540 (16 + 10 * v 540 (46 + 6 * b + 5) + q) := fun q q0 q1 => keepA_p h7 (by omega) (by omega)
        have em : keepA (v 540) (13 + v 540 (46 + 6 * b + 5)) = v 540 (13 + v 540 (46 + 6 * b + 5)) := keepA_p h7 (by omega) (by omega)
        (repeat (refine And.intro (by (first | omega | assumption | trivial | (simp only [inI]; omega) | (simp only [inL]; omega) | (refine jb_01) | (exact jb_in))) ?_))
        refine ⟨0, 0, ⟨by omega, by omega⟩, tw_placeOf (p := plA (v 540) b) hT (by (first | assumption | (repeat (first | assumption | refine PV.A ?_ (by decide) | refine PV.F ?_ ?_ | refine twR.up ?_ (by decide) | refine PV.r ?_)))) ?_ ?_⟩
        · rw [upA_eq, ek]
          refine ⟨by omega, ?_, ?_⟩
          · rw [ep _ (by omega) (by omega)]; exact pl.2.2.1
          · intro q q0 q1
            rw [ep _ (by omega) (by omega)]
            exact pl.2.2.2 q q0 q1
        simp (disch := (first | decide | omega)) only [jxs, hps, jtsw, jlsw, List.length_cons, List.length_nil, true_and, and_true, true_implies, false_implies, implies_true, not_true_eq_false, not_false_eq_true, false_and, and_false, if_true, if_false, or_true, true_or, or_false, false_or, Classical.not_not, and_self, Int.reduceAdd, Int.reduceMul, Int.reduceSub, Int.reduceNeg, Int.reduceLT, Int.reduceLE, Int.reduceEq, Int.reduceNe, Int.reduceToNat, Nat.reduceAdd, Nat.reduceMul, Nat.reduceSub, Nat.reduceLeDiff, Nat.reduceLT, Nat.reduceEqDiff, reduceIte, Nat.zero_le, Nat.le_refl, Nat.add_zero, Nat.zero_add, twT hT, twV hV]
        (repeat (refine And.intro (by (first | omega | assumption | trivial | (simp only [inI]; omega) | (simp only [inL]; omega) | (refine jb_01) | (exact jb_in))) ?_))
        refine ⟨0, 0, ⟨by omega, by omega⟩, tw_pull hT (by (first | assumption | (repeat (first | assumption | refine PV.A ?_ (by decide) | refine PV.F ?_ ?_ | refine twR.up ?_ (by decide) | refine PV.r ?_)))) ?_ ?_⟩
        · rw [upA_eq, em, ep _ (by omega) (by omega), pl.2.2.1]; omega
        simp (disch := (first | decide | omega)) only [jxs, hps, jtsw, jlsw, List.length_cons, List.length_nil, true_and, and_true, true_implies, false_implies, implies_true, not_true_eq_false, not_false_eq_true, false_and, and_false, if_true, if_false, or_true, true_or, or_false, false_or, Classical.not_not, and_self, Int.reduceAdd, Int.reduceMul, Int.reduceSub, Int.reduceNeg, Int.reduceLT, Int.reduceLE, Int.reduceEq, Int.reduceNe, Int.reduceToNat, Nat.reduceAdd, Nat.reduceMul, Nat.reduceSub, Nat.reduceLeDiff, Nat.reduceLT, Nat.reduceEqDiff, reduceIte, Nat.zero_le, Nat.le_refl, Nat.add_zero, Nat.zero_add, twT hT, twV hV]
        refine jW_step ?_
        simp (disch := (first | decide | omega)) only [bX2_take, jxs, hps, jtsw, jlsw, List.length_cons, List.length_nil, true_and, and_true, true_implies, false_implies, implies_true, not_true_eq_false, not_false_eq_true, false_and, and_false, if_true, if_false, or_true, true_or, or_false, false_or, Classical.not_not, and_self, Int.reduceAdd, Int.reduceMul, Int.reduceSub, Int.reduceNeg, Int.reduceLT, Int.reduceLE, Int.reduceEq, Int.reduceNe, Int.reduceToNat, Nat.reduceAdd, Nat.reduceMul, Nat.reduceSub, Nat.reduceLeDiff, Nat.reduceLT, Nat.reduceEqDiff, reduceIte, Nat.zero_le, Nat.le_refl, Nat.add_zero, Nat.zero_add, twT hT, twV hV]
        (repeat (refine And.intro (by (first | omega | assumption | trivial | (simp only [inI]; omega) | (simp only [inL]; omega) | (refine jb_01) | (exact jb_in))) ?_))
        exact hQ _ jka.rf.up.n
    · exact no (fun q => q.2 h2)
theorem tw_put {b s p : Int} (hT : PT T) (hV : PV v) (hS : TE v ∧ TI (v 540)) (hQ : ∀ w, jkn v (opPut (v 540) (v 542) (v 539 25) b s p).1 (opPut (v 540) (v 542) (v 539 25) b s p).2.1 w → Q (.inl (some (vI (opPut (v 540) (v 542) (v 539 25) b s p).2.2))) (w, T)) : jmet g (d + 6) 0 0 MX2_put [vR 539, vI b, vI s, vI p] (v, T) Q := by
  obtain ⟨hE, hI⟩ := hS
  have h7 := hI.1.2.2.1
  have hB := hE.1
  have h0 := hB.1
  refine jmet_of (ls := [some (vR 539), some (vI b), some (vI s), some (vI p)]) sX2_put rfl (by decide +kernel) (by decide) rfl (by simp [jent]) ?_
  unfold opPut at hQ
  have no : ¬ ((0 ≤ b ∧ b ≤ v 540 0 - 1) ∧ 3 ≤ v 540 (46 + 6 * b + 5) ∧ (0 ≤ s ∧ s ≤ 2) ∧ (0 ≤ p ∧ p ≤ v 540 (13 + s)) ∧ fuA (v 540) (v 542) s + thA (v 540) (v 542) b ≤ v 540 (10 + s)) → jW bX2_put (g, d + 5, 0, 0, Q) 1 [some (vR 539), some (vI b), some (vI s), some (vI p)] [] (v, T) 0 0 := by
    intro h
    rw [if_neg h] at hQ
    refine jW_step ?_
    simp (disch := (first | decide | omega)) only [bX2_put, jxs, hps, jtsw, jlsw, List.length_cons, List.length_nil, true_and, and_true, true_implies, false_implies, implies_true, not_true_eq_false, not_false_eq_true, false_and, and_false, if_true, if_false, or_true, true_or, or_false, false_or, Classical.not_not, and_self, Int.reduceAdd, Int.reduceMul, Int.reduceSub, Int.reduceNeg, Int.reduceLT, Int.reduceLE, Int.reduceEq, Int.reduceNe, Int.reduceToNat, Nat.reduceAdd, Nat.reduceMul, Nat.reduceSub, Nat.reduceLeDiff, Nat.reduceLT, Nat.reduceEqDiff, reduceIte, Nat.zero_le, Nat.le_refl, Nat.add_zero, Nat.zero_add, twT hT, twV hV]
    (repeat (refine And.intro (by (first | omega | assumption | trivial | (simp only [inI]; omega) | (simp only [inL]; omega) | (refine jb_01) | (exact jb_in))) ?_))
    exact hQ v jkn.rf
  refine jW_step ?_
  simp (disch := (first | decide | omega)) only [bX2_put, jxs, hps, jtsw, jlsw, List.length_cons, List.length_nil, true_and, and_true, true_implies, false_implies, implies_true, not_true_eq_false, not_false_eq_true, false_and, and_false, if_true, if_false, or_true, true_or, or_false, false_or, Classical.not_not, and_self, Int.reduceAdd, Int.reduceMul, Int.reduceSub, Int.reduceNeg, Int.reduceLT, Int.reduceLE, Int.reduceEq, Int.reduceNe, Int.reduceToNat, Nat.reduceAdd, Nat.reduceMul, Nat.reduceSub, Nat.reduceLeDiff, Nat.reduceLT, Nat.reduceEqDiff, reduceIte, Nat.zero_le, Nat.le_refl, Nat.add_zero, Nat.zero_add, twT hT, twV hV]
  (repeat (refine And.intro (by (first | omega | assumption | trivial | (simp only [inI]; omega) | (simp only [inL]; omega) | (refine jb_01) | (exact jb_in))) ?_))
  refine ⟨0, 0, ⟨by omega, by omega⟩, tw_isBook hT (by (first | assumption | (repeat (first | assumption | refine PV.A ?_ (by decide) | refine PV.F ?_ ?_ | refine twR.up ?_ (by decide) | refine PV.r ?_)))) (by (first | omega | assumption | trivial | (simp only [inI]; omega) | (simp only [inL]; omega) | (refine jb_01) | (exact jb_in))) ?_⟩
  simp (disch := (first | decide | omega)) only [jxs, hps, jtsw, jlsw, List.length_cons, List.length_nil, true_and, and_true, true_implies, false_implies, implies_true, not_true_eq_false, not_false_eq_true, false_and, and_false, if_true, if_false, or_true, true_or, or_false, false_or, Classical.not_not, and_self, Int.reduceAdd, Int.reduceMul, Int.reduceSub, Int.reduceNeg, Int.reduceLT, Int.reduceLE, Int.reduceEq, Int.reduceNe, Int.reduceToNat, Nat.reduceAdd, Nat.reduceMul, Nat.reduceSub, Nat.reduceLeDiff, Nat.reduceLT, Nat.reduceEqDiff, reduceIte, Nat.zero_le, Nat.le_refl, Nat.add_zero, Nat.zero_add, twT hT, twV hV]
  refine ⟨fun h => ?_, fun h => ?_⟩
  · exact no (fun q => h q.1)
  (repeat (refine And.intro (by (first | omega | assumption | trivial | (simp only [inI]; omega) | (simp only [inL]; omega) | (refine jb_01) | (exact jb_in))) ?_))
  refine ⟨0, 0, ⟨by omega, by omega⟩, tw_get hT (by (first | assumption | (repeat (first | assumption | refine PV.A ?_ (by decide) | refine PV.F ?_ ?_ | refine twR.up ?_ (by decide) | refine PV.r ?_)))) (by (first | omega | assumption | trivial | (simp only [inI]; omega) | (simp only [inL]; omega) | (refine jb_01) | (exact jb_in))) ?_⟩
  simp (disch := (first | decide | omega)) only [jxs, hps, jtsw, jlsw, List.length_cons, List.length_nil, true_and, and_true, true_implies, false_implies, implies_true, not_true_eq_false, not_false_eq_true, false_and, and_false, if_true, if_false, or_true, true_or, or_false, false_or, Classical.not_not, and_self, Int.reduceAdd, Int.reduceMul, Int.reduceSub, Int.reduceNeg, Int.reduceLT, Int.reduceLE, Int.reduceEq, Int.reduceNe, Int.reduceToNat, Nat.reduceAdd, Nat.reduceMul, Nat.reduceSub, Nat.reduceLeDiff, Nat.reduceLT, Nat.reduceEqDiff, reduceIte, Nat.zero_le, Nat.le_refl, Nat.add_zero, Nat.zero_add, twT hT, twV hV]
  refine ⟨fun h2 => ?_, fun h2 => ?_⟩
  · exact no (fun q => by omega)
  (repeat (refine And.intro (by (first | omega | assumption | trivial | (simp only [inI]; omega) | (simp only [inL]; omega) | (refine jb_01) | (exact jb_in))) ?_))
  refine ⟨0, 0, ⟨by omega, by omega⟩, tw_isShelf hT (by (first | assumption | (repeat (first | assumption | refine PV.A ?_ (by decide) | refine PV.F ?_ ?_ | refine twR.up ?_ (by decide) | refine PV.r ?_)))) (by (first | omega | assumption | trivial | (simp only [inI]; omega) | (simp only [inL]; omega) | (refine jb_01) | (exact jb_in))) ?_⟩
  simp (disch := (first | decide | omega)) only [jxs, hps, jtsw, jlsw, List.length_cons, List.length_nil, true_and, and_true, true_implies, false_implies, implies_true, not_true_eq_false, not_false_eq_true, false_and, and_false, if_true, if_false, or_true, true_or, or_false, false_or, Classical.not_not, and_self, Int.reduceAdd, Int.reduceMul, Int.reduceSub, Int.reduceNeg, Int.reduceLT, Int.reduceLE, Int.reduceEq, Int.reduceNe, Int.reduceToNat, Nat.reduceAdd, Nat.reduceMul, Nat.reduceSub, Nat.reduceLeDiff, Nat.reduceLT, Nat.reduceEqDiff, reduceIte, Nat.zero_le, Nat.le_refl, Nat.add_zero, Nat.zero_add, twT hT, twV hV]
  refine ⟨fun h3 => ?_, fun h3 => ?_⟩
  · exact no (fun q => h3 q.2.2.1)
  have hm := hB.2.2.2.2.2.1 (13 + s) (by omega) (by omega)
  (repeat (refine And.intro (by (first | omega | assumption | trivial | (simp only [inI]; omega) | (simp only [inL]; omega) | (refine jb_01) | (exact jb_in))) ?_))
  refine ⟨0, 0, ⟨by omega, by omega⟩, tw_isIn hT (by (first | assumption | (repeat (first | assumption | refine PV.A ?_ (by decide) | refine PV.F ?_ ?_ | refine twR.up ?_ (by decide) | refine PV.r ?_)))) (by (first | omega | assumption | trivial | (simp only [inI]; omega) | (simp only [inL]; omega) | (refine jb_01) | (exact jb_in))) ?_⟩
  simp (disch := (first | decide | omega)) only [jxs, hps, jtsw, jlsw, List.length_cons, List.length_nil, true_and, and_true, true_implies, false_implies, implies_true, not_true_eq_false, not_false_eq_true, false_and, and_false, if_true, if_false, or_true, true_or, or_false, false_or, Classical.not_not, and_self, Int.reduceAdd, Int.reduceMul, Int.reduceSub, Int.reduceNeg, Int.reduceLT, Int.reduceLE, Int.reduceEq, Int.reduceNe, Int.reduceToNat, Nat.reduceAdd, Nat.reduceMul, Nat.reduceSub, Nat.reduceLeDiff, Nat.reduceLT, Nat.reduceEqDiff, reduceIte, Nat.zero_le, Nat.le_refl, Nat.add_zero, Nat.zero_add, twT hT, twV hV]
  refine ⟨fun h4 => ?_, fun h4 => ?_⟩
  · have fb := fuF_bd (X := v 542) hB (s := s) (by omega) (v 540 (13 + s)).toNat (by omega)
    have tb := thA_bd (X := v 542) hB (b := b) (by omega)
    have fe : fuA (v 540) (v 542) s = fuF (v 540) (v 542) s (v 540 (13 + s)).toNat := rfl
    rw [← fe] at fb
    (repeat (refine And.intro (by (first | omega | assumption | trivial | (simp only [inI]; omega) | (simp only [inL]; omega) | (refine jb_01) | (exact jb_in))) ?_))
    refine ⟨0, 0, ⟨by omega, by omega⟩, tw_fullOf hT hV ⟨hE, by omega, by omega⟩ ?_⟩
    intro w hw
    have hVw := hw.pv hV
    have hEw := hw.te hE
    simp (disch := (first | decide | omega)) only [jxs, hps, jtsw, jlsw, List.length_cons, List.length_nil, true_and, and_true, true_implies, false_implies, implies_true, not_true_eq_false, not_false_eq_true, false_and, and_false, if_true, if_false, or_true, true_or, or_false, false_or, Classical.not_not, and_self, Int.reduceAdd, Int.reduceMul, Int.reduceSub, Int.reduceNeg, Int.reduceLT, Int.reduceLE, Int.reduceEq, Int.reduceNe, Int.reduceToNat, Nat.reduceAdd, Nat.reduceMul, Nat.reduceSub, Nat.reduceLeDiff, Nat.reduceLT, Nat.reduceEqDiff, reduceIte, Nat.zero_le, Nat.le_refl, Nat.add_zero, Nat.zero_add, twT hT, twV hV]
    (repeat (refine And.intro (by (first | omega | assumption | trivial | (simp only [inI]; omega) | (simp only [inL]; omega) | (refine jb_01) | (exact jb_in))) ?_))
    refine ⟨0, 0, ⟨by omega, by omega⟩, tw_thickNow hT hVw ⟨hEw, by omega, by omega⟩ ?_⟩
    rw [hw.a, hw.x]
    intro u hu
    have j := hw.tr hu
    have ea := j.a
    have hV := j.pv hV
    simp (disch := (first | decide | omega)) only [jxs, hps, jtsw, jlsw, List.length_cons, List.length_nil, true_and, and_true, true_implies, false_implies, implies_true, not_true_eq_false, not_false_eq_true, false_and, and_false, if_true, if_false, or_true, true_or, or_false, false_or, Classical.not_not, and_self, Int.reduceAdd, Int.reduceMul, Int.reduceSub, Int.reduceNeg, Int.reduceLT, Int.reduceLE, Int.reduceEq, Int.reduceNe, Int.reduceToNat, Nat.reduceAdd, Nat.reduceMul, Nat.reduceSub, Nat.reduceLeDiff, Nat.reduceLT, Nat.reduceEqDiff, reduceIte, Nat.zero_le, Nat.le_refl, Nat.add_zero, Nat.zero_add, twT hT, twV hV, ea]
    (repeat (refine And.intro (by (first | omega | assumption | trivial | (simp only [inI]; omega) | (simp only [inL]; omega) | (refine jb_01) | (exact jb_in))) ?_))
    refine ⟨fun h5 => ?_, fun h5 => ?_⟩
    · rw [if_pos ⟨h, by omega, h3, h4, h5⟩] at hQ
      (repeat (refine And.intro (by (first | omega | assumption | trivial | (simp only [inI]; omega) | (simp only [inL]; omega) | (refine jb_01) | (exact jb_in))) ?_))
      refine ⟨0, 0, ⟨by omega, by omega⟩, tw_keep hT hV (by rw [ea]; exact h7) ?_⟩
      rw [ea]
      have room := hI.2.1.room hB (b := b) (s := s) (by omega) (by omega) (by omega)
      have em : keepA (v 540) (13 + s) = v 540 (13 + s) := keepA_p h7 (by omega) (by omega)
      simp (disch := (first | decide | omega)) only [jxs, hps, jtsw, jlsw, List.length_cons, List.length_nil, true_and, and_true, true_implies, false_implies, implies_true, not_true_eq_false, not_false_eq_true, false_and, and_false, if_true, if_false, or_true, true_or, or_false, false_or, Classical.not_not, and_self, Int.reduceAdd, Int.reduceMul, Int.reduceSub, Int.reduceNeg, Int.reduceLT, Int.reduceLE, Int.reduceEq, Int.reduceNe, Int.reduceToNat, Nat.reduceAdd, Nat.reduceMul, Nat.reduceSub, Nat.reduceLeDiff, Nat.reduceLT, Nat.reduceEqDiff, reduceIte, Nat.zero_le, Nat.le_refl, Nat.add_zero, Nat.zero_add, twT hT, twV hV]
      (repeat (refine And.intro (by (first | omega | assumption | trivial | (simp only [inI]; omega) | (simp only [inL]; omega) | (refine jb_01) | (exact jb_in))) ?_))
      refine ⟨0, 0, ⟨by omega, by omega⟩, tw_setAt hT (by (first | assumption | (repeat (first | assumption | refine PV.A ?_ (by decide) | refine PV.F ?_ ?_ | refine twR.up ?_ (by decide) | refine PV.r ?_)))) (by rw [upA_eq, em]; omega) ?_⟩
      simp (disch := (first | decide | omega)) only [jxs, hps, jtsw, jlsw, List.length_cons, List.length_nil, true_and, and_true, true_implies, false_implies, implies_true, not_true_eq_false, not_false_eq_true, false_and, and_false, if_true, if_false, or_true, true_or, or_false, false_or, Classical.not_not, and_self, Int.reduceAdd, Int.reduceMul, Int.reduceSub, Int.reduceNeg, Int.reduceLT, Int.reduceLE, Int.reduceEq, Int.reduceNe, Int.reduceToNat, Nat.reduceAdd, Nat.reduceMul, Nat.reduceSub, Nat.reduceLeDiff, Nat.reduceLT, Nat.reduceEqDiff, reduceIte, Nat.zero_le, Nat.le_refl, Nat.add_zero, Nat.zero_add, twT hT, twV hV]
      (repeat (refine And.intro (by (first | omega | assumption | trivial | (simp only [inI]; omega) | (simp only [inL]; omega) | (refine jb_01) | (exact jb_in))) ?_))
      have e : setA (keepA (v 540)) b s p (13 + s) = v 540 (13 + s) + 1 := by
        rw [setA_n (by omega) (by rw [em]; omega) (by omega) (by omega), if_pos rfl, em]
      rw [e]
      exact hQ _ j.ka.up.n
    · rw [if_neg (fun q => h5 q.2.2.2.2)] at hQ
      (repeat (refine And.intro (by (first | omega | assumption | trivial | (simp only [inI]; omega) | (simp only [inL]; omega) | (refine jb_01) | (exact jb_in))) ?_))
      refine hQ _ ?_
      have := j.ka.n
      exact this
  · exact no (fun q => h4 q.2.2.2.1)
theorem TB.n2 {A : Int → Int} (h : TB A) {z : Int} (hz : 0 ≤ z ∧ z ≤ 1) : TB (up1 A 2 z) := by
  obtain ⟨h0, h2, h3, h5, h6, hm, hp⟩ := h
  refine ⟨?_, ?_, ?_, ?_, ?_, ?_, ?_⟩
  · rw [up1_ne (by omega)]; exact h0
  · rw [up1_eq]; exact hz
  · rw [up1_ne (by omega)]; exact h3
  · rw [up1_ne (by omega)]; exact h5
  · rw [up1_ne (by omega), up1_ne (by omega)]; exact h6
  · intro i h1 h2; rw [up1_ne (by omega)]; exact hm i h1 h2
  · intro i h1 h2; rw [up1_ne (by omega)]; exact hp i h1 h2
theorem tw_wet {is : Int} (hT : PT T) (hV : PV v) (hS : TE v ∧ TI (v 540) ∧ (0 ≤ is ∧ is ≤ 1)) (hQ : ∀ w, jkn v (opWet (v 540) (v 542) (v 539 25) is).1 (opWet (v 540) (v 542) (v 539 25) is).2.1 w → Q (.inl (some (vI (opWet (v 540) (v 542) (v 539 25) is).2.2))) (w, T)) : jmet g (d + 8) 0 0 MX2_wet [vR 539, vI is] (v, T) Q := by
  obtain ⟨hE, hI, hi⟩ := hS
  have h7 := hI.1.2.2.1
  have hB := hE.1
  have hW := hI.1.2.1
  have b1 : TB (up1 (keepA (v 540)) 2 1) := (keepA_TB hB h7).n2 (by omega)
  have w1 : TW (up1 (keepA (v 540)) 2 1) := fun i h1 h2 => by rw [up1_ne (by omega)]; exact keepA_TW hW h7 i h1 h2
  have e5 : up1 (keepA (v 540)) 2 1 5 = v 540 5 := by rw [up1_ne (by omega)]; exact keepA_lo h7 (by omega) (by omega)
  refine jmet_of (ls := [some (vR 539), some (vI is)]) sX2_wet rfl (by decide +kernel) (by decide) rfl (by simp [jent]) ?_
  unfold opWet at hQ
  have k1 : jW bX2_wet (g, d + 7, 0, 0, Q) 1 [some (vR 539), some (vI is)] [vI is, vI (v 540 2)] (v, T) 0 0 := by
    refine jW_step ?_
    simp (disch := (first | decide | omega)) only [bX2_wet, jxs, hps, jtsw, jlsw, List.length_cons, List.length_nil, true_and, and_true, true_implies, false_implies, implies_true, not_true_eq_false, not_false_eq_true, false_and, and_false, if_true, if_false, or_true, true_or, or_false, false_or, Classical.not_not, and_self, Int.reduceAdd, Int.reduceMul, Int.reduceSub, Int.reduceNeg, Int.reduceLT, Int.reduceLE, Int.reduceEq, Int.reduceNe, Int.reduceToNat, Nat.reduceAdd, Nat.reduceMul, Nat.reduceSub, Nat.reduceLeDiff, Nat.reduceLT, Nat.reduceEqDiff, reduceIte, Nat.zero_le, Nat.le_refl, Nat.add_zero, Nat.zero_add, twT hT, twV hV]
    refine ⟨fun h => ?_, fun h => ?_⟩
    · rw [if_neg h] at hQ
      (repeat (refine And.intro (by (first | omega | assumption | trivial | (simp only [inI]; omega) | (simp only [inL]; omega) | (refine jb_01) | (exact jb_in))) ?_))
      refine ⟨0, 0, ⟨by omega, by omega⟩, tw_keep hT hV h7 ?_⟩
      simp (disch := (first | decide | omega)) only [jxs, hps, jtsw, jlsw, List.length_cons, List.length_nil, true_and, and_true, true_implies, false_implies, implies_true, not_true_eq_false, not_false_eq_true, false_and, and_false, if_true, if_false, or_true, true_or, or_false, false_or, Classical.not_not, and_self, Int.reduceAdd, Int.reduceMul, Int.reduceSub, Int.reduceNeg, Int.reduceLT, Int.reduceLE, Int.reduceEq, Int.reduceNe, Int.reduceToNat, Nat.reduceAdd, Nat.reduceMul, Nat.reduceSub, Nat.reduceLeDiff, Nat.reduceLT, Nat.reduceEqDiff, reduceIte, Nat.zero_le, Nat.le_refl, Nat.add_zero, Nat.zero_add, twT hT, twV hV]
      (repeat (refine And.intro (by (first | omega | assumption | trivial | (simp only [inI]; omega) | (simp only [inL]; omega) | (refine jb_01) | (exact jb_in))) ?_))
      refine ⟨fun h2 => ?_, fun h2 => ?_⟩
      · rw [if_pos h2] at hQ
        refine jW_step ?_
        simp (disch := (first | decide | omega)) only [bX2_wet, jxs, hps, jtsw, jlsw, List.length_cons, List.length_nil, true_and, and_true, true_implies, false_implies, implies_true, not_true_eq_false, not_false_eq_true, false_and, and_false, if_true, if_false, or_true, true_or, or_false, false_or, Classical.not_not, and_self, Int.reduceAdd, Int.reduceMul, Int.reduceSub, Int.reduceNeg, Int.reduceLT, Int.reduceLE, Int.reduceEq, Int.reduceNe, Int.reduceToNat, Nat.reduceAdd, Nat.reduceMul, Nat.reduceSub, Nat.reduceLeDiff, Nat.reduceLT, Nat.reduceEqDiff, reduceIte, Nat.zero_le, Nat.le_refl, Nat.add_zero, Nat.zero_add, twT hT, twV hV]
        (repeat (refine And.intro (by (first | omega | assumption | trivial | (simp only [inI]; omega) | (simp only [inL]; omega) | (refine jb_01) | (exact jb_in))) ?_))
        (try refine ⟨fun _ => ?_, fun h9 => (by exfalso; omega)⟩)
        refine jW_step ?_
        simp (disch := (first | decide | omega)) only [bX2_wet, jxs, hps, jtsw, jlsw, List.length_cons, List.length_nil, true_and, and_true, true_implies, false_implies, implies_true, not_true_eq_false, not_false_eq_true, false_and, and_false, if_true, if_false, or_true, true_or, or_false, false_or, Classical.not_not, and_self, Int.reduceAdd, Int.reduceMul, Int.reduceSub, Int.reduceNeg, Int.reduceLT, Int.reduceLE, Int.reduceEq, Int.reduceNe, Int.reduceToNat, Nat.reduceAdd, Nat.reduceMul, Nat.reduceSub, Nat.reduceLeDiff, Nat.reduceLT, Nat.reduceEqDiff, reduceIte, Nat.zero_le, Nat.le_refl, Nat.add_zero, Nat.zero_add, twT hT, twV hV]
        (repeat (refine And.intro (by (first | omega | assumption | trivial | (simp only [inI]; omega) | (simp only [inL]; omega) | (refine jb_01) | (exact jb_in))) ?_))
        exact hQ _ jka.rf.up.n
      · rw [if_neg h2] at hQ
        have j := (jka.rf (v := v)).up (A'' := up1 (keepA (v 540)) 2 1)
        refine jW_step ?_
        simp (disch := (first | decide | omega)) only [bX2_wet, jxs, hps, jtsw, jlsw, List.length_cons, List.length_nil, true_and, and_true, true_implies, false_implies, implies_true, not_true_eq_false, not_false_eq_true, false_and, and_false, if_true, if_false, or_true, true_or, or_false, false_or, Classical.not_not, and_self, Int.reduceAdd, Int.reduceMul, Int.reduceSub, Int.reduceNeg, Int.reduceLT, Int.reduceLE, Int.reduceEq, Int.reduceNe, Int.reduceToNat, Nat.reduceAdd, Nat.reduceMul, Nat.reduceSub, Nat.reduceLeDiff, Nat.reduceLT, Nat.reduceEqDiff, reduceIte, Nat.zero_le, Nat.le_refl, Nat.add_zero, Nat.zero_add, twT hT, twV hV]
        (repeat (refine And.intro (by (first | omega | assumption | trivial | (simp only [inI]; omega) | (simp only [inL]; omega) | (refine jb_01) | (exact jb_in))) ?_))
        (first | refine ⟨fun h9 => (by exfalso; omega), fun _ => ?_⟩ | intro _)
        refine ⟨0, 0, ⟨by omega, by omega⟩, tw_fall hT (by (first | assumption | (repeat (first | assumption | refine PV.A ?_ (by decide) | refine PV.F ?_ ?_ | refine twR.up ?_ (by decide) | refine PV.r ?_)))) ⟨j.te hE b1 e5, by rw [upA_eq]; exact w1⟩ ?_⟩
        rw [upA_eq, upA_ne (by omega)]
        intro w hw
        simp (disch := (first | decide | omega)) only [jxs, hps, jtsw, jlsw, List.length_cons, List.length_nil, true_and, and_true, true_implies, false_implies, implies_true, not_true_eq_false, not_false_eq_true, false_and, and_false, if_true, if_false, or_true, true_or, or_false, false_or, Classical.not_not, and_self, Int.reduceAdd, Int.reduceMul, Int.reduceSub, Int.reduceNeg, Int.reduceLT, Int.reduceLE, Int.reduceEq, Int.reduceNe, Int.reduceToNat, Nat.reduceAdd, Nat.reduceMul, Nat.reduceSub, Nat.reduceLeDiff, Nat.reduceLT, Nat.reduceEqDiff, reduceIte, Nat.zero_le, Nat.le_refl, Nat.add_zero, Nat.zero_add, twT hT, twV hV]
        refine jW_step ?_
        simp (disch := (first | decide | omega)) only [bX2_wet, jxs, hps, jtsw, jlsw, List.length_cons, List.length_nil, true_and, and_true, true_implies, false_implies, implies_true, not_true_eq_false, not_false_eq_true, false_and, and_false, if_true, if_false, or_true, true_or, or_false, false_or, Classical.not_not, and_self, Int.reduceAdd, Int.reduceMul, Int.reduceSub, Int.reduceNeg, Int.reduceLT, Int.reduceLE, Int.reduceEq, Int.reduceNe, Int.reduceToNat, Nat.reduceAdd, Nat.reduceMul, Nat.reduceSub, Nat.reduceLeDiff, Nat.reduceLT, Nat.reduceEqDiff, reduceIte, Nat.zero_le, Nat.le_refl, Nat.add_zero, Nat.zero_add, twT hT, twV hV]
        (repeat (refine And.intro (by (first | omega | assumption | trivial | (simp only [inI]; omega) | (simp only [inL]; omega) | (refine jb_01) | (exact jb_in))) ?_))
        exact hQ w (j.tr hw).n
    · rw [if_pos h] at hQ
      (repeat (refine And.intro (by (first | omega | assumption | trivial | (simp only [inI]; omega) | (simp only [inL]; omega) | (refine jb_01) | (exact jb_in))) ?_))
      exact hQ v jkn.rf
  refine jW_step ?_
  simp (disch := (first | decide | omega)) only [bX2_wet, jxs, hps, jtsw, jlsw, List.length_cons, List.length_nil, true_and, and_true, true_implies, false_implies, implies_true, not_true_eq_false, not_false_eq_true, false_and, and_false, if_true, if_false, or_true, true_or, or_false, false_or, Classical.not_not, and_self, Int.reduceAdd, Int.reduceMul, Int.reduceSub, Int.reduceNeg, Int.reduceLT, Int.reduceLE, Int.reduceEq, Int.reduceNe, Int.reduceToNat, Nat.reduceAdd, Nat.reduceMul, Nat.reduceSub, Nat.reduceLeDiff, Nat.reduceLT, Nat.reduceEqDiff, reduceIte, Nat.zero_le, Nat.le_refl, Nat.add_zero, Nat.zero_add, twT hT, twV hV]
  (repeat (refine And.intro (by (first | omega | assumption | trivial | (simp only [inI]; omega) | (simp only [inL]; omega) | (refine jb_01) | (exact jb_in))) ?_))
  refine ⟨fun h => ?_, fun h => ?_⟩
  · subst h; exact k1
  · have e : is = 1 := by omega
    subst e; exact k1
end TG
