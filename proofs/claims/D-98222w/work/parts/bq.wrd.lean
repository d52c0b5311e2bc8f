/-! ===== the reference: words asked of ===== -/
set_option maxRecDepth 100000
section TG
variable {g : jjG} {d : Nat} {v : Int → Int → Int} {T : jjT} {Q : jjQ} {B : Int → Int} {n k : Nat}
theorem tw_nextToken (hT : PT T) (hV : PV v) (hR : R2N v B n k) (hQ : ∀ w, RJ v w → R2 w B n k → Q (.inl none) (w, T)) : jmet g (d + 5) 0 0 MX2_nextToken [vR 539] (v, T) Q := by
  refine jmet_of (ls := [some (vR 539), none, none]) sX2_nextToken rfl (by decide +kernel) (by decide) rfl (by simp [jent]) ?_
  exact tw_nt_0 (n - k) k v rfl hT hV hR hQ
theorem R2.word (h : R2 v B n k) {w : Nat} (hw : w < 29) : (v 539 9 = 2 ∧ v 539 11 = pk (WD w)) ↔ stT B n k = 200 + (w : Int) := by
  obtain ⟨h1, h2, h3, h4, h5, h6⟩ := h
  constructor
  · intro q
    exact (h5 q.1 w hw).1 q.2
  · intro q
    have := h3.2.2.1 (by omega)
    exact ⟨this, (h5 this w hw).2 q⟩
theorem tw_isWord {w : Nat} {x : Int} (hT : PT T) (hV : PV v) (hS : R2 v B n k ∧ w < 29 ∧ x = pk (WD w)) (hQ : Q (.inl (some (vI (jb (stT B n k = 200 + (w : Int)))))) (v, T)) : jmet g (d + 1) 0 0 MX2_isWord [vR 539, vL x] (v, T) Q := by
  obtain ⟨hR, hw, hx⟩ := hS
  have e := hR.word hw
  subst hx
  generalize pk (WD w) = x at *
  have k1 : ¬ (v 539 9 = 2 ∧ v 539 11 = x) → jW bX2_isWord (g, d, 0, 0, Q) 1 [some (vR 539), some (vL x), none] [] (v, T) 0 0 := by
    intro q
    rw [jb_f (fun q2 => q (e.2 q2))] at hQ
    refine jW_step ?_
    simp (disch := (first | decide | omega)) only [bX2_isWord, jxs, hps, jtsw, jlsw, List.length_cons, List.length_nil, true_and, and_true, true_implies, false_implies, implies_true, not_true_eq_false, not_false_eq_true, false_and, and_false, if_true, if_false, or_true, true_or, or_false, false_or, Classical.not_not, and_self, Int.reduceAdd, Int.reduceMul, Int.reduceSub, Int.reduceNeg, Int.reduceLT, Int.reduceLE, Int.reduceEq, Int.reduceNe, Int.reduceToNat, Nat.reduceAdd, Nat.reduceMul, Nat.reduceSub, Nat.reduceLeDiff, Nat.reduceLT, Nat.reduceEqDiff, reduceIte, Nat.zero_le, Nat.le_refl, Nat.add_zero, Nat.zero_add, twT hT, twV hV]
    refine jW_step ?_
    simp (disch := (first | decide | omega)) only [bX2_isWord, jxs, hps, jtsw, jlsw, List.length_cons, List.length_nil, true_and, and_true, true_implies, false_implies, implies_true, not_true_eq_false, not_false_eq_true, false_and, and_false, if_true, if_false, or_true, true_or, or_false, false_or, Classical.not_not, and_self, Int.reduceAdd, Int.reduceMul, Int.reduceSub, Int.reduceNeg, Int.reduceLT, Int.reduceLE, Int.reduceEq, Int.reduceNe, Int.reduceToNat, Nat.reduceAdd, Nat.reduceMul, Nat.reduceSub, Nat.reduceLeDiff, Nat.reduceLT, Nat.reduceEqDiff, reduceIte, Nat.zero_le, Nat.le_refl, Nat.add_zero, Nat.zero_add, twT hT, twV hV]
    (repeat (refine And.intro (by (first | omega | assumption | trivial | (simp only [inI]; omega) | (simp only [inL]; omega) | (refine jb_01) | (exact jb_in))) ?_))
    exact hQ
  refine jmet_of (ls := [some (vR 539), some (vL x), none]) sX2_isWord rfl (by decide +kernel) (by decide) rfl (by simp [jent]) ?_
  refine jW_step ?_
  simp (disch := (first | decide | omega)) only [bX2_isWord, jxs, hps, jtsw, jlsw, List.length_cons, List.length_nil, true_and, and_true, true_implies, false_implies, implies_true, not_true_eq_false, not_false_eq_true, false_and, and_false, if_true, if_false, or_true, true_or, or_false, false_or, Classical.not_not, and_self, Int.reduceAdd, Int.reduceMul, Int.reduceSub, Int.reduceNeg, Int.reduceLT, Int.reduceLE, Int.reduceEq, Int.reduceNe, Int.reduceToNat, Nat.reduceAdd, Nat.reduceMul, Nat.reduceSub, Nat.reduceLeDiff, Nat.reduceLT, Nat.reduceEqDiff, reduceIte, Nat.zero_le, Nat.le_refl, Nat.add_zero, Nat.zero_add, twT hT, twV hV]
  refine ⟨fun h => ?_, fun h => ?_⟩
  · exact k1 (fun q => h q.1)
  · refine ⟨fun h2 => ?_, fun h2 => ?_⟩
    · exact k1 (fun q => h2 (jcmp_0.2 q.2))
    · have q : v 539 9 = 2 ∧ v 539 11 = x := ⟨by omega, jcmp_0.1 (by omega)⟩
      rw [jb_t (e.1 q)] at hQ
      refine jW_step ?_
      simp (disch := (first | decide | omega)) only [bX2_isWord, jxs, hps, jtsw, jlsw, List.length_cons, List.length_nil, true_and, and_true, true_implies, false_implies, implies_true, not_true_eq_false, not_false_eq_true, false_and, and_false, if_true, if_false, or_true, true_or, or_false, false_or, Classical.not_not, and_self, Int.reduceAdd, Int.reduceMul, Int.reduceSub, Int.reduceNeg, Int.reduceLT, Int.reduceLE, Int.reduceEq, Int.reduceNe, Int.reduceToNat, Nat.reduceAdd, Nat.reduceMul, Nat.reduceSub, Nat.reduceLeDiff, Nat.reduceLT, Nat.reduceEqDiff, reduceIte, Nat.zero_le, Nat.le_refl, Nat.add_zero, Nat.zero_add, twT hT, twV hV]
      (repeat (refine And.intro (by (first | omega | assumption | trivial | (simp only [inI]; omega) | (simp only [inL]; omega) | (refine jb_01) | (exact jb_in))) ?_))
      exact hQ
end TG
